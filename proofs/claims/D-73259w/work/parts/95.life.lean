/-! THE RUN: what one life is in both memories; what changes it -/
set_option maxRecDepth 100000
/-- the component's life against the model's rows at one task (k the tick, jobs at most kj, good kicks at most kg, faults at most r) -/
def LR (ex : Prop) (nd k kj kg r b : Nat) (c m : Nat → Int32) (h v : UInt32) (s : UInt64) (h' v' : UInt32) (s' : UInt64) : Prop :=
  (c 0 = 0 ∧ m 15 = -1 ∨ c 0 = 1 ∧ ∃ j n, n < nd ∧ j ≤ kj ∧ c 2 = nI j ∧ m 15 = nI j ∧ c 3 = nI n ∧ m 17 = nI n ∧ c 4 = m 18) ∧
  (c 1 = 0 ∧ m 21 = 1 ∨ c 1 = 1 ∧ m 21 = 0) ∧
  (∃ x, x ≤ 260 ∧ c 5 = nI x ∧ m 14 = nI x) ∧
  (∃ x, x ≤ 260 ∧ c 6 = nI x - 1 ∧ m 20 = nI x - 1) ∧
  (∃ x, x ≤ k + 1 ∧ c 7 = nI x - 1 ∧ (x = k + 1 → ex ∨ nI k < c 5 ∨ c 6 = nI k)) ∧
  c 8 = m 19 ∧
  (∃ x, x ≤ kj ∧ c 9 = nI x ∧ m 16 = nI x) ∧
  (∃ x, x ≤ r ∧ c 10 = nI x ∧ m 23 = nI x) ∧
  (∃ x, x ≤ 2 ∧ c 11 = nI x ∧ m 25 = nI x) ∧
  (∃ x, x ≤ kg ∧ c 12 = nI x ∧ m 27 = nI x) ∧
  c 13 = m 28 ∧
  (b < 3 → c 14 = m 22 ∧ c 16 = m 26 ∧ (c 16 = 0 ∨ c 16 = 1)) ∧
  (∃ x, x ≤ kg ∧ c 15 = nI x ∧ m 31 = nI x ∧ (x ≠ 0 → v = v')) ∧
  (h = h' ∧ hOk h) ∧ s = s' ∧ dNn s
/-- a life in two memories -/
def Lf (q : TdP) (u k kj kg r b : Nat) (e1 e2 : Dt) (t : Nat) : Prop := LR (t = u) (q.nd t) k kj kg r b (e1.1 (30 + t)) (fun p => e2.1 p t) (e1.2.1 (30 + t) 17) (e1.2.1 (30 + t) 18) (e1.2.2 (30 + t) 19) (e2.2.1 24 t) (e2.2.1 29 t) (e2.2.2 30 t)
section
variable {q : TdP} {u k kj kg r b t : Nat} {e1 e2 f1 f2 : Dt}
theorem Lf.same (h : Lf q u k kj kg r b e1 e2 t) (a1 : f1.1 (30 + t) = e1.1 (30 + t)) (a2 : f1.2.1 (30 + t) = e1.2.1 (30 + t)) (a3 : f1.2.2 (30 + t) = e1.2.2 (30 + t)) (b1 : ∀ p, 14 ≤ p → p < 32 → f2.1 p t = e2.1 p t) (b2 : f2.2.1 24 t = e2.2.1 24 t) (b3 : f2.2.1 29 t = e2.2.1 29 t) (b4 : f2.2.2 30 t = e2.2.2 30 t) : Lf q u k kj kg r b f1 f2 t := by
  dsimp only [Lf, LR] at h ⊢
  simp (disch := omega) only [a1, a2, a3, b1, b2, b3, b4]
  exact h
theorem Lf.mono (h : Lf q u k kj kg r b e1 e2 t) {kj' kg' r' : Nat} (h1 : kj ≤ kj') (h2 : kg ≤ kg') (h3 : r ≤ r') : Lf q u k kj' kg' r' b e1 e2 t := by
  obtain ⟨a1, a2, a3, a4, a5, a6, ⟨x7, y7, a7⟩, ⟨x8, y8, a8⟩, a9, ⟨x10, y10, a10⟩, a11, a12, ⟨x13, y13, a13⟩, a14⟩ := h
  refine ⟨?_, a2, a3, a4, a5, a6, ⟨x7, by omega, a7⟩, ⟨x8, by omega, a8⟩, a9, ⟨x10, by omega, a10⟩, a11, a12, ⟨x13, by omega, a13⟩, a14⟩
  rcases a1 with a1 | ⟨z, j, n, i1, i2, i3⟩
  · exact Or.inl a1
  · exact Or.inr ⟨z, j, n, i1, by omega, i3⟩
/-- the next tick -/
theorem Lf.tick (h : Lf q u k kj kg r b e1 e2 t) : Lf q u (k + 1) kj kg r b e1 e2 t := by
  obtain ⟨a1, a2, a3, a4, ⟨x, y, a5, -⟩, a6⟩ := h
  exact ⟨a1, a2, a3, a4, ⟨x, by omega, a5, fun z => by omega⟩, a6⟩
theorem Lf.bd (h : Lf q u k kj kg r b e1 e2 t) {b' : Nat} (hb : b ≤ b') : Lf q u k kj kg r b' e1 e2 t := by
  obtain ⟨a1, a2, a3, a4, a5, a6, a7, a8, a9, a10, a11, a12, a13⟩ := h
  exact ⟨a1, a2, a3, a4, a5, a6, a7, a8, a9, a10, a11, fun z => a12 (by omega), a13⟩
/-- a job starts -/
theorem Lf.starts (h : Lf q u k kj kg r b e1 e2 t) (hnd : 0 < q.nd t) (a2 : f1.2.1 (30 + t) = e1.2.1 (30 + t)) (a3 : f1.2.2 (30 + t) = e1.2.2 (30 + t)) (b2 : f2.2 = e2.2)
    (c0 : f1.1 (30 + t) 0 = 1) (c2 : f1.1 (30 + t) 2 = e1.1 (30 + t) 9) (c9 : f1.1 (30 + t) 9 = e1.1 (30 + t) 9 + 1) (c3 : f1.1 (30 + t) 3 = 0) (c4 : f1.1 (30 + t) 4 = 0) (cc : ∀ f, f ≠ 0 → f ≠ 2 → f ≠ 9 → f ≠ 3 → f ≠ 4 → f1.1 (30 + t) f = e1.1 (30 + t) f)
    (m15 : f2.1 15 t = e2.1 16 t) (m16 : f2.1 16 t = e2.1 16 t + 1) (m17 : f2.1 17 t = 0) (m18 : f2.1 18 t = 0) (mm : ∀ p, p < 15 ∨ 18 < p → p < 32 → f2.1 p t = e2.1 p t) : Lf q u k (kj + 1) kg r b f1 f2 t := by
  dsimp only [Lf, LR] at h ⊢
  obtain ⟨g1, g2, g3, g4, g5, g6, ⟨x7, y7, g7, g7'⟩, g8, g9, g10, g11, g12, g13⟩ := h
  simp (disch := omega) only [cc, mm, a2, a3, b2]
  exact ⟨Or.inr ⟨c0, x7, 0, hnd, by omega, c2.trans g7, m15.trans g7', c3, m17, c4.trans m18.symm⟩, g2, g3, g4, g5, g6, ⟨x7 + 1, by omega, by rw [c9, g7, nI_1], by rw [m16, g7', nI_1]⟩, g8, g9, g10, g11, g12, g13⟩
/-- a restart -/
theorem Lf.rst {u' : Nat} (h : Lf q u k kj kg r b e1 e2 t) (a2 : f1.2.1 (30 + t) = e1.2.1 (30 + t)) (a3 : f1.2.2 (30 + t) = e1.2.2 (30 + t)) (b2 : f2.2 = e2.2) {x : Nat} (hx : x ≤ 260) (hk : k < x)
    (c0 : f1.1 (30 + t) 0 = 0) (c1 : f1.1 (30 + t) 1 = 1) (c5 : f1.1 (30 + t) 5 = nI x) (c6 : f1.1 (30 + t) 6 = nI x - 1) (c8 : f1.1 (30 + t) 8 = 1) (cc : ∀ f, f ≠ 0 → f ≠ 1 → f ≠ 5 → f ≠ 6 → f ≠ 8 → f1.1 (30 + t) f = e1.1 (30 + t) f)
    (m15 : f2.1 15 t = -1) (m14 : f2.1 14 t = nI x) (m19 : f2.1 19 t = 1) (m20 : f2.1 20 t = nI x - 1) (m21 : f2.1 21 t = 0) (mm : ∀ p, p ≠ 14 → p ≠ 15 → p ≠ 19 → p ≠ 20 → p ≠ 21 → p < 32 → f2.1 p t = e2.1 p t) : Lf q u' k kj kg r b f1 f2 t := by
  dsimp only [Lf, LR] at h ⊢
  obtain ⟨g1, g2, g3, g4, ⟨x5, y5, g5, -⟩, g6, g7, g8, g9, g10, g11, g12, g13⟩ := h
  simp (disch := omega) only [cc, mm, a2, a3, b2]
  exact ⟨Or.inl ⟨c0, m15⟩, Or.inr ⟨c1, m21⟩, ⟨x, hx, c5, m14⟩, ⟨x, hx, c6, m20⟩, ⟨x5, y5, g5, fun _ => Or.inr (Or.inl (by rw [c5]; exact nI_lt (by omega) (by omega)))⟩, c8.trans m19.symm, g7, g8, g9, g10, g11, g12, g13⟩
/-- a fault is counted -/
theorem Lf.fault (h : Lf q u k kj kg r b e1 e2 t) (a3 : f1.2.2 (30 + t) = e1.2.2 (30 + t)) (b3 : f2.2.1 29 t = e2.2.1 29 t) (b4 : f2.2.2 = e2.2.2) (a18 : f1.2.1 (30 + t) 18 = e1.2.1 (30 + t) 18)
    (a17 : f1.2.1 (30 + t) 17 = FP.fmul (e1.2.1 (30 + t) 17) 1056964608) (b24 : f2.2.1 24 t = FP.fmul (e1.2.1 (30 + t) 17) 1056964608)
    (c10 : f1.1 (30 + t) 10 = e1.1 (30 + t) 10 + 1) (c11 : f1.1 (30 + t) 11 = 0) (c16 : f1.1 (30 + t) 16 = 1) (cc : ∀ f, f ≠ 10 → f ≠ 11 → f ≠ 16 → f1.1 (30 + t) f = e1.1 (30 + t) f)
    (m23 : f2.1 23 t = e2.1 23 t + 1) (m25 : f2.1 25 t = 0) (m26 : f2.1 26 t = 1) (mm : ∀ p, p ≠ 23 → p ≠ 25 → p ≠ 26 → p < 32 → f2.1 p t = e2.1 p t) : Lf q u k kj kg (r + 1) b f1 f2 t := by
  dsimp only [Lf, LR] at h ⊢
  obtain ⟨g1, g2, g3, g4, g5, g6, g7, ⟨x8, y8, g8, g8'⟩, g9, g10, g11, g12, ⟨x13, y13, g13⟩, ⟨g14, g15⟩, g16, g17⟩ := h
  simp (disch := omega) only [cc, mm, a3, b3, b4, a18, a17, b24, c10, c11, c16, m23, m25, m26]
  exact ⟨g1, g2, g3, g4, g5, g6, g7, ⟨x8 + 1, by omega, by rw [g8, nI_1], by rw [g8', nI_1]⟩, ⟨0, by omega, rfl, rfl⟩, g10, g11, fun z => ⟨(g12 z).1, trivial, Or.inr trivial⟩, ⟨x13, y13, g13⟩, ⟨trivial, (h_half g15).2⟩, g16, g17⟩
/-- a cycle is over -/
theorem Lf.ends (h : Lf q u k kj kg r b e1 e2 t) (a2 : f1.2.1 (30 + t) = e1.2.1 (30 + t)) (a3 : f1.2.2 (30 + t) = e1.2.2 (30 + t)) (b2 : f2.2 = e2.2)
    (hc : b < 3 → f1.1 (30 + t) 14 = 0 ∧ f1.1 (30 + t) 16 = 0 ∧ f2.1 22 t = 0 ∧ f2.1 26 t = 0) (cc : ∀ f, f ≠ 14 → f ≠ 16 → f1.1 (30 + t) f = e1.1 (30 + t) f) (mm : ∀ p, p ≠ 22 → p ≠ 26 → p < 32 → f2.1 p t = e2.1 p t) : Lf q u k kj kg r b f1 f2 t := by
  dsimp only [Lf, LR] at h ⊢
  obtain ⟨g1, g2, g3, g4, g5, g6, g7, g8, g9, g10, g11, g12, g13⟩ := h
  simp (disch := omega) only [cc, mm, a2, a3, b2]
  exact ⟨g1, g2, g3, g4, g5, g6, g7, g8, g9, g10, g11, fun z => ⟨(hc z).1.trans (hc z).2.2.1.symm, (hc z).2.1.trans (hc z).2.2.2.symm, Or.inl (hc z).2.1⟩, g13⟩
/-- one goes well -/
theorem Lf.well (h : Lf q u k kj kg r b e1 e2 t) (a2 : f1.2.1 (30 + t) = e1.2.1 (30 + t)) (a3 : f1.2.2 (30 + t) = e1.2.2 (30 + t)) (b2 : f2.2 = e2.2) {x y : Nat} (hx : x ≤ r) (hy : y ≤ 2)
    (c10 : f1.1 (30 + t) 10 = nI x) (c11 : f1.1 (30 + t) 11 = nI y) (cc : ∀ f, f ≠ 10 → f ≠ 11 → f1.1 (30 + t) f = e1.1 (30 + t) f) (m23 : f2.1 23 t = nI x) (m25 : f2.1 25 t = nI y) (mm : ∀ p, p ≠ 23 → p ≠ 25 → p < 32 → f2.1 p t = e2.1 p t) : Lf q u k kj kg r b f1 f2 t := by
  dsimp only [Lf, LR] at h ⊢
  obtain ⟨g1, g2, g3, g4, g5, g6, g7, g8, g9, g10, g11, g12, g13⟩ := h
  simp (disch := omega) only [cc, mm, a2, a3, b2]
  exact ⟨g1, g2, g3, g4, g5, g6, g7, ⟨x, hx, c10, m23⟩, ⟨y, hy, c11, m25⟩, g10, g11, g12, g13⟩
/-- a node's work goes on; a job goes -/
theorem Lf.goes (h : Lf q u k kj kg r b e1 e2 t) (a2 : f1.2.1 (30 + t) = e1.2.1 (30 + t)) (a3 : f1.2.2 (30 + t) = e1.2.2 (30 + t)) (b2 : f2.2 = e2.2)
    (hw : (f1.1 (30 + t) 0 = 0 ∧ f2.1 15 t = -1) ∨ (f1.1 (30 + t) 0 = e1.1 (30 + t) 0 ∧ f1.1 (30 + t) 2 = e1.1 (30 + t) 2 ∧ f2.1 15 t = e2.1 15 t ∧ (∃ n, n < q.nd t ∧ f1.1 (30 + t) 3 = nI n ∧ f2.1 17 t = nI n) ∧ f1.1 (30 + t) 4 = f2.1 18 t))
    (cc : ∀ f, f ≠ 0 → f ≠ 2 → f ≠ 3 → f ≠ 4 → f ≠ 7 → f1.1 (30 + t) f = e1.1 (30 + t) f) (c7 : f1.1 (30 + t) 7 = e1.1 (30 + t) 7) (mm : ∀ p, p ≠ 15 → p ≠ 17 → p ≠ 18 → p < 32 → f2.1 p t = e2.1 p t) : Lf q u k kj kg r b f1 f2 t := by
  dsimp only [Lf, LR] at h ⊢
  obtain ⟨g1, g2, g3, g4, g5, g6, g7, g8, g9, g10, g11, g12, g13⟩ := h
  simp (disch := omega) only [cc, mm, a2, a3, b2, c7]
  refine ⟨?_, g2, g3, g4, g5, g6, g7, g8, g9, g10, g11, g12, g13⟩
  rcases hw with hw | ⟨w1, w2, w3, ⟨n, n1, n2, n3⟩, w4⟩
  · exact Or.inl hw
  · rcases g1 with g1 | ⟨g1, j, n', i1, i2, i3, i4, -⟩
    · exact Or.inl ⟨w1.trans g1.1, w3.trans g1.2⟩
    · exact Or.inr ⟨w1.trans g1, j, n, n1, i2, w2.trans i3, w3.trans i4, n2, n3, w4⟩
theorem Lf.ex (h : Lf q u k kj kg r b e1 e2 t) {u' : Nat} (hu : t ≠ u) : Lf q u' k kj kg r b e1 e2 t := by
  obtain ⟨g1, g2, g3, g4, ⟨x, y, g5, g5'⟩, g6⟩ := h
  exact ⟨g1, g2, g3, g4, ⟨x, y, g5, fun z => Or.inr ((g5' z).resolve_left hu)⟩, g6⟩
/-- a kick of whatever worth -/
theorem Lf.kick (h : Lf q u k kj kg r b e1 e2 t) (a2 : f1.2.1 (30 + t) = e1.2.1 (30 + t)) (a3 : f1.2.2 (30 + t) = e1.2.2 (30 + t)) (b2 : f2 = e2) (c7 : f1.1 (30 + t) 7 = nI k) (cc : ∀ f, f ≠ 7 → f1.1 (30 + t) f = e1.1 (30 + t) f) : Lf q t k kj kg r b f1 f2 t := by
  subst b2
  dsimp only [Lf, LR] at h ⊢
  obtain ⟨g1, g2, g3, g4, -, g6, g7, g8, g9, g10, g11, g12, g13⟩ := h
  simp (disch := omega) only [cc, a2, a3]
  exact ⟨g1, g2, g3, g4, ⟨k + 1, by omega, by rw [c7, ← nI_1]; grind, fun _ => Or.inl trivial⟩, g6, g7, g8, g9, g10, g11, g12, g13⟩
/-- a kick in time -/
theorem Lf.good {u' : Nat} (h : Lf q u k kj kg r b e1 e2 t) (hk : k ≤ 200)
    (hm : (f1.2.1 (30 + t) 18 = e1.2.1 (30 + t) 18 ∧ f1.2.2 (30 + t) 19 = e1.2.2 (30 + t) 19 ∧ f1.1 (30 + t) 15 = e1.1 (30 + t) 15 ∧ f2.2.1 29 t = e2.2.1 29 t ∧ f2.2.2 30 t = e2.2.2 30 t ∧ f2.1 31 t = e2.1 31 t) ∨
      (f1.2.1 (30 + t) 18 = f2.2.1 29 t ∧ f1.2.2 (30 + t) 19 = f2.2.2 30 t ∧ dNn (f2.2.2 30 t) ∧ f1.1 (30 + t) 15 = e1.1 (30 + t) 15 + 1 ∧ f2.1 31 t = e2.1 31 t + 1))
    (a17 : f1.2.1 (30 + t) 17 = FP.fadd (e1.2.1 (30 + t) 17) (FP.fmul (FP.fsub FP.fconst1 (e1.2.1 (30 + t) 17)) 1048576000)) (b24 : f2.2.1 24 t = f1.2.1 (30 + t) 17)
    (c1 : f1.1 (30 + t) 1 = 0) (c6 : f1.1 (30 + t) 6 = nI k) (c7 : f1.1 (30 + t) 7 = nI k) (c8 : f1.1 (30 + t) 8 = f2.1 19 t) (c12 : f1.1 (30 + t) 12 = e1.1 (30 + t) 12 + 1) (c13 : f1.1 (30 + t) 13 = nI k) (c14 : f1.1 (30 + t) 14 = e1.1 (30 + t) 14 + 1)
    (cc : ∀ f, f ≠ 1 → f ≠ 6 → f ≠ 7 → f ≠ 8 → f ≠ 12 → f ≠ 13 → f ≠ 14 → f ≠ 15 → f1.1 (30 + t) f = e1.1 (30 + t) f)
    (m20 : f2.1 20 t = nI k) (m21 : f2.1 21 t = 1) (m22 : f2.1 22 t = e2.1 22 t + 1) (m27 : f2.1 27 t = e2.1 27 t + 1) (m28 : f2.1 28 t = nI k) (mm : ∀ p, p ≠ 19 → p ≠ 20 → p ≠ 21 → p ≠ 22 → p ≠ 27 → p ≠ 28 → p ≠ 31 → p < 32 → f2.1 p t = e2.1 p t) : Lf q u' k kj (kg + 1) r b f1 f2 t := by
  dsimp only [Lf, LR] at h ⊢
  obtain ⟨g1, g2, g3, g4, -, g6, g7, g8, g9, ⟨x10, y10, g10, g10'⟩, g11, g12, ⟨x13, y13, g13, g13', g13''⟩, ⟨g14, g15⟩, g16, g17⟩ := h
  simp (disch := omega) only [cc, mm]
  have hl : nI (k + 1) - 1 = nI k := by rw [← nI_1]; grind
  refine ⟨g1, Or.inl ⟨c1, m21⟩, g3, ⟨k + 1, by omega, by rw [c6, hl], by rw [m20, hl]⟩, ⟨k + 1, by omega, by rw [c7, hl], fun _ => Or.inr (Or.inr c6)⟩, c8, g7, g8, g9, ⟨x10 + 1, by omega, by rw [c12, g10, nI_1], by rw [m27, g10', nI_1]⟩, c13.trans m28.symm, fun z => ⟨by rw [c14, m22, (g12 z).1], (g12 z).2.1, (g12 z).2.2⟩, ?_, ⟨b24.symm, by rw [a17]; exact (h_good g15).2.2.2⟩, ?_⟩
  · rcases hm with ⟨n1, n2, n3, n4, n5, n6⟩ | ⟨n1, n2, n3, n4, n5⟩
    · exact ⟨x13, by omega, n3.trans g13, n6.trans g13', fun z => by rw [n1, n4]; exact g13'' z⟩
    · exact ⟨x13 + 1, by omega, by rw [n4, g13, nI_1], by rw [n5, g13', nI_1], fun _ => n1⟩
  · rcases hm with ⟨n1, n2, n3, n4, n5, n6⟩ | ⟨n1, n2, n3, n4, n5⟩
    · rw [n2, n5]
      exact ⟨g16, g17⟩
    · rw [n2]
      exact ⟨rfl, n3⟩
end
