/-! THE RUN: one watcher looks -/
set_option maxRecDepth 100000
section
variable {w : Nat → Int32} {q : TdP} {u k kh kg r b t z : Nat} {kj : Nat → Nat} {S0 S S' : Sp} {d0 m0 d e f e1 e2 f1 f2 g1 g2 : Dt} {op cl : Nat → Nat} {W : Int32} {F0 : Int32 × (Nat → Int32)} {P V P' V' : Nat → Prop} {p1 p2 p3 : Int32}
theorem CE.lm (h : CE S d w q) (ht : t < q.nt) : ∃ le mo, w (11 + 7 * t + 4) = nI le ∧ w (11 + 7 * t + 5) = nI mo ∧ d.1 (q.tk t) 4 = nI le ∧ d.1 (q.tk t) 5 = nI mo := by
  obtain ⟨-, ⟨a, p, o, c, le, mo, h1, h2, h3, h4, h5, h6, h7, h8, h9, h10, h11, h12, h13⟩, -⟩ := h.wf.2.2.2.2.2.1 t ht
  exact ⟨le, mo, h11, h13.1, ((h.task ht).2.1 4 (by omega)).trans h11, ((h.task ht).2.1 5 (by omega)).trans h13.1⟩
theorem look1 (h : RT S0 d0 m0 w q W F0 99 k kh kj kg r b S e1 e2) (h0 : RE S0 d0 m0 w q op cl) (hk : k < 200) (hb : b < 3) (hr : r < 3000) {i v : Nat} (hi : i < q.nt) (hv : v < q.nw) (hfl : e2.1 0 58 = 0) {X : Int32} : ∃ o p, (∀ F, Ws_looks_2_h17 0 (nI v) (F + 1) X (nI i) S e1 = bindE o (fun v9 S9 d9 => some (.inr v9, S9, d9)) (fun _ S17 d18 => Ws_looks_2_h17 0 (nI v) F X (nI (i + 1)) S17 d18)) ∧ (∀ G, Mo_looks_h21 0 (nI v) (nI k) MoS (G + 1) X (nI i) e2 = bind2 p (fun _ f => Mo_looks_h21 0 (nI v) (nI k) MoS G X (nI (i + 1)) f)) ∧ OutB S0 d0 m0 w q W F0 99 k kh kj kg (r + 1) b S e1 e2 o p := by
  have hR := h.re h0
  have hC := hR.C
  have h5 := hC.nt5
  have h3 := hC.nw3
  have hi5 : i < 5 := by omega
  have hlf := h.2.2.2.1 i hi
  obtain ⟨-, -, ⟨x5, y5, l5, l5'⟩, -, -, -, -, -, -, -, -, l12, -⟩ := hlf
  have l5m : e2.1 14 i = nI x5 := l5'
  have l14 : e1.1 (30 + i) 14 = e2.1 22 i := (l12 hb).1
  obtain ⟨a, a1, a2, a3⟩ := hC.wat hi
  obtain ⟨le, mo, lm1, lm2, lm3, lm4⟩ := hC.lm hi
  have hno : OutB S0 d0 m0 w q W F0 99 k kh kj kg (r + 1) b S e1 e2 (some (.inl (), S, e1)) (some ((), e2)) := ⟨r, by omega, e1, e2, rfl, rfl, rfl, Or.inl ⟨rfl, h, rfl⟩⟩
  have hM : ∀ G, Mo_looks_h21 0 (nI v) (nI k) MoS (G + 1) X (nI i) e2 = if ¬ nI a = nI v then Mo_looks_h21 0 (nI v) (nI k) MoS G X (nI (i + 1)) e2 else if X < nI x5 then Mo_looks_h21 0 (nI v) (nI k) MoS G X (nI (i + 1)) e2 else if ¬ inI (e2.1 22 i) (nI le) (nI mo) = 0 then Mo_looks_h21 0 (nI v) (nI k) MoS G X (nI (i + 1)) e2 else bind2 (Mo_faultOf 0 (nI i) 5 (nI k) MoS e2) (fun _ f => Mo_looks_h21 0 (nI v) (nI k) MoS G X (nI (i + 1)) f) := by
    intro G
    rw [Mo_looks_h21, Mo_K, Option.bind_some, hR.m4.1, Option.bind_some, hR.m4.2, if_neg (nI_ge hi (by omega)), hfl, if_neg (fun y => y rfl), show Mo_toldOf 0 (nI i) 0 MoS e2 = _ from hR.told hi (f := 0) (by omega), Option.bind_some, show w (11 + 7 * i + 0) = nI a from a2, MoS_R0_28, ma14 hi5, Option.bind_some, l5m, MoS_R0_36, ma22 hi5, Option.bind_some, show Mo_toldOf 0 (nI i) 4 MoS e2 = _ from hR.told hi (f := 4) (by omega), Option.bind_some, show Mo_toldOf 0 (nI i) 5 MoS e2 = _ from hR.told hi (f := 5) (by omega), Option.bind_some, lm1, lm2, Mo_in_eq, Option.bind_some, nI_1]
  have hCm : ∀ F, Ws_looks_2_h17 0 (nI v) (F + 1) X (nI i) S e1 = if ¬ nI a = nI v then Ws_looks_2_h17 0 (nI v) F X (nI (i + 1)) S e1 else if X < nI x5 then Ws_looks_2_h17 0 (nI v) F X (nI (i + 1)) S e1 else if ¬ inI (e2.1 22 i) (nI le) (nI mo) = 0 then Ws_looks_2_h17 0 (nI v) F X (nI (i + 1)) S e1 else bindE (Ws_faults 0 5 (nI i) S e1) (fun v9 S9 d9 => some (.inr v9, S9, d9)) (fun _ S17 d18 => Ws_looks_2_h17 0 (nI v) F X (nI (i + 1)) S17 d18) := by
    intro F
    rw [Ws_looks_2_h17, hC.K, Option.bind_some, hC.tasks, Option.bind_some, if_neg (nI_ge hi (by omega)), cr12 hC.F, ca16 hC.F hi5, Option.bind_some, Option.bind_some, cl_r hC.F hi5, hC.taskOf hi, Option.bind_some, hC.tK hi, Option.bind_some, a3, cl_K hC.F hi5, Option.bind_some, l5, Option.bind_some, hC.tK hi, Option.bind_some, Option.bind_some, hC.tK hi, Option.bind_some, lm3, lm4, l14, Ws_in_eq, Option.bind_some, nI_1]
  by_cases c1 : nI a = nI v
  rotate_left
  · exact ⟨some (.inl (), S, e1), some ((), e2), fun F => by rw [hCm, if_pos c1, bindE_l], fun G => by rw [hM, if_pos c1, bind2_some], hno⟩
  by_cases c2 : X < nI x5
  · exact ⟨some (.inl (), S, e1), some ((), e2), fun F => by rw [hCm, if_neg (fun y => y c1), if_pos c2, bindE_l], fun G => by rw [hM, if_neg (fun y => y c1), if_pos c2, bind2_some], hno⟩
  by_cases c3 : inI (e2.1 22 i) (nI le) (nI mo) = 0
  rotate_left
  · exact ⟨some (.inl (), S, e1), some ((), e2), fun F => by rw [hCm, if_neg (fun y => y c1), if_neg c2, if_pos c3, bindE_l], fun G => by rw [hM, if_neg (fun y => y c1), if_neg c2, if_pos c3, bind2_some], hno⟩
  exact ⟨Ws_faults 0 5 (nI i) S e1, Mo_faultOf 0 (nI i) 5 (nI k) MoS e2, fun F => by rw [hCm, if_neg (fun y => y c1), if_neg c2, if_neg (fun y => y c3)], fun G => by rw [hM, if_neg (fun y => y c1), if_neg c2, if_neg (fun y => y c3)], r + 1, Nat.le_refl _, faults_eq (kd := 5) h h0 hk hb hr hi (by omega) (Or.inl (by omega))⟩
/-- where a loop of what may reset ends -/
def OutL (S0 : Sp) (d0 m0 : Dt) (w : Nat → Int32) (q : TdP) (W : Int32) (F0 : Int32 × (Nat → Int32)) (k kh : Nat) (kj : Nat → Nat) (kg rm b : Nat) (S : Sp) (e1 e2 : Dt) (eC : Option ((Unit ⊕ Nat) × Sp × Dt) → Dt → Prop) (eM : Option (Unit × Dt) → Dt → Prop) (o : Option ((Unit ⊕ Nat) × Sp × Dt)) (p : Option (Unit × Dt)) : Prop :=
  ∃ r f1 f2, r ≤ rm ∧ f1.1 20 = e1.1 20 ∧ f2.1 36 = e2.1 36 ∧ ((eC o f1 ∧ eM p f2 ∧ RT S0 d0 m0 w q W F0 99 k kh kj kg r b S f1 f2 ∧ f2.1 0 58 = 0) ∨ ∃ z S', o = some (.inr z, S', f1) ∧ p = some ((), f2) ∧ RT S0 d0 m0 w q W F0 99 k kh kj kg r (b + 1) S' f1 f2 ∧ f2.1 0 58 = 1)
theorem lookT (h : RT S0 d0 m0 w q W F0 99 k kh kj kg r b S e1 e2) (h0 : RE S0 d0 m0 w q op cl) (hk : k < 200) (hb : b < 3) (hr : r + 5 < 3000) {v : Nat} (hv : v < q.nw) (hfl : e2.1 0 58 = 0) {X : Int32} : OutL S0 d0 m0 w q W F0 k kh kj kg (r + 5) b S e1 e2 (fun o f1 => o = Ws_looks_2_h100 0 (nI v) FU (nI (v + 1)) S f1) (fun p f2 => p = Mo_looks_b105 0 (nI v) (nI k) MoS f2) (Ws_looks_2_h17 0 (nI v) FU X 0 S e1) (Mo_looks_h21 0 (nI v) (nI k) MoS FU X 0 e2) := by
  have h5 := h0.C.nt5
  have h3 := h0.C.nw3
  refine loop2p_FU (X := fun F (x : Int32 × Dt) => Ws_looks_2_h17 0 (nI v) F X x.1 S x.2) (Y := fun F (x : Int32 × Dt) => Mo_looks_h21 0 (nI v) (nI k) MoS F X x.1 x.2) (Inv := fun i x y => x.1 = nI i ∧ y.1 = nI i ∧ (∃ r', r' ≤ r + i ∧ RT S0 d0 m0 w q W F0 99 k kh kj kg r' b S x.2 y.2) ∧ y.2.1 0 58 = 0 ∧ x.2.1 20 = e1.1 20 ∧ y.2.1 36 = e2.1 36) (P := OutL S0 d0 m0 w q W F0 k kh kj kg (r + 5) b S e1 e2 (fun o f1 => o = Ws_looks_2_h100 0 (nI v) FU (nI (v + 1)) S f1) (fun p f2 => p = Mo_looks_b105 0 (nI v) (nI k) MoS f2)) (x := (0, e1)) (y := (0, e2)) q.nt (by omega) ⟨rfl, rfl, ⟨r, by omega, h⟩, hfl, rfl, rfl⟩ ?_ ?_
  · rintro i hi F G ⟨x, d⟩ ⟨y, m⟩ ⟨hx, hy, ⟨r', hr', g1⟩, g2, g3, g4⟩
    have hx' : x = nI i := hx
    have hy' : y = nI i := hy
    subst hx' hy'
    obtain ⟨o, p, n0, n1, r2, n2, f1, f2, y1, y2, y3, y4⟩ := look1 g1 h0 hk hb (by omega) hi hv g2 (X := X)
    show (∃ x' y' : Int32 × Dt, Ws_looks_2_h17 0 (nI v) (F + 2) X (nI i) S d = _ ∧ Mo_looks_h21 0 (nI v) (nI k) MoS (G + 2) X (nI i) m = _ ∧ _) ∨ OutL S0 d0 m0 w q W F0 k kh kj kg (r + 5) b S e1 e2 _ _ (Ws_looks_2_h17 0 (nI v) (F + 2) X (nI i) S d) (Mo_looks_h21 0 (nI v) (nI k) MoS (G + 2) X (nI i) m)
    rw [n1 (G + 1), y1, bind2_some, n0 (F + 1)]
    rcases y4 with ⟨z1, z2, z3⟩ | ⟨z, S', z1, z2, z3⟩
    · left
      refine ⟨(nI (i + 1), f1), (nI (i + 1), f2), ?_, rfl, rfl, rfl, ⟨r2, by omega, z2⟩, z3.trans g2, y2.trans g3, y3.trans g4⟩
      rw [z1, bindE_l]
    · right
      refine ⟨r2, f1, f2, by omega, y2.trans g3, y3.trans g4, Or.inr ⟨z, S', by rw [z1, bindE_r], ?_, z2, z3⟩⟩
      have hR := z2.re h0
      have h105 : Mo_looks_b105 0 (nI v) (nI k) MoS f2 = some ((), f2) := by
        unfold Mo_looks_b105
        rw [show FU = 9999 + 1 from rfl, Mo_looks_h108, Mo_K, Option.bind_some, hR.m3.1, Option.bind_some, hR.m3.2, z3, if_pos (show ¬ (1 : Int32) = 0 by decide)]
        split <;> rfl
      rw [Mo_looks_h21, Mo_K, Option.bind_some, hR.m4.1, Option.bind_some, hR.m4.2, z3, if_pos (show ¬ (1 : Int32) = 0 by decide), h105]
      split <;> rfl
  · rintro F G ⟨x, d⟩ ⟨y, m⟩ ⟨hx, hy, ⟨r', hr', g1⟩, g2, g3, g4⟩
    have hx' : x = nI q.nt := hx
    have hy' : y = nI q.nt := hy
    subst hx' hy'
    have hR := g1.re h0
    refine ⟨r', d, m, by omega, g3, g4, Or.inl ⟨?_, ?_, g1, g2⟩⟩
    · show Ws_looks_2_h17 0 (nI v) (F + 1) X (nI q.nt) S d = _
      rw [Ws_looks_2_h17, hR.C.K, Option.bind_some, hR.C.tasks, Option.bind_some, if_pos (nI_le (Nat.le_refl _) (by omega)), Option.bind_some, nI_1]
    · show Mo_looks_h21 0 (nI v) (nI k) MoS (G + 1) X (nI q.nt) m = _
      rw [Mo_looks_h21, Mo_K, Option.bind_some, hR.m4.1, Option.bind_some, hR.m4.2, if_pos (nI_le (Nat.le_refl _) (by omega))]
end
