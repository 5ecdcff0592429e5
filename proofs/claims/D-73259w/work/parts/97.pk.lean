/-! THE RUN: who has the tick; who is late -/
set_option maxRecDepth 100000
section
variable {w : Nat → Int32} {q : TdP} {u k kh kg r b t z : Nat} {kj : Nat → Nat} {S0 S S' : Sp} {d0 m0 d e f e1 e2 f1 f2 g1 g2 : Dt} {op cl : Nat → Nat} {W : Int32} {F0 : Int32 × (Nat → Int32)} {P V P' V' : Nat → Prop} {p1 p2 p3 : Int32}
theorem RT.had (h : RT S0 d0 m0 w q W F0 u k k kj kg r b S e1 e2) (hk : k < 200) (c1 : KrC S0 d0 f1) {x : Int32} (a : ∀ v, v ≠ 17 → f1.1 v = e1.1 v) (aF : f1.2 = e1.2) (a17 : f1.1 17 k = x) (an : ∀ j, j ≠ k → f1.1 17 j = e1.1 17 j) : RT S0 d0 m0 w q W (F0.1, fun j => if j = k then x else F0.2 j) u k (k + 1) kj kg r b S f1 (dI e2 37 k x) := by
  obtain ⟨q1, q2, q3, q4, q5, q6, q7, q8, q9, q10, q11⟩ := h
  have m : ∀ v, v ≠ 37 → (dI e2 37 k x).1 v = e2.1 v := fun v hv => dI_ne hv
  refine ⟨q1, ⟨c1, q2.2.dI (by omega)⟩, ⟨by rw [a 0 (by omega)]; exact q3.1, q3.2⟩, fun t ht => (q4 t ht).same (a (30 + t) (by omega)) (by rw [aF]) (by rw [aF]) (fun p h1 h2 => by rw [m p (by omega)]) rfl rfl rfl, q5.go (a 18 (by omega)) (m 34 (by omega)), q6.go (a 27 (by omega)) (m 33 (by omega)), q7.go (by rw [a 0 (by omega)]) (a 21 (by omega)) (a 22 (by omega)) (a 23 (by omega)) (a 24 (by omega)) (by rw [m 0 (by omega)]) (m 38 (by omega)) (m 39 (by omega)) (m 40 (by omega)) (m 41 (by omega)), q8.go (a 19 (by omega)) (m 35 (by omega)), q9.go (by rw [a 0 (by omega)]) (by rw [a 0 (by omega)]) (by rw [m 0 (by omega)]) (by rw [m 0 (by omega)]), fun j hj => ⟨fun h1 => ?_, fun h1 => ?_⟩, q11.go (fun f _ _ => by rw [a 0 (by omega)]) (m 27 (by omega)) (m 32 (by omega))⟩
  · by_cases c : j = k
    · subst c
      rw [a17, dI_at]
      exact ⟨rfl, (if_pos rfl).symm⟩
    · rw [an j c, dI_nk (by omega)]
      have := (q10 j hj).1 (by omega)
      exact ⟨this.1, this.2.trans (if_neg c).symm⟩
  · rw [dI_nk (by omega)]
    exact (q10 j hj).2 (by omega)
theorem works_eq (h : RT S0 d0 m0 w q W F0 99 k k kj kg r b S e1 e2) (h0 : RE S0 d0 m0 w q op cl) (hk : k < 200) (hb : b < 3) (hr : r < 3000) (hkg : kg < 200) (hkj : ∀ t, t < q.nt → kj t ≤ 200) (hn : e1.1 17 k = -1) : ∃ r4, Mo_whoHas 0 MoS e2 = some r4 ∧ OutB S0 d0 m0 w q W (F0.1, fun j => if j = k then r4 else F0.2 j) 99 k (k + 1) kj (kg + 1) (r + 1) b S e1 e2 (Ws_works 0 S e1) (if r4 = -1 then some ((), dI e2 37 k r4) else Mo_works 0 r4 (nI k) MoS (dI e2 37 k r4)) := by
  have hR := h.re h0
  have hC := hR.C
  have h5 := hC.nt5
  have hl35 := Ws_len h0.C.F
  have hT : e1.1 0 25 = nI k := h.2.2.1.1
  unfold Mo_whoHas Ws_works
  refine loop2_FU (X := fun F (x : Int32) => Ws_works_h2 0 F x S e1) (Y := fun F (x : Int32) => Mo_whoHas_h2 0 MoS e2 F x) (Inv := fun i x y => x = nI i ∧ y = nI i) (P := fun o p => ∃ r4, p = some r4 ∧ OutB S0 d0 m0 w q W (F0.1, fun j => if j = k then r4 else F0.2 j) 99 k (k + 1) kj (kg + 1) (r + 1) b S e1 e2 o (if r4 = -1 then some ((), dI e2 37 k r4) else Mo_works 0 r4 (nI k) MoS (dI e2 37 k r4))) (x := 0) (y := 0) q.nt (by omega) ⟨rfl, rfl⟩ ?_ ?_
  · rintro i hi F G x y ⟨rfl, rfl⟩
    have hstep : ∀ X Y, X = Ws_works_h2 0 F (nI (i + 1)) S e1 → Y = Mo_whoHas_h2 0 MoS e2 G (nI (i + 1)) → (∃ x' y', X = Ws_works_h2 0 F x' S e1 ∧ Y = Mo_whoHas_h2 0 MoS e2 G y' ∧ x' = nI (i + 1) ∧ y' = nI (i + 1)) ∨ ∃ r4, Y = some r4 ∧ OutB S0 d0 m0 w q W (F0.1, fun j => if j = k then r4 else F0.2 j) 99 k (k + 1) kj (kg + 1) (r + 1) b S e1 e2 X (if r4 = -1 then some ((), dI e2 37 k r4) else Mo_works 0 r4 (nI k) MoS (dI e2 37 k r4)) := fun X Y hX hY => Or.inl ⟨_, _, hX, hY, rfl, rfl⟩
    have hlf := h.2.2.2.1 i hi
    obtain ⟨l1, -⟩ := hlf
    have l1' : (e1.1 (30 + i) 0 = 0 ∧ e2.1 15 i = -1) ∨ (e1.1 (30 + i) 0 = 1 ∧ ∃ j n, n < q.nd i ∧ j ≤ kj i ∧ e1.1 (30 + i) 2 = nI j ∧ e2.1 15 i = nI j ∧ e1.1 (30 + i) 3 = nI n ∧ e2.1 17 i = nI n ∧ e1.1 (30 + i) 4 = e2.1 18 i) := l1
    show (∃ x' y', Ws_works_h2 0 (F + 1) (nI i) S e1 = _ ∧ Mo_whoHas_h2 0 MoS e2 (G + 1) (nI i) = _ ∧ _) ∨ ∃ r4, Mo_whoHas_h2 0 MoS e2 (G + 1) (nI i) = some r4 ∧ OutB S0 d0 m0 w q W (F0.1, fun j => if j = k then r4 else F0.2 j) 99 k (k + 1) kj (kg + 1) (r + 1) b S e1 e2 (Ws_works_h2 0 (F + 1) (nI i) S e1) _
    rw [Ws_works_h2, hC.K, Option.bind_some, hC.tasks, Option.bind_some, if_neg (nI_ge hi (by omega)), cr12 hC.F, ca16 hC.F (show i < 5 by omega), Option.bind_some, Option.bind_some, cl_r hC.F (show i < 5 by omega), cl_K hC.F (show i < 5 by omega), Option.bind_some, Mo_whoHas_h2, Mo_K, Option.bind_some, hR.m4.1, Option.bind_some, hR.m4.2, if_neg (nI_ge hi (by omega)), MoS_R0_29, ma15 (show i < 5 by omega), Option.bind_some, nI_1]
    rcases l1' with ⟨y1, y2⟩ | ⟨y1, j, n, n1, n2, n3, n4, n5, n6, n7⟩
    · rw [y1, y2, if_neg (fun y => y rfl), if_pos rfl]
      exact hstep _ _ rfl rfl
    have hj9 := hkj i hi
    rw [y1, if_pos (show ¬ (1 : Int32) = 0 by decide), n4, if_neg (show ¬ nI j = -1 from m1_pos (by omega)), n3, n5, MoS_R0_31, ma17 (show i < 5 by omega), Option.bind_some, n6]
    obtain ⟨x, x1, x2, -⟩ := chg_eq hR hi (N := nI n) n4
    rw [x1, x2, Option.bind_some, Option.bind_some]
    by_cases cx : x = 1
    · rw [if_neg (fun y => y cx), if_pos cx]
      exact hstep _ _ rfl rfl
    rw [if_pos cx, if_neg cx, cr13 hC.F, hT, ca17 hC.F hk, Option.bind_some, Option.bind_some, bE_id]
    refine Or.inr ⟨nI i, rfl, ?_⟩
    rw [if_neg (show ¬ nI i = -1 from m1_pos (by omega))]
    have hrt : RT S0 d0 m0 w q W (F0.1, fun j => if j = k then nI i else F0.2 j) 99 k (k + 1) kj kg r b S (dI e1 17 k (nI i)) (dI e2 37 k (nI i)) := h.had hk (h.2.1.1.by (fun v h1 h2 => dI_ne (by omega)) (fun f hf => dI_nk (by omega))) (fun v hv => dI_ne hv) rfl dI_at (fun j hj => dI_nk (by omega))
    have hx : Mo_changeAt 0 (nI i) (nI n) MoS (dI e2 37 k (nI i)) = some x := by
      obtain ⟨x', x1', x2', -⟩ := chg_eq (hR.m (KrM.rf.dI (by omega) : KrM e2 (dI e2 37 k (nI i)))) hi (N := nI n) ((dI_nk (by omega)).trans n4)
      rw [x2', ← x1', x1]
    obtain ⟨r1, y0, f1, f2, y1', y2, y3, y4⟩ := work1 hrt h0 hk hb hr hkg hi (j := j) (n := n) ((dI_nk (by omega)).trans y1) ((dI_nk (by omega)).trans n3) ((dI_nk (by omega)).trans n4) (by omega) n1 ((dI_nk (by omega)).trans n5) ((dI_nk (by omega)).trans n6) ((dI_nk (by omega)).trans (n7.trans (dI_nk (by omega)).symm)) hx
    exact ⟨r1, y0, f1, f2, y1', y2.trans (dI_ne (by omega)), y3.trans (dI_ne (by omega)), y4.imp (fun ⟨z1, z2, z3⟩ => ⟨z1, z2, z3.trans (dI_nk (by omega))⟩) id⟩
  · rintro F G x y ⟨rfl, rfl⟩
    show ∃ r4, Mo_whoHas_h2 0 MoS e2 (G + 1) (nI q.nt) = some r4 ∧ OutB S0 d0 m0 w q W (F0.1, fun j => if j = k then r4 else F0.2 j) 99 k (k + 1) kj (kg + 1) (r + 1) b S e1 e2 (Ws_works_h2 0 (F + 1) (nI q.nt) S e1) _
    rw [Ws_works_h2, hC.K, Option.bind_some, hC.tasks, Option.bind_some, if_pos (nI_le (Nat.le_refl _) (by omega)), Mo_whoHas_h2, Mo_K, Option.bind_some, hR.m4.1, Option.bind_some, hR.m4.2, if_pos (nI_le (Nat.le_refl _) (by omega))]
    refine ⟨-1, rfl, ?_⟩
    rw [if_pos rfl]
    exact ⟨r, by omega, e1, dI e2 37 k (-1), rfl, rfl, dI_ne (by omega), Or.inl ⟨rfl, (h.had hk h.2.1.1 (fun _ _ => rfl) rfl hn (fun _ _ => rfl)).up (fun _ _ => Nat.le_refl _) (by omega), dI_nk (by omega)⟩⟩
theorem late1 (h : RT S0 d0 m0 w q W F0 99 k kh kj kg r b S e1 e2) (h0 : RE S0 d0 m0 w q op cl) (hk : k < 200) (hb : b < 3) (hr : r < 3000) {i : Nat} (hi : i < q.nt) (hfl : e2.1 0 58 = 0) : ∃ p, (∀ G, Mo_asksLate_h2 0 (nI k) MoS (G + 1) (nI i) e2 = bind2 p (fun _ f => Mo_asksLate_h2 0 (nI k) MoS G (nI (i + 1)) f)) ∧ OutB S0 d0 m0 w q W F0 99 k kh kj kg (r + 1) b S e1 e2 (Ws_isLate 0 (nI i) S e1) p := by
  have hR := h.re h0
  have hC := hR.C
  have h5 := hC.nt5
  have hi5 : i < 5 := by omega
  have hT : e1.1 0 25 = nI k := h.2.2.1.1
  have hlf := h.2.2.2.1 i hi
  obtain ⟨-, -, ⟨x5, y5, l5, l5'⟩, ⟨x6, y6, l6, l6'⟩, ⟨x7, y7, l7, l7'⟩, -⟩ := hlf
  have l5m : e2.1 14 i = nI x5 := l5'
  have l6m : e2.1 20 i = nI x6 - 1 := l6'
  obtain ⟨ho1, ho2, -, -, ho5, ho6⟩ := hR.2.2.2.2 i hi
  have hM : ∀ G, Mo_asksLate_h2 0 (nI k) MoS (G + 1) (nI i) e2 = if nI k < nI x5 then Mo_asksLate_h2 0 (nI k) MoS G (nI (i + 1)) e2 else if nI k - (nI x6 - 1) < nI (cl i) then Mo_asksLate_h2 0 (nI k) MoS G (nI (i + 1)) e2 else bind2 (Mo_faultOf 0 (nI i) 2 (nI k) MoS e2) (fun _ f => Mo_asksLate_h2 0 (nI k) MoS G (nI (i + 1)) f) := by
    intro G
    rw [Mo_asksLate_h2, Mo_K, Option.bind_some, hR.m4.1, Option.bind_some, hR.m4.2, if_neg (nI_ge hi (by omega)), hfl, if_neg (fun y => y rfl), MoS_R0_28, ma14 hi5, Option.bind_some, l5m, MoS_R0_34, ma20 hi5, Option.bind_some, (hR.opn hi).2, Option.bind_some, l6m, nI_1]
  have hno : OutB S0 d0 m0 w q W F0 99 k kh kj kg (r + 1) b S e1 e2 (some (.inl (), S, e1)) (some ((), e2)) := ⟨r, by omega, e1, e2, rfl, rfl, rfl, Or.inl ⟨rfl, h, rfl⟩⟩
  unfold Ws_isLate
  rw [hC.K, Option.bind_some, cr12 hC.F, ca16 hC.F hi5, Option.bind_some, Option.bind_some, cl_r hC.F hi5, cl_K hC.F hi5, Option.bind_some, hT, l5, l7, cr22 hC.F, ca26 hC.F hi5, Option.bind_some, ho2, l6, bE_id]
  by_cases c1 : nI k < nI x5
  · rw [if_pos c1]
    exact ⟨some ((), e2), fun G => by rw [hM, if_pos c1, bind2_some], hno⟩
  rw [if_neg c1]
  by_cases c3 : nI k - (nI x6 - 1) < nI (cl i)
  · rw [if_pos c3]
    refine ⟨some ((), e2), fun G => by rw [hM, if_neg c1, if_pos c3, bind2_some], ?_⟩
    split <;> exact hno
  rw [if_neg c3]
  by_cases c2 : nI x7 - 1 = nI k
  · exfalso
    have hx : x7 = k + 1 := (nI_eq (by omega) (by omega)).mp (by rw [← nI_1]; grind)
    rcases l7' hx with y | y | y
    · omega
    · rw [l5] at y
      exact c1 y
    · rw [l6] at y
      rw [y] at c3
      exact c3 (by rw [show nI k - nI k = 0 from by grind]; exact nI_lt (a := 0) (by omega) (by omega))
  rw [if_neg c2]
  exact ⟨Mo_faultOf 0 (nI i) 2 (nI k) MoS e2, fun G => by rw [hM, if_neg c1, if_neg c3], r + 1, Nat.le_refl _, faults_eq (kd := 2) h h0 hk hb hr hi (by omega) (Or.inl (by omega))⟩
theorem loop2p {α β R Q : Type} {X : Nat → α → Option R} {Y : Nat → β → Option Q} {Inv : Nat → α → β → Prop} {P : Option R → Option Q → Prop} (n : Nat) (hs : ∀ i, i < n → ∀ f g x y, Inv i x y → (∃ x' y', X (f + 2) x = X (f + 1) x' ∧ Y (g + 2) y = Y (g + 1) y' ∧ Inv (i + 1) x' y') ∨ P (X (f + 2) x) (Y (g + 2) y)) (he : ∀ f g x y, Inv n x y → P (X (f + 1) x) (Y (g + 1) y)) : ∀ k i x y f g, i + k = n → Inv i x y → k < f → k < g → P (X f x) (Y g y) := by
  intro k
  induction k with
  | zero =>
    intro i x y f g h1 h2 h3 h4
    obtain ⟨f, rfl⟩ : ∃ f', f = f' + 1 := ⟨f - 1, by omega⟩
    obtain ⟨g, rfl⟩ : ∃ g', g = g' + 1 := ⟨g - 1, by omega⟩
    have : i = n := by omega
    subst this
    exact he f g x y h2
  | succ k ih =>
    intro i x y f g h1 h2 h3 h4
    obtain ⟨f, rfl⟩ : ∃ f', f = f' + 2 := ⟨f - 2, by omega⟩
    obtain ⟨g, rfl⟩ : ∃ g', g = g' + 2 := ⟨g - 2, by omega⟩
    rcases hs i (by omega) f g x y h2 with ⟨x', y', e1, e2, e3⟩ | hp
    · rw [e1, e2]
      exact ih (i + 1) x' y' (f + 1) (g + 1) (by omega) e3 (by omega) (by omega)
    · exact hp
theorem loop2p_FU {α β R Q : Type} {X : Nat → α → Option R} {Y : Nat → β → Option Q} {Inv : Nat → α → β → Prop} {P : Option R → Option Q → Prop} {x : α} {y : β} (n : Nat) (hn : n < 10000) (h0 : Inv 0 x y) (hs : ∀ i, i < n → ∀ f g x y, Inv i x y → (∃ x' y', X (f + 2) x = X (f + 1) x' ∧ Y (g + 2) y = Y (g + 1) y' ∧ Inv (i + 1) x' y') ∨ P (X (f + 2) x) (Y (g + 2) y)) (he : ∀ f g x y, Inv n x y → P (X (f + 1) x) (Y (g + 1) y)) : P (X FU x) (Y FU y) := loop2p n hs he n 0 x y FU FU (by omega) h0 hn hn
theorem late_eq (h : RT S0 d0 m0 w q W F0 99 k kh kj kg r b S e1 e2) (h0 : RE S0 d0 m0 w q op cl) (hk : k < 200) (hb : b < 3) (hr : r + 5 < 3000) (hfl : e2.1 0 58 = 0) : ∃ r' f1 f2, r' ≤ r + 5 ∧ Mo_asksLate 0 (nI k) MoS e2 = some ((), f2) ∧ f1.1 20 = e1.1 20 ∧ f2.1 36 = e2.1 36 ∧ ((∃ F, Ws_goes_h27 0 FU 0 S e1 = Ws_goes_h27 0 (F + 1) (nI q.nt) S f1 ∧ RT S0 d0 m0 w q W F0 99 k kh kj kg r' b S f1 f2 ∧ f2.1 0 58 = 0) ∨ ∃ z S', Ws_goes_h27 0 FU 0 S e1 = Ws_goes_b112 0 (some z) S' f1 ∧ RT S0 d0 m0 w q W F0 99 k kh kj kg r' (b + 1) S' f1 f2 ∧ f2.1 0 58 = 1) := by
  have h5 := h0.C.nt5
  unfold Mo_asksLate
  refine loop2p_FU (X := fun F (x : Int32 × Dt) => Ws_goes_h27 0 F x.1 S x.2) (Y := fun F (x : Int32 × Dt) => Mo_asksLate_h2 0 (nI k) MoS F x.1 x.2) (Inv := fun i x y => x.1 = nI i ∧ y.1 = nI i ∧ (∃ r', r' ≤ r + i ∧ RT S0 d0 m0 w q W F0 99 k kh kj kg r' b S x.2 y.2) ∧ y.2.1 0 58 = 0 ∧ x.2.1 20 = e1.1 20 ∧ y.2.1 36 = e2.1 36) (P := fun o p => ∃ r' f1 f2, r' ≤ r + 5 ∧ p = some ((), f2) ∧ f1.1 20 = e1.1 20 ∧ f2.1 36 = e2.1 36 ∧ ((∃ F, o = Ws_goes_h27 0 (F + 1) (nI q.nt) S f1 ∧ RT S0 d0 m0 w q W F0 99 k kh kj kg r' b S f1 f2 ∧ f2.1 0 58 = 0) ∨ ∃ z S', o = Ws_goes_b112 0 (some z) S' f1 ∧ RT S0 d0 m0 w q W F0 99 k kh kj kg r' (b + 1) S' f1 f2 ∧ f2.1 0 58 = 1)) (x := (0, e1)) (y := (0, e2)) q.nt (by omega) ⟨rfl, rfl, ⟨r, by omega, h⟩, hfl, rfl, rfl⟩ ?_ ?_
  · rintro i hi F G ⟨x, d⟩ ⟨y, m⟩ ⟨hx, hy, ⟨r', hr', g1⟩, g2, g3, g4⟩
    have hx' : x = nI i := hx
    have hy' : y = nI i := hy
    subst hx' hy'
    have hC := (g1.re h0).C
    obtain ⟨p, n1, r2, n2, f1, f2, y1, y2, y3, y4⟩ := late1 g1 h0 hk hb (by omega) hi g2
    show (∃ x' y' : Int32 × Dt, Ws_goes_h27 0 (F + 2) (nI i) S d = _ ∧ Mo_asksLate_h2 0 (nI k) MoS (G + 2) (nI i) m = _ ∧ _) ∨ ∃ r' f1 f2, _ ∧ Mo_asksLate_h2 0 (nI k) MoS (G + 2) (nI i) m = _ ∧ _
    rw [n1 (G + 1), y1, bind2_some, Ws_goes_h27, hC.K, Option.bind_some, hC.tasks, Option.bind_some, if_neg (nI_ge hi (by omega)), nI_1]
    rcases y4 with ⟨z1, z2, z3⟩ | ⟨z, S', z1, z2, z3⟩
    · left
      refine ⟨(nI (i + 1), f1), (nI (i + 1), f2), ?_, rfl, rfl, rfl, ⟨r2, by omega, z2⟩, z3.trans g2, y2.trans g3, y3.trans g4⟩
      rw [z1, bindE_l]
    · right
      refine ⟨r2, f1, f2, by omega, ?_, y2.trans g3, y3.trans g4, Or.inr ⟨z, S', ?_, z2, z3⟩⟩
      · have hR := z2.re h0
        rw [Mo_asksLate_h2, Mo_K, Option.bind_some, hR.m4.1, Option.bind_some, hR.m4.2, z3, if_pos (show ¬ (1 : Int32) = 0 by decide)]
        split <;> rfl
      · rw [z1, bindE_r]
  · rintro F G ⟨x, d⟩ ⟨y, m⟩ ⟨hx, hy, ⟨r', hr', g1⟩, g2, g3, g4⟩
    have hx' : x = nI q.nt := hx
    have hy' : y = nI q.nt := hy
    subst hx' hy'
    have hR := g1.re h0
    refine ⟨r', d, m, by omega, ?_, g3, g4, Or.inl ⟨F, rfl, g1, g2⟩⟩
    show Mo_asksLate_h2 0 (nI k) MoS (G + 1) (nI q.nt) m = _
    rw [Mo_asksLate_h2, Mo_K, Option.bind_some, hR.m4.1, Option.bind_some, hR.m4.2, if_pos (nI_le (Nat.le_refl _) (by omega))]
end
