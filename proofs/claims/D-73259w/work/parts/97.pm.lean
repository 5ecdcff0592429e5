/-! THE RUN: one watcher looks at the watchers under it -/
set_option maxRecDepth 100000
section
variable {w : Nat → Int32} {q : TdP} {u k kh kg r b t z : Nat} {kj : Nat → Nat} {S0 S S' : Sp} {d0 m0 d e f e1 e2 f1 f2 g1 g2 : Dt} {op cl : Nat → Nat} {W : Int32} {F0 : Int32 × (Nat → Int32)} {P V P' V' : Nat → Prop} {p1 p2 p3 : Int32}
theorem watch1 (h : RT S0 d0 m0 w q W F0 99 k kh kj kg r b S e1 e2) (h0 : RE S0 d0 m0 w q op cl) (hk : k < 200) (hb : b < 3) (hr : r < 3000) {x v : Nat} (hx : x < q.nw) (hv : v < q.nw) (hfl : e2.1 0 58 = 0) (hlk : e1.1 20 x = e2.1 36 x) : ∃ o p, (∀ F, Ws_looks_2_h100 0 (nI v) (F + 1) (nI x) S e1 = bindE o (fun v9 S9 d9 => some (.inr v9, S9, d9)) (fun _ S17 d18 => Ws_looks_2_h100 0 (nI v) F (nI (x + 1)) S17 d18)) ∧ (∀ G, Mo_looks_h108 0 (nI v) (nI k) MoS (G + 1) (nI x) e2 = bind2 p (fun _ f => Mo_looks_h108 0 (nI v) (nI k) MoS G (nI (x + 1)) f)) ∧ OutB S0 d0 m0 w q W F0 99 k kh kj kg (r + 1) b S e1 e2 o p := by
  have hR := h.re h0
  have hC := hR.C
  have h5 := hC.nt5
  have h3 := hC.nw3
  have hx3 : x < 3 := by omega
  obtain ⟨o1, o2, -⟩ := hC.ovr hx
  obtain ⟨q1, q2, q3, q4, q5, q6, q7, q8, q9, q10, q11⟩ := h
  obtain ⟨s, s1, s2, s3⟩ := q8 x hx
  have hno : OutB S0 d0 m0 w q W F0 99 k kh kj kg (r + 1) b S e1 e2 (some (.inl (), S, e1)) (some ((), e2)) := ⟨r, by omega, e1, e2, rfl, rfl, rfl, Or.inl ⟨rfl, ⟨q1, q2, q3, q4, q5, q6, q7, q8, q9, q10, q11⟩, rfl⟩⟩
  obtain ⟨L, hL⟩ : ∃ L, L = if s = 0 then 2 else 3 := ⟨_, rfl⟩
  obtain ⟨d1, hd1⟩ : ∃ d1, d1 = dI e1 19 x (nI (s + 1)) := ⟨_, rfl⟩
  obtain ⟨m1, hm1⟩ : ∃ m1, m1 = dI e2 35 x 1 := ⟨_, rfl⟩
  have hM : ∀ G, Mo_looks_h108 0 (nI v) (nI k) MoS (G + 1) (nI x) e2 = if ¬ w (8 + x) = nI v then Mo_looks_h108 0 (nI v) (nI k) MoS G (nI (x + 1)) e2 else if e2.1 36 x = 0 then bind2 (bind2 (Mo_records 0 (nI k) (nI 6) (nI x) (nI L) MoS m1) fun _ d33 => Mo_climbs 0 (nI L) (-1) (nI x) (nI k) MoS d33) (fun _ f => Mo_looks_h108 0 (nI v) (nI k) MoS G (nI (x + 1)) f) else Mo_looks_h108 0 (nI v) (nI k) MoS G (nI (x + 1)) e2 := by
    intro G
    rw [Mo_looks_h108, Mo_K, Option.bind_some, hR.m3.1, Option.bind_some, hR.m3.2, if_neg (nI_ge hx (by omega)), hfl, if_neg (fun y => y rfl), show (8 : Int32) + nI x = nI (8 + x) from nI_add 8 x, Mw _ (by omega), Option.bind_some, show e2.1 1 (8 + x) = w (8 + x) from hR.row (by omega), MoS_R0_50, ma36 hx3, Option.bind_some, MoS_R0_49, ma35 hx3, Option.bind_some, s3, nI_1]
    have hl9 : (if (if s = 0 then (0 : Int32) else 1) = 0 then (2 : Int32) else 3) = nI L := by
      rw [hL]
      by_cases c : s = 0
      · rw [if_pos c, if_pos c, if_pos rfl]; rfl
      · rw [if_neg c, if_neg c, if_neg (by decide)]; rfl
    rw [hl9]
    unfold Mo_looks_b168
    rw [Mo_K, Option.bind_some, MoS_R0_49, ma35 hx3, Option.bind_some, Option.bind_some, show vp_nar .boolean 1 = 1 from by decide, ← hm1, nI_1]
    cases hh : Mo_records 0 (nI k) 6 (nI x) (nI L) MoS m1 with
    | none => rw [show Mo_records 0 (nI k) (nI 6) (nI x) (nI L) MoS m1 = none from hh]; rfl
    | some a =>
      rw [show Mo_records 0 (nI k) (nI 6) (nI x) (nI L) MoS m1 = some a from hh]
      rfl
  have hCm : ∀ F, Ws_looks_2_h100 0 (nI v) (F + 1) (nI x) S e1 = if ¬ w (8 + x) = nI v then Ws_looks_2_h100 0 (nI v) F (nI (x + 1)) S e1 else if e2.1 36 x = 0 then bindE (Ws_notes 0 (nI 6) (nI x) (nI L) S d1) (fun v9 S9 d9 => some (.inr v9, S9, d9)) (fun _ S17 d18 => Ws_looks_2_h100 0 (nI v) F (nI (x + 1)) S17 d18) else Ws_looks_2_h100 0 (nI v) F (nI (x + 1)) S e1 := by
    intro F
    rw [Ws_looks_2_h100, hC.K, Option.bind_some, hC.T, Option.bind_some, hC.nwF, if_neg (nI_ge hx (by omega)), o1, Option.bind_some, o2, cr16 hC.F, ca20 hC.F hx3, Option.bind_some, hlk, cr15 hC.F, ca19 hC.F hx3, Option.bind_some, s2, nI_1, nI_1, ← hd1, Option.bind_some]
    have hl9 : (if ¬ d1.1 19 x = 1 then (3 : Int32) else 2) = nI L := by
      rw [hL, hd1, dI_at]
      by_cases c : s = 0
      · rw [c, if_pos rfl, if_neg (by decide)]; rfl
      · rw [if_neg c, if_pos (show ¬ nI (s + 1) = 1 from fun y => c (by have := (nI_eq (b := 1) (by omega) (by omega)).mp y; omega))]; rfl
    rw [hl9]
    unfold Ws_looks_2_b165
    rw [hC.K, Option.bind_some, nI_1]
    rfl
  by_cases c1 : w (8 + x) = nI v
  rotate_left
  · exact ⟨some (.inl (), S, e1), some ((), e2), fun F => by rw [hCm, if_pos c1, bindE_l], fun G => by rw [hM, if_pos c1, bind2_some], hno⟩
  by_cases c2 : e2.1 36 x = 0
  rotate_left
  · exact ⟨some (.inl (), S, e1), some ((), e2), fun F => by rw [hCm, if_neg (fun y => y c1), if_neg c2, bindE_l], fun G => by rw [hM, if_neg (fun y => y c1), if_neg c2, bind2_some], hno⟩
  have v1 : ∀ v, v ≠ 19 → d1.1 v = e1.1 v := fun v hv => by rw [hd1, dI_ne hv]
  have n1 : ∀ v, v ≠ 35 → m1.1 v = e2.1 v := fun v hv => by rw [hm1, dI_ne hv]
  have hl35 := Ws_len h0.C.F
  have kC1 : KrC S0 d0 d1 := q2.1.by (fun v h1 h2 => v1 v (by omega)) (fun f hf => by rw [v1 0 (by omega)])
  have hrt : RT S0 d0 m0 w q W F0 99 k kh kj kg (r + 1) b S (recC r k 6 x L d1) (recM r k 6 x L m1) := by
    refine RT.rec (u' := 99) (e1 := e1) (e2 := e2) ⟨q1, q2, q3, q4, q5, q6, q7, q8, q9, q10, q11⟩ kC1 (q2.2.by (fun v h1 h2 => n1 v (by omega)) (fun f hf => by rw [n1 0 (by omega)])) (fun s hs => ?_) (fun y hy => ?_) (fun f h1 h2 => by rw [v1 0 (by omega)]) (fun v h1 h2 h3 h4 h5 h6 => v1 v (by omega)) (fun f h1 h2 h3 => by rw [n1 0 (by omega)]) (fun v h1 h2 h3 h4 h5 h6 => n1 v (by omega)) (by omega) (fun z => by omega)
    · have g9 : Lf q 99 k (kj s) kg r b d1 m1 s := (q4 s hs).same (v1 (30 + s) (by omega)) (by rw [hd1]) (by rw [hd1]) (fun p h1 h2 => by rw [n1 p (by omega)]) (by rw [hm1]) (by rw [hm1]) (by rw [hm1])
      exact g9.mono (Nat.le_refl _) (Nat.le_refl _) (by omega)
    · by_cases c : y = x
      · subst c
        exact ⟨s + 1, by omega, by rw [hd1, dI_at], by rw [hm1, dI_at, if_neg (by omega)]⟩
      · obtain ⟨a, a1, a2, a3⟩ := q8 y hy
        exact ⟨a, by omega, by rw [hd1, dI_nk (by omega)]; exact a2, by rw [hm1, dI_nk (by omega)]; exact a3⟩
  have hC1 : CE S d1 w q := (h0.go q1.1 kC1 q2.2).C
  have hL4 : L < 4 ∧ 2 ≤ L := by rw [hL]; split <;> omega
  obtain ⟨f1, f2, x1, x2, x3, x4⟩ := notes_eq (t := 0) (g1 := d1) (g2 := m1) (kd := 6) (x := x) (L := L) (v := x) h0 hC1 (by rw [v1 0 (by omega)]; exact q3.1) (by rw [v1 0 (by omega)]; exact q7.1) (by rw [n1 0 (by omega)]; exact q7.2.1) hr hrt hk hb hL4.1 hx (by omega) (fun y => by omega) (fun _ => ⟨rfl, hL4.2⟩) (p2 := -1) (p3 := nI x) (Or.inl (by omega)) (fun y => by omega) (fun _ => rfl)
  refine ⟨Ws_notes 0 (nI 6) (nI x) (nI L) S d1, bind2 (Mo_records 0 (nI k) (nI 6) (nI x) (nI L) MoS m1) fun _ d33 => Mo_climbs 0 (nI L) (-1) (nI x) (nI k) MoS d33, fun F => by rw [hCm, if_neg (fun y => y c1), if_pos c2], fun G => by rw [hM, if_neg (fun y => y c1), if_pos c2], r + 1, Nat.le_refl _, f1, f2, x1, x2.trans (v1 20 (by omega)), x3.trans (n1 36 (by omega)), x4.imp (fun ⟨y1, y2, y3⟩ => ⟨y1, y2, y3.trans (by rw [n1 0 (by omega)])⟩) id⟩
theorem lookW (h : RT S0 d0 m0 w q W F0 99 k kh kj kg r b S e1 e2) (h0 : RE S0 d0 m0 w q op cl) (hk : k < 200) (hb : b < 3) (hr : r + 3 < 3000) {v : Nat} (hv : v < q.nw) (hfl : e2.1 0 58 = 0) (hlk : ∀ x, v < x → x < q.nw → e1.1 20 x = e2.1 36 x) : OutL S0 d0 m0 w q W F0 k kh kj kg (r + 3) b S e1 e2 (fun o f1 => o = some (.inl (), S, f1)) (fun p f2 => p = some ((), f2)) (Ws_looks_2_h100 0 (nI v) FU (nI (v + 1)) S e1) (Mo_looks_b105 0 (nI v) (nI k) MoS e2) := by
  have h5 := h0.C.nt5
  have h3 := h0.C.nw3
  have hR := h.re h0
  -- the model passes the watchers up to v
  have hskip : ∀ j G, j ≤ v + 1 → Mo_looks_h108 0 (nI v) (nI k) MoS (G + j) (nI (v + 1 - j)) e2 = Mo_looks_h108 0 (nI v) (nI k) MoS G (nI (v + 1)) e2 := by
    intro j
    induction j with
    | zero => intro G _; rfl
    | succ j ih =>
      intro G hj
      obtain ⟨x, hx, hx9⟩ : ∃ x, x = v + 1 - (j + 1) ∧ v + 1 - j = x + 1 := ⟨_, rfl, by omega⟩
      obtain ⟨-, -, o3⟩ := hR.C.ovr (v := x) (by omega)
      have hne : ¬ w (8 + x) = nI v := by
        rcases o3 with ⟨y0, y1⟩ | ⟨y, y1, y2⟩
        · subst y0
          rw [show w (8 + 0) = -1 from y1]
          exact fun y => m1_pos (c := v) (by omega) y.symm
        · rw [y2]
          intro y
          have := (nI_eq (by omega) (by omega)).mp y
          omega
      rw [← ih G (by omega), hx9, ← hx, ← Nat.add_assoc, Mo_looks_h108, Mo_K, Option.bind_some, hR.m3.1, Option.bind_some, hR.m3.2, if_neg (nI_ge (show x < q.nw by omega) (by omega)), hfl, if_neg (fun y => y rfl), show (8 : Int32) + nI x = nI (8 + x) from nI_add 8 x, Mw _ (by omega), Option.bind_some, show e2.1 1 (8 + x) = w (8 + x) from hR.row (by omega), if_pos hne, nI_1]
  unfold Mo_looks_b105
  rw [show FU = (FU - (v + 1)) + (v + 1) from by show 10000 = 10000 - (v + 1) + (v + 1); omega, show (0 : Int32) = nI (v + 1 - (v + 1)) from by rw [Nat.sub_self]; rfl, hskip (v + 1) (FU - (v + 1)) (Nat.le_refl _), show (FU - (v + 1)) + (v + 1) = FU from by show 10000 - (v + 1) + (v + 1) = 10000; omega]
  refine loop2p (X := fun F (x : Int32 × Dt) => Ws_looks_2_h100 0 (nI v) F x.1 S x.2) (Y := fun F (x : Int32 × Dt) => Mo_looks_h108 0 (nI v) (nI k) MoS F x.1 x.2) (Inv := fun i x y => v < i ∧ x.1 = nI i ∧ y.1 = nI i ∧ (∃ r', r' ≤ r + i ∧ RT S0 d0 m0 w q W F0 99 k kh kj kg r' b S x.2 y.2) ∧ y.2.1 0 58 = 0 ∧ x.2.1 20 = e1.1 20 ∧ y.2.1 36 = e2.1 36) (P := OutL S0 d0 m0 w q W F0 k kh kj kg (r + 3) b S e1 e2 (fun o f1 => o = some (.inl (), S, f1)) (fun p f2 => p = some ((), f2))) q.nw ?_ ?_ (q.nw - (v + 1)) (v + 1) (nI (v + 1), e1) (nI (v + 1), e2) FU (FU - (v + 1)) (by omega) ⟨by omega, rfl, rfl, ⟨r, by omega, h⟩, hfl, rfl, rfl⟩ (by show q.nw - (v + 1) < 10000; omega) (by show q.nw - (v + 1) < 10000 - (v + 1); omega)
  · rintro i hi F G ⟨x, d⟩ ⟨y, m⟩ ⟨hvi, hx, hy, ⟨r', hr', g1⟩, g2, g3, g4⟩
    have hx' : x = nI i := hx
    have hy' : y = nI i := hy
    subst hx' hy'
    have g3' : d.1 20 = e1.1 20 := g3
    have g4' : m.1 36 = e2.1 36 := g4
    obtain ⟨o, p, n0, n1, r2, n2, f1, f2, y1, y2, y3, y4⟩ := watch1 g1 h0 hk hb (by omega) hi hv g2 (by rw [g3', g4']; exact hlk i hvi hi)
    show (∃ x' y' : Int32 × Dt, Ws_looks_2_h100 0 (nI v) (F + 2) (nI i) S d = _ ∧ Mo_looks_h108 0 (nI v) (nI k) MoS (G + 2) (nI i) m = _ ∧ _) ∨ OutL S0 d0 m0 w q W F0 k kh kj kg (r + 3) b S e1 e2 _ _ (Ws_looks_2_h100 0 (nI v) (F + 2) (nI i) S d) (Mo_looks_h108 0 (nI v) (nI k) MoS (G + 2) (nI i) m)
    rw [n1 (G + 1), y1, bind2_some, n0 (F + 1)]
    rcases y4 with ⟨z1, z2, z3⟩ | ⟨z, S', z1, z2, z3⟩
    · left
      refine ⟨(nI (i + 1), f1), (nI (i + 1), f2), ?_, rfl, by omega, rfl, rfl, ⟨r2, by omega, z2⟩, z3.trans g2, y2.trans g3, y3.trans g4⟩
      rw [z1, bindE_l]
    · right
      refine ⟨r2, f1, f2, by omega, y2.trans g3, y3.trans g4, Or.inr ⟨z, S', by rw [z1, bindE_r], ?_, z2, z3⟩⟩
      have hR := z2.re h0
      rw [Mo_looks_h108, Mo_K, Option.bind_some, hR.m3.1, Option.bind_some, hR.m3.2, z3, if_pos (show ¬ (1 : Int32) = 0 by decide)]
      split <;> rfl
  · rintro F G ⟨x, d⟩ ⟨y, m⟩ ⟨hvi, hx, hy, ⟨r', hr', g1⟩, g2, g3, g4⟩
    have hx' : x = nI q.nw := hx
    have hy' : y = nI q.nw := hy
    subst hx' hy'
    have hR := g1.re h0
    refine ⟨r', d, m, by omega, g3, g4, Or.inl ⟨?_, ?_, g1, g2⟩⟩
    · show Ws_looks_2_h100 0 (nI v) (F + 1) (nI q.nw) S d = _
      rw [Ws_looks_2_h100, hR.C.K, Option.bind_some, hR.C.T, Option.bind_some, hR.C.nwF, if_pos (nI_le (Nat.le_refl _) (by omega))]
    · show Mo_looks_h108 0 (nI v) (nI k) MoS (G + 1) (nI q.nw) m = _
      rw [Mo_looks_h108, Mo_K, Option.bind_some, hR.m3.1, Option.bind_some, hR.m3.2, if_pos (nI_le (Nat.le_refl _) (by omega))]
end
