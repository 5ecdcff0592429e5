/-! READING: its beginning and its end -/
set_option maxRecDepth 100000
section
variable {S T : Sp} {d m e : Dt} {rd nw nt ni ln a : Nat} {nd tks ij : Nat → Nat} {w : Nat → Int32}
theorem kA {U : Sp} {k : Nat} {v : Option Nat} {R : Type} {K : Sp → Option R} (h : U.1[a]? = some (59, 6)) (hk : k < 6) : ((aix U 59 (some a) (nI k)).bind fun q => (some (sR U q.1 q.2 v)).bind K) = K (sR U a k v) := by
  rw [aix_nI h hk (by omega), Option.bind_some, Option.bind_some]
theorem kB {U : Sp} {R : Type} {K : Nat → Option R} (h : U.1[a]? = some (10, 0)) : (isK U 10 (some a)).bind K = K a := by
  rw [isK_of h, Option.bind_some]
/-- a new Reading -/
theorem Re_init_ok (hF : WsFix S) (hrd : S.1.length = rd) (tks ij : Nat → Nat) {p2 : Int32} : ∃ T e, Re_init rd (some 8) p2 (mmNew S (10, 0) 8) (mmNewD S d) = bind2 (Re_next rd T e) (fun _ d28 => some ((), T, d28)) ∧ RdS T rd ∧ Ext S T ∧ (T.2.2.1 = S.2.2.1 + 8 ∧ T.2.2.2 = S.2.2.2 + 55 ∧ T.1.length = rd + 8) ∧ (∀ a, a < rd → e.1 a = d.1 a) ∧ (e.1 rd 2 = p2 ∧ ∀ j, j ≠ 2 → e.1 rd j = 0) ∧ (∀ j, e.1 (rd + 2) j = 0) ∧ PTd T rd ∧ ListT T e (rd + 3) (rd + 4) 5 0 tks ∧ ListT T e (rd + 5) (rd + 6) 18 0 ij := by
  have h35 : 35 ≤ rd := by rw [← hrd]; exact Ws_len hF
  obtain ⟨T1, hT1⟩ : ∃ T1, T1 = mmNew S (10, 0) 8 := ⟨_, rfl⟩
  obtain ⟨e1, he1⟩ : ∃ e1, e1 = mmNewD S d := ⟨_, rfl⟩
  have x1 : T1.1 = S.1 ++ [(10, 0)] := by rw [hT1]; rfl
  have n1 : T1.1.length = rd + 1 := by rw [x1, List.length_append, hrd]; rfl
  have r1 : ∀ a, a ≠ rd → T1.2.1 a = S.2.1 a := fun a ha => by rw [hT1]; exact z2_row (by omega)
  have d1 : ∀ a, a ≠ rd → e1.1 a = d.1 a := fun a ha => by rw [he1]; exact z2_row (by omega)
  have d1r : ∀ j, e1.1 rd j = 0 := fun j => by rw [he1, ← hrd]; exact if_pos rfl
  have c1 : T1.2.2.1 = S.2.2.1 + 1 ∧ T1.2.2.2 = S.2.2.2 + 8 := by rw [hT1]; exact ⟨rfl, rfl⟩
  obtain ⟨T2, hT2⟩ : ∃ T2, T2 = mmNew T1 (50 + 9, 6) 6 := ⟨_, rfl⟩
  obtain ⟨e2, he2⟩ : ∃ e2, e2 = mmNewD T1 e1 := ⟨_, rfl⟩
  have x2 : T2.1 = S.1 ++ [(10, 0), (59, 6)] := by
    have : T2.1 = T1.1 ++ [(59, 6)] := by rw [hT2]; rfl
    rw [this, x1, List.append_assoc]
    rfl
  have n2 : T2.1.length = rd + 2 := by rw [x2, List.length_append, hrd]; rfl
  have r2 : ∀ a, a ≠ rd + 1 → T2.2.1 a = T1.2.1 a := fun a ha => by rw [hT2]; exact z2_row (by omega)
  have d2 : ∀ a, a ≠ rd + 1 → e2.1 a = e1.1 a := fun a ha => by rw [he2]; exact z2_row (by omega)
  have c2 : T2.2.2.1 = S.2.2.1 + 2 ∧ T2.2.2.2 = S.2.2.2 + 14 := by
    have : T2.2.2.1 = T1.2.2.1 + 1 ∧ T2.2.2.2 = T1.2.2.2 + 6 := by rw [hT2]; exact ⟨rfl, rfl⟩
    omega
  have h59 : T2.1[rd + 1]? = some (59, 6) := by rw [← hrd]; exact at_app (k := 1) x2 rfl
  have h10 : T2.1[rd]? = some (10, 0) := by rw [← hrd]; exact at_app (k := 0) x2 rfl
  obtain ⟨X, hX⟩ : ∃ X, X = sR (sR (sR (sR (sR (sR (sR T2 (rd + 1) 0 (some (OPQ + 0))) (rd + 1) 1 (some (OPQ + 1))) (rd + 1) 2 (some (OPQ + 2))) (rd + 1) 3 (some (OPQ + 3))) (rd + 1) 4 (some (OPQ + 4))) (rd + 1) 5 (some (OPQ + 5))) rd 0 (some (rd + 1)) := ⟨_, rfl⟩
  have xX : X.1 = T2.1 := by rw [hX]
  have cX : X.2.2 = T2.2.2 := by rw [hX]
  have rX : ∀ a, a ≠ rd → a ≠ rd + 1 → X.2.1 a = T2.2.1 a := fun a h1 h2 => by
    rw [hX]
    exact (u2_row h1).trans ((u2_row h2).trans ((u2_row h2).trans ((u2_row h2).trans ((u2_row h2).trans ((u2_row h2).trans (u2_row h2))))))
  have rX0 : X.2.1 rd 0 = some (rd + 1) := by rw [hX]; exact u2_at
  have rXk : ∀ k, k < 6 → X.2.1 (rd + 1) k = some (OPQ + k) := fun k hk => by
    rw [hX]
    refine (congrFun (u2_row (by omega)) k).trans ?_
    by_cases k5 : k = 5
    · subst k5; exact u2_at
    refine (u2_ne (by omega)).trans ?_
    by_cases k4 : k = 4
    · subst k4; exact u2_at
    refine (u2_ne (by omega)).trans ?_
    by_cases k3 : k = 3
    · subst k3; exact u2_at
    refine (u2_ne (by omega)).trans ?_
    by_cases k2 : k = 2
    · subst k2; exact u2_at
    refine (u2_ne (by omega)).trans ?_
    by_cases k1 : k = 1
    · subst k1; exact u2_at
    refine (u2_ne (by omega)).trans ?_
    obtain rfl : k = 0 := by omega
    exact u2_at
  have nX : X.1.length = rd + 2 := by rw [xX, n2]
  obtain ⟨T3, hT3⟩ : ∃ T3, T3 = mmNew X (1, 0) 9 := ⟨_, rfl⟩
  obtain ⟨e3, he3⟩ : ∃ e3, e3 = mmNewD X e2 := ⟨_, rfl⟩
  have x3 : T3.1 = S.1 ++ [(10, 0), (59, 6), (1, 0)] := by
    have : T3.1 = X.1 ++ [(1, 0)] := by rw [hT3]; rfl
    rw [this, xX, x2, List.append_assoc]
    rfl
  have n3 : T3.1.length = rd + 3 := by rw [x3, List.length_append, hrd]; rfl
  have r3 : ∀ a, a ≠ rd + 2 → T3.2.1 a = X.2.1 a := fun a ha => by rw [hT3]; exact z2_row (by omega)
  have d3 : ∀ a, a ≠ rd + 2 → e3.1 a = e2.1 a := fun a ha => by rw [he3]; exact z2_row (by omega)
  have d3r : ∀ j, e3.1 (rd + 2) j = 0 := fun j => by rw [he3, ← nX]; exact if_pos rfl
  have c3 : T3.2.2.1 = S.2.2.1 + 3 ∧ T3.2.2.2 = S.2.2.2 + 23 := by
    have h1 : T3.2.2.1 = X.2.2.1 + 1 ∧ T3.2.2.2 = X.2.2.2 + 9 := by rw [hT3]; exact ⟨rfl, rfl⟩
    rw [cX] at h1
    omega
  have ht1 : T3.1[rd + 2]? = some (1, 0) := by rw [← hrd]; exact at_app (k := 2) x3 rfl
  obtain ⟨T4, e4, g1, g2, g3, g4, g5, g6, g7, g8, g9, g10, g11, g12, g13, g14, g15, g16⟩ := To_init_ok (e := e3) ht1 n3
  have x4 : T4.1 = S.1 ++ [(10, 0), (59, 6), (1, 0), (16, 0), (58, 5), (16, 0), (58, 18), (50, 3)] := by
    rw [g2, x3, List.append_assoc]
    rfl
  have n4 : T4.1.length = rd + 8 := by rw [x4, List.length_append, hrd]; rfl
  have c4 : T4.2.2.1 = S.2.2.1 + 8 ∧ T4.2.2.2 = S.2.2.2 + 55 := by rw [g3]; exact ⟨by show T3.2.2.1 + 5 = _; omega, by show T3.2.2.2 + 32 = _; omega⟩
  obtain ⟨Y, hY⟩ : ∃ Y, Y = sR (sR T4 rd 3 (some (rd + 2))) rd 1 (some 8) := ⟨_, rfl⟩
  obtain ⟨f, hf⟩ : ∃ f, f = dI e4 rd 2 p2 := ⟨_, rfl⟩
  have xY : Y.1 = T4.1 := by rw [hY]
  have cY : Y.2.2 = T4.2.2 := by rw [hY]
  have rY : ∀ a, a ≠ rd → Y.2.1 a = T4.2.1 a := fun a ha => by rw [hY]; exact (u2_row ha).trans (u2_row ha)
  have rYr : ∀ k, k ≠ 1 → k ≠ 3 → Y.2.1 rd k = T4.2.1 rd k := fun k h1 h3 => by rw [hY]; exact (u2_ne (fun z => h1 z.2)).trans (u2_ne (fun z => h3 z.2))
  have rY1 : Y.2.1 rd 1 = some 8 := by rw [hY]; exact u2_at
  have rY3 : Y.2.1 rd 3 = some (rd + 2) := by rw [hY]; exact (u2_ne (by omega)).trans u2_at
  have fr : ∀ a, a ≠ rd → f.1 a = e4.1 a := fun a ha => by rw [hf]; exact dI_ne ha
  have h104 : T4.1[rd]? = some (10, 0) := by rw [← hrd]; exact at_app (k := 0) x4 rfl
  have atY : ∀ k sh, [(10, 0), (59, 6), (1, 0), (16, 0), (58, 5), (16, 0), (58, 18), (50, 3)][k]? = some sh → Y.1[rd + k]? = some sh := fun k sh hk => by
    rw [xY, ← hrd]
    exact at_app x4 hk
  have hE : Ext S Y := by
    refine ⟨fun i hi => by rw [xY, x4, List.getElem?_append_left hi], fun a ha => ?_, by rw [xY, n4]; omega⟩
    rw [rY a (by omega), g4 a (by omega) (by omega), r3 a (by omega), rX a (by omega) (by omega), r2 a (by omega), r1 a (by omega)]
  refine ⟨Y, f, ?_, ⟨hF.ext hE, h35, atY 0 _ rfl, ?_, rY1, rY3, atY 1 _ rfl, fun k hk => ?_⟩, hE, ⟨by rw [cY]; exact c4.1, by rw [cY]; exact c4.2, by rw [xY]; exact n4⟩, fun a ha => ?_, ⟨by rw [hf]; exact dI_at, fun j hj => ?_⟩, fun j => ?_, ⟨atY 2 _ rfl, ?_, ?_, ?_, atY 7 _ rfl⟩, ⟨atY 3 _ rfl, ?_, atY 4 _ rfl, ?_, by omega, fun i hi => absurd hi (by omega), fun i _ _ => ?_⟩, ⟨atY 5 _ rfl, ?_, atY 6 _ rfl, ?_, by omega, fun i hi => absurd hi (by omega), fun i _ _ => ?_⟩⟩
  · unfold Re_init
    rw [← hT1, ← he1, show gn 6 = some 6 from gn_ok (n := 6) (by omega), Option.bind_some, bind2_some, n1, ← hT2, ← he2]
    refine (kA (k := 0) h59 (by omega)).trans ?_
    refine Eq.trans (kA (U := _) (a := rd + 1) (k := 1) (K := _) ?_ (by omega)) ?_
    · exact h59
    refine Eq.trans (kA (U := _) (a := rd + 1) (k := 2) (K := _) ?_ (by omega)) ?_
    · exact h59
    refine Eq.trans (kA (U := _) (a := rd + 1) (k := 3) (K := _) ?_ (by omega)) ?_
    · exact h59
    refine Eq.trans (kA (U := _) (a := rd + 1) (k := 4) (K := _) ?_ (by omega)) ?_
    · exact h59
    refine Eq.trans (kA (U := _) (a := rd + 1) (k := 5) (K := _) ?_ (by omega)) ?_
    · exact h59
    refine Eq.trans (kB (U := _) (a := rd) (K := _) ?_) ?_
    · exact h10
    rw [Option.bind_some, ← hX, bind2_some, nX, ← hT3, ← he3, g1, bind3_some]
    refine Eq.trans (kB (U := _) (a := rd) (K := _) ?_) ?_
    · exact h104
    rw [Option.bind_some]
    refine Eq.trans (kB (U := _) (a := rd) (K := _) ?_) ?_
    · exact h104
    rw [Option.bind_some, ← hY]
    refine Eq.trans (kB (U := _) (a := rd) (K := _) ?_) ?_
    · rw [xY]
      exact h104
    rw [Option.bind_some, ← hf]
  · rw [rYr 0 (by omega) (by omega), g4 rd (by omega) (by omega), r3 rd (by omega)]
    exact rX0
  · rw [rY _ (by omega), g4 (rd + 1) (by omega) (by omega), r3 (rd + 1) (by omega)]
    exact rXk k hk
  · rw [fr a (by omega), g13 a (by omega), d3 a (by omega), d2 a (by omega), d1 a (by omega)]
  · rw [hf, dI_nk (fun z => hj z.2), g13 rd (by omega), d3 rd (by omega), d2 rd (by omega)]
    exact d1r j
  · rw [fr _ (by omega), g13 _ (by omega)]
    exact d3r j
  · rw [rY _ (by omega)]; exact g6
  · rw [rY _ (by omega)]; exact g7
  · rw [rY _ (by omega)]; exact g8
  · rw [rY _ (by omega)]; exact g9
  · rw [fr _ (by omega)]; exact g14
  · rw [rY _ (by omega)]; exact g11 i
  · rw [rY _ (by omega)]; exact g10
  · rw [fr _ (by omega)]; exact g15
  · rw [rY _ (by omega)]; exact g12 i
/-- the model's beginning -/
theorem Mo_h30 : ∃ m', Mo_board_h30 0 MoS FU 0 m = bind2 (Mo_advance 0 MoS m') (fun _ d8 => Mo_board_h54 0 MoS FU d8) ∧ (∀ a, a ≠ 6 → m'.1 a = m.1 a) ∧ ∀ j, j < 201 → m'.1 6 j = 0 := by
  refine loop_FU (X := fun F (x : Int32 × Dt) => Mo_board_h30 0 MoS F x.1 x.2) (Inv := fun k x => x.1 = nI k ∧ (∀ a, a ≠ 6 → x.2.1 a = m.1 a) ∧ ∀ j, j < k → x.2.1 6 j = 0) (P := fun o => ∃ m', o = bind2 (Mo_advance 0 MoS m') (fun _ d8 => Mo_board_h54 0 MoS FU d8) ∧ (∀ a, a ≠ 6 → m'.1 a = m.1 a) ∧ ∀ j, j < 201 → m'.1 6 j = 0) (x := (0, m)) 201 (by omega) ⟨rfl, fun _ _ => rfl, fun j hj => absurd hj (by omega)⟩ ?_ ?_
  · rintro k hk F ⟨x1, x2⟩ ⟨h1, h2, h3⟩
    obtain rfl : x1 = nI k := h1
    refine ⟨(nI (k + 1), dI x2 6 k 0), ?_, rfl, fun a ha => (dI_ne ha).trans (h2 a ha), fun j hj => ?_⟩
    · show Mo_board_h30 0 MoS (F + 1) (nI k) x2 = Mo_board_h30 0 MoS F (nI (k + 1)) (dI x2 6 k 0)
      rw [Mo_board_h30, if_neg (show ¬ (201 : Int32) ≤ nI k from nI_ge (b := 201) hk (by omega)), Mo_K, Option.bind_some, Mf k hk, Option.bind_some, Option.bind_some, nI_1]
    · by_cases e : j = k
      · subst e
        exact dI_at
      · exact (dI_nk (fun z => e z.2)).trans (h3 j (by omega))
  · rintro F ⟨x1, x2⟩ ⟨h1, h2, h3⟩
    obtain rfl : x1 = nI 201 := h1
    refine ⟨x2, ?_, h2, h3⟩
    show Mo_board_h30 0 MoS (F + 1) (nI 201) x2 = _
    rw [Mo_board_h30, if_pos (show (201 : Int32) ≤ nI 201 from nI_le (a := 201) (Nat.le_refl _) (by omega)), Mo_K, Option.bind_some]
/-- the model's end -/
theorem Mo_h143 (hg : m.1 0 12 = 0) : ∃ m', Mo_board_b131 0 MoS m = some (m.1 6 7, m') ∧ (∀ a, a ≠ 1 → m'.1 a = m.1 a) ∧ ∀ j, j < 201 → m'.1 1 j = m.1 6 j := by
  unfold Mo_board_b131
  rw [Mo_K, Option.bind_some, good_1 hg, Option.bind_some, if_pos (show ¬ (1 : Int32) = 0 by decide)]
  refine loop_FU (X := fun F (x : Int32 × Dt) => Mo_board_h143 0 MoS F x.1 x.2) (Inv := fun k x => x.1 = nI k ∧ (∀ a, a ≠ 1 → x.2.1 a = m.1 a) ∧ ∀ j, j < k → x.2.1 1 j = m.1 6 j) (P := fun o => ∃ m', o = some (m.1 6 7, m') ∧ (∀ a, a ≠ 1 → m'.1 a = m.1 a) ∧ ∀ j, j < 201 → m'.1 1 j = m.1 6 j) (x := (0, m)) 201 (by omega) ⟨rfl, fun _ _ => rfl, fun j hj => absurd hj (by omega)⟩ ?_ ?_
  · rintro k hk F ⟨x1, x2⟩ ⟨h1, h2, h3⟩
    obtain rfl : x1 = nI k := h1
    refine ⟨(nI (k + 1), dI x2 1 k (x2.1 6 k)), ?_, rfl, fun a ha => (dI_ne ha).trans (h2 a ha), fun j hj => ?_⟩
    · show Mo_board_h143 0 MoS (F + 1) (nI k) x2 = Mo_board_h143 0 MoS F (nI (k + 1)) (dI x2 1 k (x2.1 6 k))
      rw [Mo_board_h143, if_neg (show ¬ (201 : Int32) ≤ nI k from nI_ge (b := 201) hk (by omega)), Mo_K, Option.bind_some, Mf k hk, Option.bind_some, Mw k hk, Option.bind_some, Option.bind_some, nI_1]
    · by_cases e : j = k
      · subst e
        exact dI_at.trans (congrFun (h2 6 (by omega)) j)
      · exact (dI_nk (fun z => e z.2)).trans (h3 j (by omega))
  · rintro F ⟨x1, x2⟩ ⟨h1, h2, h3⟩
    obtain rfl : x1 = nI 201 := h1
    refine ⟨x2, ?_, h2, h3⟩
    show Mo_board_h143 0 MoS (F + 1) (nI 201) x2 = _
    rw [Mo_board_h143, if_pos (show (201 : Int32) ≤ nI 201 from nI_le (a := 201) (Nat.le_refl _) (by omega)), Mo_K, Option.bind_some, show aix MoS 50 (MoS.2.1 0 1) 7 = some (1, 7) from Mw 7 (by omega), Option.bind_some, h3 7 (by omega)]
/-- what has been read is a Told -/
theorem PT.told (h : PT S d w rd nw nt ni nd tks ij) (h35 : 35 ≤ rd) (hh : HD w ln nw nt ni) (hl : ln ≤ 1000) (h1 : ∀ t, t < nt → 1 ≤ nd t) : TdOk S d w ((rd + 2, rd + 3, rd + 4, 5, rd + 5, rd + 6, 18, rd + 7), tks, ij, (nw, nt, ni, 0), nd) := by
  obtain ⟨⟨p1, p2, p3, p4, p5⟩, hL, hK, hT, hI, ⟨y1, y2, y3, y4, y5, y6, y7⟩, ⟨x1, x2, x3, x4, x5, x6, x7⟩⟩ := h
  obtain ⟨z1, ⟨h9, cy, lo9, u1, u2', u3, u4, u5, u6, u7⟩, z3⟩ := hh
  refine ⟨p1, p2, p3, p4, ⟨p5, by show rd + 7 ≠ 18; omega, by show rd + 7 ≠ 19; omega⟩, hL, hK, ⟨by show 5 ≤ 5; omega, by show 5 ≤ 60; omega⟩, ⟨by show 18 ≤ 18; omega, by show 18 ≤ 60; omega⟩, fun t ht => (hT t ht).1, hI, y1, y2, y3, y4, y5, y6, y7, x1, x2, ⟨x3.1, x3.2.2, Nat.zero_le _, x3.2.1, Nat.zero_le 11⟩, ⟨h9, cy, lo9, ln, u1, u2', u3, u4, u5, u6, z1, hl, u7, z3⟩, x4, fun t ht => ?_, x6⟩
  obtain ⟨g1, g2, g3⟩ := x5 t ht
  exact ⟨⟨h1 t ht, g1⟩, g2, g3⟩
end
