/-! THE PLAIN LAW: queries of a run -/
set_option maxRecDepth 100000
theorem nI_nn {x : Int32} (h : ¬ x < 0) : ∃ j, j < 2 ^ 31 ∧ x = nI j := by
  have h0 : 0 ≤ x.toInt := by
    have := Int32.not_lt.mp h
    exact Int32.le_iff_toInt_le.mp this
  have h1 := Int32.toInt_lt x
  refine ⟨x.toInt.toNat, by omega, Int32.toInt_inj.mp ?_⟩
  rw [nI_toInt (by omega)]
  omega
theorem Kt.m {S T : Sp} {d d' m m' : Dt} {c s : Nat} (h : Kt S d m T d' m' c s) : Kt S d m S d m' 0 0 := ⟨Ext.rf, by omega, Kp.rf, Kc.rf, h.2.2.2.2.1, rfl, rfl⟩
theorem Kt.comb {S T U : Sp} {d d' d'' m m' m'' : Dt} {c s c' s' : Nat} (h : Kt S d m T d' m' c s) (g : Kt S d m U d'' m'' c' s') : Kt S d m T d' m'' c s := ⟨h.1, h.2.1, h.2.2.1, h.2.2.2.1, g.2.2.2.2.1, h.2.2.2.2.2⟩
section
variable {n : Nat} {S S1 : Sp} {d d1 d2 m f2 : Dt} {w : Nat → Int32} {q : TdP} {p p1 p2 : Int32}
theorem CE.brd (h : CE S d w q) (h0 : 0 < q.nt ∨ 0 < q.ni ∨ 0 < q.nw) : ¬ w 7 ≤ 0 := by
  obtain ⟨-, -, -, ⟨hh, cy, lo, ln, -, -, -, -, -, -, l1, l2, -, l3⟩, -⟩ := h.wf
  intro c
  by_cases c0 : ln = 0
  · have := l3 c0
    omega
  · rw [l1] at c
    exact absurd c (nI_ge (a := 0) (by omega) (by omega))
theorem CE.isW (h : CE S d w q) : To_is q.a S d = some (if w 7 ≤ 0 then 0 else 1) := h.is
/-- what a query of all ticks meets -/
theorem all_eq (hR : Rel n S1 d1 MoS d2) : ∃ q, CE S1 d1 (mw d2) q ∧ ((mw d2 7 ≤ 0 ∧ Mo_asks 0 MoS d2 = some (0, tld d2 (-1)) ∧ Rel (n + 1) S1 d1 MoS (tld d2 (-1))) ∨ ∃ S' f1 f2 H r b h9, ¬ mw d2 7 ≤ 0 ∧ mw d2 0 = nI h9 ∧ h9 ≤ 200 ∧ Ws_all 0 (-1) S1 d1 = some (nI r, S', f1) ∧ Mo_asks 0 MoS d2 = some (1, f2) ∧ f2.1 0 56 = nI r ∧ Run S1 d1 (tld d2 (-1)) (mw d2) q (-1) H h9 r b S' f1 f2 ∧ r ≤ 2200 ∧ RE S' f1 f2 (mw d2) q (opN (mw d2)) (clN (mw d2)) ∧ Rel (n + 1) S' f1 MoS f2 ∧ Rel (n + 1) S1 d1 MoS f2) := by
  obtain ⟨-, q, hF, hN, hC⟩ := rel_at hR
  refine ⟨q, hC, ?_⟩
  by_cases hb : mw d2 7 ≤ 0
  · exact Or.inl ⟨hb, asks_no hb, tld_kt.rel hR (by omega) (by omega)⟩
  · obtain ⟨S', f1, f2, H, r, b, h9, s1, s2, s3, s4, s5, s6, s7, s8, s9⟩ := all1 (p2 := -1) hN hF hb
    exact Or.inr ⟨S', f1, f2, H, r, b, h9, hb, s1, s2, s3, asks_yes hb s4 s9.row, s5, s6, s7, s8, s9.rel hR (by omega) (by omega), s9.m.rel hR (by omega) (by omega)⟩
theorem PL_34_Rel : PL_34 Rel := by
  intro n S1 d1 S2 d2 p1 hn hR
  have hU := hR.up
  obtain ⟨rfl, q0, hF, hN, hC⟩ := rel_at hR
  unfold Ws_faults_2 Mo_faults
  rw [hC.K, Option.bind_some, Mo_K, Option.bind_some]
  rcases at_eq hR p1 with ⟨a1, a2⟩ | ⟨q, k, S', f1, f2, H, r, b, a1, a2, a3, a4, a5, a6, a7, a8, a9, a10, a11⟩
  · rw [a1, Option.bind_some, if_neg (show ¬ ¬ (0 : Int32) = 0 from fun z => z rfl), a2, bind2_some, if_pos rfl]
    exact ⟨_, _, _, _, rfl, rfl, hU⟩
  · have hrc := RT.rcr a8
    rw [a5, Option.bind_some, if_pos (show ¬ (1 : Int32) = 0 by decide), a6, bind3_some, a10.C.K, Option.bind_some, a7, bind2_some, if_neg (show ¬ (1 : Int32) = 0 by decide), hrc.1, hrc.2.1]
    exact ⟨_, _, _, _, rfl, rfl, a11⟩
theorem PL_21_Rel : PL_21 Rel := by
  intro n S1 d1 S2 d2 p1 hn hR
  have hU := hR.up
  obtain ⟨rfl, q0, hF, hN, hC⟩ := rel_at hR
  unfold Ws_idle Mo_idle
  rw [hC.K, Option.bind_some, Mo_K, Option.bind_some]
  rcases at_eq hR p1 with ⟨a1, a2⟩ | ⟨q, k, S', f1, f2, H, r, b, rfl, a2, a3, a4, a5, a6, a7, a8, a9, a10, a11⟩
  · rw [a1, Option.bind_some, if_neg (show ¬ ¬ (0 : Int32) = 0 from fun z => z rfl), a2, bind2_some, if_neg (show ¬ ¬ (0 : Int32) = 0 from fun z => z rfl)]
    exact ⟨_, _, _, _, rfl, rfl, hU⟩
  · rw [a5, Option.bind_some, if_pos (show ¬ (1 : Int32) = 0 by decide), a6, bind3_some, a7, bind2_some, if_pos (show ¬ (1 : Int32) = 0 by decide)]
    have hh := RT.hdr a8
    refine loop2_FU (X := fun F (x : Int32 × Int32) => Ws_idle_h21 0 (nI k) F x.1 x.2 S' f1) (Y := fun F (x : Int32 × Int32) => Mo_idle_h15 0 (nI k) MoS F x.1 x.2 f2) (Inv := fun i x y => x.2 = nI i ∧ y = x) (P := fun o p => ∃ (a : Int32) (T1 : Sp) (b1 b2 : Dt), o = some (a, T1, b1) ∧ p = some (a, b2) ∧ Rel (n + 1) T1 b1 MoS b2) (x := (0, 0)) (y := (0, 0)) k (by omega) ⟨rfl, rfl⟩ ?_ ?_
    · rintro i hi F G ⟨x, y⟩ z ⟨hx, rfl⟩
      have hx' : y = nI i := hx
      subst hx'
      have hv := ((hh i (by omega)).1 hi).1
      refine Or.inl ⟨(x + (if ¬ f1.1 17 i = -1 then 0 else 1), nI (i + 1)), (x + (if ¬ f1.1 17 i = -1 then 0 else 1), nI (i + 1)), ?_, ?_, rfl, rfl⟩
      · show Ws_idle_h21 0 (nI k) (F + 1) x (nI i) S' f1 = _
        rw [Ws_idle_h21, if_neg (nI_ge hi (by omega)), a10.C.K, Option.bind_some, cr13 a10.C.F, ca17 a10.C.F (show i < 200 by omega), Option.bind_some]
        unfold Ws_idle_b42
        rw [Option.bind_some, nI_1]
      · show Mo_idle_h15 0 (nI k) MoS (G + 1) x (nI i) f2 = _
        rw [Mo_idle_h15, if_neg (nI_ge hi (by omega)), Mo_K, Option.bind_some, MoS_R0_51, ma37 (show i < 200 by omega), Option.bind_some]
        unfold Mo_idle_b36
        rw [Option.bind_some, nI_1, hv]
    · rintro F G ⟨x, y⟩ z ⟨hx, rfl⟩
      have hx' : y = nI k := hx
      subst hx'
      refine ⟨x, S', f1, f2, ?_, ?_, a11⟩
      · show Ws_idle_h21 0 (nI k) (F + 1) x (nI k) S' f1 = _
        rw [Ws_idle_h21, if_pos (nI_le (Nat.le_refl _) (by omega))]
      · show Mo_idle_h15 0 (nI k) MoS (G + 1) x (nI k) f2 = _
        rw [Mo_idle_h15, if_pos (nI_le (Nat.le_refl _) (by omega))]
theorem PL_38_Rel : PL_38 Rel := by
  intro n S1 d1 S2 d2 p1 p2 hn hR
  have hU := hR.up
  obtain ⟨rfl, q0, hF, hN, hC⟩ := rel_at hR
  unfold Ws_levels Mo_levels
  rw [hC.K, Option.bind_some, show (3 : Int64) = (3 : Int32).toInt64 from rfl, Mo_in0, Option.bind_some, Mo_K, Option.bind_some]
  rcases at_eq hR p2 with ⟨a1, a2⟩ | ⟨q, k, S', f1, f2, H, r, b, rfl, a2, a3, a4, a5, a6, a7, a8, a9, a10, a11⟩
  · rw [a1, Option.bind_some, if_pos rfl]
    rcases inI_01 p1 0 3 with e | e
    · rw [e, if_pos rfl]
      exact ⟨_, _, _, _, rfl, rfl, hU⟩
    · rw [e, if_neg (show ¬ (1 : Int32) = 0 by decide), a2, bind2_some, if_neg (show ¬ ¬ (0 : Int32) = 0 from fun z => z rfl)]
      exact ⟨_, _, _, _, rfl, rfl, hU⟩
  rw [a5, Option.bind_some, if_neg (show ¬ (1 : Int32) = 0 by decide), Ws_in0, Option.bind_some]
  rcases inI_01 p1 0 3 with e | e
  · rw [e, if_pos rfl, if_neg (show ¬ ¬ (0 : Int32) = 0 from fun z => z rfl)]
    exact ⟨_, _, _, _, rfl, rfl, hU⟩
  rw [e, if_neg (show ¬ (1 : Int32) = 0 by decide), if_pos (show ¬ (1 : Int32) = 0 by decide), a6, bind3_some, a7, bind2_some, if_pos (show ¬ (1 : Int32) = 0 by decide)]
  have hrc := RT.rcr a8
  refine loop2_FU (X := fun F (x : Int32 × Int32) => Ws_levels_h34 0 p1 (nI k) F x.1 x.2 S' f1) (Y := fun F (x : Int32 × Int32) => Mo_levels_h28 0 p1 (nI k) MoS F x.1 x.2 f2) (Inv := fun i x y => x.2 = nI i ∧ y = x) (P := fun o p => ∃ (a : Int32) (T1 : Sp) (b1 b2 : Dt), o = some (a, T1, b1) ∧ p = some (a, b2) ∧ Rel (n + 1) T1 b1 MoS b2) (x := (0, 0)) (y := (0, 0)) r (by omega) ⟨rfl, rfl⟩ ?_ ?_
  · rintro i hi F G ⟨x, y⟩ z ⟨hx, rfl⟩
    have hx' : y = nI i := hx
    subst hx'
    have hv := (hrc.2.2 i hi).1.2.2.2
    refine Or.inl ⟨(x + (if ¬ f1.1 24 i = p1 then 0 else 1), nI (i + 1)), (x + (if ¬ f1.1 24 i = p1 then 0 else 1), nI (i + 1)), ?_, ?_, rfl, rfl⟩
    · show Ws_levels_h34 0 p1 (nI k) (F + 1) x (nI i) S' f1 = _
      rw [Ws_levels_h34, a10.C.K, Option.bind_some, hrc.1, if_neg (nI_ge hi (by omega)), cr20 a10.C.F, ca24 a10.C.F (show i < 3000 by omega), Option.bind_some]
      unfold Ws_levels_b60
      rw [Option.bind_some, nI_1]
    · show Mo_levels_h28 0 p1 (nI k) MoS (G + 1) x (nI i) f2 = _
      rw [Mo_levels_h28, Mo_K, Option.bind_some, hrc.2.1, if_neg (nI_ge hi (by omega)), MoS_R0_55, ma41 (show i < 4000 by omega), Option.bind_some]
      unfold Mo_levels_b54
      rw [Option.bind_some, nI_1, hv]
  · rintro F G ⟨x, y⟩ z ⟨hx, rfl⟩
    have hx' : y = nI r := hx
    subst hx'
    refine ⟨x, S', f1, f2, ?_, ?_, a11⟩
    · show Ws_levels_h34 0 p1 (nI k) (F + 1) x (nI r) S' f1 = _
      rw [Ws_levels_h34, a10.C.K, Option.bind_some, hrc.1, if_pos (nI_le (Nat.le_refl _) (by omega))]
    · show Mo_levels_h28 0 p1 (nI k) MoS (G + 1) x (nI r) f2 = _
      rw [Mo_levels_h28, Mo_K, Option.bind_some, hrc.2.1, if_pos (nI_le (Nat.le_refl _) (by omega))]
theorem PL_40_Rel : PL_40 Rel := by
  intro n S1 d1 S2 d2 p1 p2 hn hR
  have hU := hR.up
  obtain ⟨rfl, q0, hF, hN, hC⟩ := rel_at hR
  have h3 := hC.nw3
  unfold Ws_sleeps Mo_sleeps
  rw [hC.K, Option.bind_some, hC.T, Option.bind_some, Mo_K, Option.bind_some, hC.nwF, Ws_in0, Option.bind_some, Mo_isWatcher_eq, Option.bind_some, hC.wf.1.1]
  rcases inI_nI (x := p1) (n := q0.nw) (by omega) with ⟨z, -⟩ | ⟨v, v1, v2, z⟩
  · rw [z, if_pos rfl, if_pos rfl]
    exact ⟨_, _, _, _, rfl, rfl, hU⟩
  rw [z, if_neg (show ¬ (1 : Int32) = 0 by decide), if_neg (show ¬ (1 : Int32) = 0 by decide)]
  rcases at_eq hR p2 with ⟨a1, a2⟩ | ⟨q, k, S', f1, f2, H, r, b, a1, a2, a3, a4, a5, a6, a7, a8, a9, a10, a11⟩
  · rw [a1, Option.bind_some, if_neg (show ¬ ¬ (0 : Int32) = 0 from fun z => z rfl), a2, bind2_some, if_neg (show ¬ ¬ (0 : Int32) = 0 from fun z => z rfl)]
    exact ⟨_, _, _, _, rfl, rfl, hU⟩
  have hnw : q.nw = q0.nw := by
    have e : nI q.nw = nI q0.nw := a4.wf.1.1.symm.trans hC.wf.1.1
    have := a4.nw3
    exact (nI_eq (by omega) (by omega)).mp e
  obtain ⟨x, x1, x2, x3⟩ := asleep_eq a10 (v := v) (by omega) (RT.slr a8) (T := p2)
  rw [a5, Option.bind_some, if_pos (show ¬ (1 : Int32) = 0 by decide), a6, bind3_some, a10.C.K, Option.bind_some, v2, x1, Option.bind_some, a7, bind2_some, if_pos (show ¬ (1 : Int32) = 0 by decide), x2, Option.bind_some]
  rcases x3 with rfl | rfl
  · rw [if_pos rfl, if_pos rfl]
    exact ⟨_, _, _, _, rfl, rfl, a11⟩
  · rw [if_neg (show ¬ (1 : Int32) = 0 by decide), if_neg (show ¬ (1 : Int32) = 0 by decide)]
    exact ⟨_, _, _, _, rfl, rfl, a11⟩
theorem PL_39_Rel : PL_39 Rel := by
  intro n S1 d1 S2 d2 hn hR
  have hU := hR.up
  obtain ⟨rfl, q0, hF, hN, hC⟩ := rel_at hR
  unfold Ws_halts Mo_halts
  rw [hC.K, Option.bind_some, hC.T, Option.bind_some, hC.is, Option.bind_some, Mo_K, Option.bind_some]
  obtain ⟨q, hq, ⟨hb, a1, a2⟩ | ⟨S', f1, f2, H, r, b, h9, hb, a1, a2, a3, a4, a5, a6, a7, a8, a9, a10⟩⟩ := all_eq hR
  · rw [if_pos hb, if_neg (show ¬ ¬ (0 : Int32) = 0 from fun z => z rfl), a1, bind2_some, if_pos rfl]
    exact ⟨_, _, _, _, rfl, rfl, a2⟩
  · have hbd := RT.bdr a6
    rw [if_neg hb, if_pos (show ¬ (1 : Int32) = 0 by decide), a3, bind3_some, a8.C.K, Option.bind_some, a4, bind2_some, if_neg (show ¬ (1 : Int32) = 0 by decide), hbd.2.2.2.1]
    exact ⟨_, _, _, _, rfl, rfl, a9⟩
theorem PL_37_Rel : PL_37 Rel := by
  intro n S1 d1 S2 d2 p1 hn hR
  have hU := hR.up
  obtain ⟨rfl, q0, hF, hN, hC⟩ := rel_at hR
  unfold Ws_kinds Mo_kinds
  rw [hC.K, Option.bind_some, hC.T, Option.bind_some, hC.is, Option.bind_some, show (7 : Int64) = (7 : Int32).toInt64 from rfl, show (1 : Int64) = (1 : Int32).toInt64 from rfl, Mo_in_eq, Option.bind_some, Mo_K, Option.bind_some]
  obtain ⟨q, hq, ⟨hb, a1, a2⟩ | ⟨S', f1, f2, H, r, b, h9, hb, a1, a2, a3, a4, a5, a6, a7, a8, a9, a10⟩⟩ := all_eq hR
  · rw [if_pos hb, if_pos rfl]
    rcases inI_01 p1 1 7 with e | e
    · rw [e, if_pos rfl]
      exact ⟨_, _, _, _, rfl, rfl, hU⟩
    · rw [e, if_neg (show ¬ (1 : Int32) = 0 by decide), a1, bind2_some, if_neg (show ¬ ¬ (0 : Int32) = 0 from fun z => z rfl)]
      exact ⟨_, _, _, _, rfl, rfl, a2⟩
  rw [if_neg hb, if_neg (show ¬ (1 : Int32) = 0 by decide), Ws_in_eq, Option.bind_some]
  rcases inI_01 p1 1 7 with e | e
  · rw [e, if_pos rfl, if_neg (show ¬ ¬ (0 : Int32) = 0 from fun z => z rfl)]
    exact ⟨_, _, _, _, rfl, rfl, hU⟩
  rw [e, if_neg (show ¬ (1 : Int32) = 0 by decide), if_pos (show ¬ (1 : Int32) = 0 by decide), a3, bind3_some, a4, bind2_some, if_pos (show ¬ (1 : Int32) = 0 by decide)]
  have hrc := RT.rcr a6
  refine loop2_FU (X := fun F (x : Int32 × Int32) => Ws_kinds_h36 0 p1 F (nI r) x.1 x.2 S' f1) (Y := fun F (x : Int32 × Int32) => Mo_kinds_h26 0 p1 MoS F x.1 x.2 f2) (Inv := fun i x y => x.2 = nI i ∧ y = x) (P := fun o p => ∃ (a : Int32) (T1 : Sp) (b1 b2 : Dt), o = some (a, T1, b1) ∧ p = some (a, b2) ∧ Rel (n + 1) T1 b1 MoS b2) (x := (0, 0)) (y := (0, 0)) r (by omega) ⟨rfl, rfl⟩ ?_ ?_
  · rintro i hi F G ⟨x, y⟩ z ⟨hx, rfl⟩
    have hx' : y = nI i := hx
    subst hx'
    have hv := (hrc.2.2 i hi).1.2.1
    refine Or.inl ⟨(x + (if ¬ f1.1 22 i = p1 then 0 else 1), nI (i + 1)), (x + (if ¬ f1.1 22 i = p1 then 0 else 1), nI (i + 1)), ?_, ?_, rfl, rfl⟩
    · show Ws_kinds_h36 0 p1 (F + 1) (nI r) x (nI i) S' f1 = _
      rw [Ws_kinds_h36, if_neg (nI_ge hi (by omega)), a8.C.K, Option.bind_some, cr18 a8.C.F, ca22 a8.C.F (show i < 3000 by omega), Option.bind_some]
      unfold Ws_kinds_b59
      rw [Option.bind_some, nI_1]
    · show Mo_kinds_h26 0 p1 MoS (G + 1) x (nI i) f2 = _
      rw [Mo_kinds_h26, Mo_K, Option.bind_some, hrc.2.1, if_neg (nI_ge hi (by omega)), MoS_R0_53, ma39 (show i < 4000 by omega), Option.bind_some]
      unfold Mo_kinds_b50
      rw [Option.bind_some, nI_1, hv]
  · rintro F G ⟨x, y⟩ z ⟨hx, rfl⟩
    have hx' : y = nI r := hx
    subst hx'
    refine ⟨x, S', f1, f2, ?_, ?_, a9⟩
    · show Ws_kinds_h36 0 p1 (F + 1) (nI r) x (nI r) S' f1 = _
      rw [Ws_kinds_h36, if_pos (nI_le (Nat.le_refl _) (by omega))]
    · show Mo_kinds_h26 0 p1 MoS (G + 1) x (nI r) f2 = _
      rw [Mo_kinds_h26, Mo_K, Option.bind_some, hrc.2.1, if_pos (nI_le (Nat.le_refl _) (by omega))]
theorem PL_35_Rel : PL_35 Rel := by
  intro n S1 d1 S2 d2 p1 p2 hn hR
  have hU := hR.up
  obtain ⟨rfl, q0, hF, hN, hC⟩ := rel_at hR
  unfold Ws_record Mo_record
  rw [hC.K, Option.bind_some, hC.T, Option.bind_some, hC.is, Option.bind_some, show (3 : Int64) = (3 : Int32).toInt64 from rfl, Mo_in0, Option.bind_some, Mo_K, Option.bind_some]
  obtain ⟨q, hq, ⟨hb, a1, a2⟩ | ⟨S', f1, f2, H, r, b, h9, hb, a1, a2, a3, a4, a5, a6, a7, a8, a9, a10⟩⟩ := all_eq hR
  · rw [if_pos hb, if_pos rfl]
    by_cases c : p1 < 0
    · rw [if_pos c]
      exact ⟨_, _, _, _, rfl, rfl, hU⟩
    rw [if_neg c]
    rcases inI_01 p2 0 3 with e | e
    · rw [e, if_pos rfl]
      exact ⟨_, _, _, _, rfl, rfl, hU⟩
    · rw [e, if_neg (show ¬ (1 : Int32) = 0 by decide), a1, bind2_some, if_neg (show ¬ ¬ (0 : Int32) = 0 from fun z => z rfl)]
      exact ⟨_, _, _, _, rfl, rfl, a2⟩
  rw [if_neg hb, if_neg (show ¬ (1 : Int32) = 0 by decide)]
  by_cases c : p1 < 0
  · rw [if_pos c, if_pos c]
    exact ⟨_, _, _, _, rfl, rfl, hU⟩
  rw [if_neg c, if_neg c, Ws_in0, Option.bind_some]
  rcases inI_01 p2 0 3 with e | e
  · rw [e, if_pos rfl, if_neg (show ¬ ¬ (0 : Int32) = 0 from fun z => z rfl)]
    exact ⟨_, _, _, _, rfl, rfl, hU⟩
  have hrc := RT.rcr a6
  rw [e, if_neg (show ¬ (1 : Int32) = 0 by decide), if_pos (show ¬ (1 : Int32) = 0 by decide), a3, bind3_some, a4, bind2_some, if_pos (show ¬ (1 : Int32) = 0 by decide), hrc.2.1]
  obtain ⟨j, j1, rfl⟩ := nI_nn c
  by_cases c1 : j < r
  · obtain ⟨⟨v1, v2, v3, v4⟩, -⟩ := hrc.2.2 j c1
    have hj3 : j < 3000 := by omega
    have hj4 : j < 4000 := by omega
    rw [if_pos (nI_lt c1 (by omega)), if_pos (nI_lt c1 (by omega)), a8.C.K]
    simp only [Option.bind_some]
    rw [cr17 a8.C.F, cr18 a8.C.F, cr19 a8.C.F, cr20 a8.C.F, ca21 a8.C.F hj3, ca22 a8.C.F hj3, ca23 a8.C.F hj3, ca24 a8.C.F hj3, MoS_R0_52, MoS_R0_53, MoS_R0_54, MoS_R0_55, ma38 hj4, ma39 hj4, ma40 hj4, ma41 hj4]
    simp only [Option.bind_some]
    rw [v1, v2, v3, v4]
    by_cases e0 : p2 = 0
    · simp only [e0, not_true_eq_false, ↓reduceIte]
      exact ⟨_, _, _, _, rfl, rfl, a9⟩
    by_cases e1 : p2 = 1
    · simp only [e1, not_true_eq_false, ↓reduceIte, show ¬ (1 : Int32) = 0 by decide, not_false_eq_true]
      exact ⟨_, _, _, _, rfl, rfl, a9⟩
    by_cases e2 : p2 = 2
    · simp only [e2, not_true_eq_false, ↓reduceIte, show ¬ (2 : Int32) = 0 by decide, show ¬ (2 : Int32) = 1 by decide, not_false_eq_true]
      exact ⟨_, _, _, _, rfl, rfl, a9⟩
    · simp only [e0, e1, e2, ↓reduceIte, not_false_eq_true]
      exact ⟨_, _, _, _, rfl, rfl, a9⟩
  · rw [if_neg (nI_nlt (by omega) (by omega)), if_neg (nI_nlt (by omega) (by omega))]
    exact ⟨_, _, _, _, rfl, rfl, a9⟩
theorem PL_24_Rel : PL_24 Rel := by
  intro n S1 d1 S2 d2 p1 p2 hn hR
  have hU := hR.up
  obtain ⟨rfl, q, hF, hN, hC⟩ := rel_at hR
  have h5 := hC.nt5
  unfold Mo_gap
  rw [Mo_K, Option.bind_some, Mo_isTask_eq, Option.bind_some, hC.wf.2.1.1]
  unfold Ws_gap
  rw [hC.K, Option.bind_some, hC.isTask, Option.bind_some]
  rcases inI_nI (x := p1) (n := q.nt) (by omega) with ⟨z, -⟩ | ⟨t, t1, rfl, z⟩
  · rw [z, if_pos rfl, if_pos rfl]
    exact ⟨_, _, _, _, rfl, rfl, hU⟩
  rw [z, if_neg (show ¬ (1 : Int32) = 0 by decide), if_neg (show ¬ (1 : Int32) = 0 by decide)]
  by_cases c : p2 < 0
  · rw [if_pos c, if_neg (show ¬ 0 ≤ p2 from fun y => Int32.not_lt.mpr y c)]
    exact ⟨_, _, _, _, rfl, rfl, hU⟩
  rw [if_neg c, if_pos (Int32.not_lt.mp c)]
  obtain ⟨j, j1, rfl⟩ := nI_nn c
  have hb := hC.brd (by omega)
  have k5 : Kt S1 d1 d2 S1 (dI (dI (dI d1 0 29 (nI t)) 0 30 (nI j)) 0 31 (-1)) d2 0 0 := ((Kt.dC (by omega)).tr (Kt.dC (by omega))).tr (Kt.dC (by omega))
  have e29 : (dI (dI (dI d1 0 29 (nI t)) 0 30 (nI j)) 0 31 (-1)).1 0 29 = nI t := by rw [dI_nk (by omega), dI_nk (by omega), dI_at]
  have e30 : (dI (dI (dI d1 0 29 (nI t)) 0 30 (nI j)) 0 31 (-1)).1 0 30 = nI j := by rw [dI_nk (by omega), dI_at]
  have e31 : (dI (dI (dI d1 0 29 (nI t)) 0 30 (nI j)) 0 31 (-1)).1 0 31 = -1 := dI_at
  rw [Option.bind_some, Option.bind_some, Option.bind_some]
  generalize hd5 : dI (dI (dI d1 0 29 (nI t)) 0 30 (nI j)) 0 31 (-1) = d5 at k5 e29 e30 e31
  obtain ⟨S', f1, f2, H, r, b, h9, s1, s2, s3, s4, s5, s6, s7, s8, s9⟩ := all1 (p2 := -1) (k5.relN hN hF) hF hb
  have hgp := RT.gpr s6
  have h29 : f1.1 0 29 = nI t := by
    have := s6.2.1.1.2 29 (by omega)
    rw [this, dI_nk (by omega)]
    exact e29
  obtain ⟨g, g1, g2, g3, g4, g5⟩ := hgp t t1 h29
  have hrel : Rel (n + 1) S' f1 MoS f2 := (k5.tr s9).rel hR (by omega) (by omega)
  rw [s3, bind3_some, s8.C.K, Option.bind_some, asks_yes hb s4 s9.row, bind2_some, if_pos (show ¬ (1 : Int32) = 0 by decide), MoS_R0_41, ma27 (show t < 5 by omega), Option.bind_some, g2]
  by_cases c1 : g ≤ j
  · rw [if_pos (nI_le c1 (by omega)), g5 (fun i hi y => by rw [e30] at y; have := (nI_eq (by omega) (by omega)).mp y; omega), e31]
    exact ⟨_, _, _, _, rfl, rfl, hrel⟩
  · rw [if_neg (nI_ge (by omega) (by omega)), g4 j (by omega) e30, MoS_R0_46, show (200 : Int32) * nI t + nI j = nI (200 * t + j) from by rw [nlit, nI_mul, nI_add], ma32 (show 200 * t + j < 1000 by omega), Option.bind_some]
    exact ⟨_, _, _, _, rfl, rfl, hrel⟩
theorem PL_20_Rel : PL_20 Rel := by
  intro n S1 d1 S2 d2 p1 hn hR
  have hU := hR.up
  obtain ⟨rfl, q, hF, hN, hC⟩ := rel_at hR
  obtain ⟨h9, y1, y2, y3⟩ := hC.hF
  unfold Ws_had Mo_had
  rw [hC.K, Option.bind_some, hC.T, Option.bind_some, hC.is, Option.bind_some, Mo_K, Option.bind_some, y3, Ws_in0, Option.bind_some]
  by_cases hb : mw d2 7 ≤ 0
  · rw [if_pos hb, if_pos rfl, asks_no hb, bind2_some, if_pos rfl]
    exact ⟨_, _, _, _, rfl, rfl, tld_kt.rel hR (by omega) (by omega)⟩
  rw [if_neg hb, if_neg (show ¬ (1 : Int32) = 0 by decide)]
  have e0 : aix MoS 50 (MoS.2.1 0 1) 0 = some (1, 0) := Mw 0 (by omega)
  have hM : ∀ f2, Mo_runs 0 (nI h9) MoS (tld d2 (-1)) = some ((), f2) → mw f2 = mw d2 → Mo_asks 0 MoS d2 = some (1, f2) := fun f2 h1 h2 => asks_yes hb (by rw [y1]; exact h1) h2
  rcases inI_nI (x := p1) (n := h9) (by omega) with ⟨z, -⟩ | ⟨k, k1, rfl, z⟩
  · obtain ⟨S', f1, f2, H, r, b, s1, s2, s3, s4, s5, s6⟩ := run1 (p2 := -1) hN hF hb (p := h9) (by omega)
    have e1 : f2.1 1 0 = nI h9 := (congrFun s6.row 0).trans y1
    rw [z, if_neg (show ¬ ¬ (0 : Int32) = 0 from fun z => z rfl), hM f2 s2 s6.row, bind2_some, if_neg (show ¬ (1 : Int32) = 0 by decide), e0, Option.bind_some, e1, Mo_in0, Option.bind_some, z, if_pos rfl]
    exact ⟨_, _, _, _, rfl, rfl, s6.m.rel hR (by omega) (by omega)⟩
  · have h0 := hN.re0 hF (p2 := -1)
    obtain ⟨S', f1, f2, H, r, b, T, g1, g2, H', r', b', s1, s2, s3, s4, s5, s6⟩ := runs_two h0 hb (p := k + 1) (P := h9) (by omega) (by omega)
    have k1' : Kt S1 d1 d2 S' f1 f2 3 18 := (tld_kt.tr (RT.kt s3 (Ws_len hF) rfl)).mono (by omega) (by omega)
    have k2' : Kt S1 d1 d2 T g1 g2 3 18 := (tld_kt.tr (RT.kt s4 (Ws_len hF) rfl)).mono (by omega) (by omega)
    have e1 : g2.1 1 0 = nI h9 := (congrFun k2'.row 0).trans y1
    have hF' := k1'.fix hF
    have v1 := ((RT.hdr s3 k (by omega)).1 (by omega))
    have v2 := ((RT.hdr s4 k (by omega)).1 (by omega))
    rw [z, if_pos (show ¬ (1 : Int32) = 0 by decide), nI_1, s1, bind3_some, Ws_K hF', Option.bind_some, cr13 hF', ca17 hF' (show k < 200 by omega), Option.bind_some, hM g2 s2 k2'.row, bind2_some, if_neg (show ¬ (1 : Int32) = 0 by decide), e0, Option.bind_some, e1, Mo_in0, Option.bind_some, z, if_neg (show ¬ (1 : Int32) = 0 by decide), MoS_R0_51, ma37 (show k < 200 by omega), Option.bind_some]
    refine ⟨f1.1 17 k, _, _, _, rfl, ?_, (k1'.comb k2').rel hR (by omega) (by omega)⟩
    have e9 : g2.1 37 k = f1.1 17 k := v2.2.trans ((s6 k (by omega)).trans (v1.1.trans v1.2).symm)
    exact congrArg some (Prod.ext e9 rfl)
end
