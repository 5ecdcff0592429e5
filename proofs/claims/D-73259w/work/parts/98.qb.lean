/-! THE PLAIN LAW: queries of a task at a tick -/
set_option maxRecDepth 100000
theorem PL_22_Rel : PL_22 Rel := by
  intro n S1 d1 S2 d2 p1 p2 hn hR
  have hU := hR.up
  obtain ⟨rfl, q0, hF, hN, hC⟩ := rel_at hR
  unfold Ws_kicks_2 Mo_kicks
  rw [hC.K, Option.bind_some, Mo_K, Option.bind_some]
  rcases then_eq hR p1 p2 with ⟨a1, a2⟩ | ⟨q, t, k, r, b, S', f1, f2, a1, a2, a3, a4, a5, a6, a7, ⟨l1, l2, l3, l4, l5, l6, l7, l8, l9, l10, l11, l12, l13, ⟨l14, l15⟩, l16, l17⟩, a9, a10⟩
  · rw [a1, Option.bind_some, if_pos rfl, a2, bind2_some, if_pos rfl]
    exact ⟨_, _, _, _, rfl, rfl, hU⟩
  · rw [a5, Option.bind_some, if_neg (show ¬ (1 : Int32) = 0 by decide), a6, bind3_some, a10, Option.bind_some, a7, bind2_some, if_neg (show ¬ (1 : Int32) = 0 by decide), a1, MoS_R0_41, ma27 a2, Option.bind_some]
    obtain ⟨x, -, x1, x2⟩ := l10
    exact ⟨_, _, _, _, rfl, congrArg some (Prod.ext (x1.trans x2.symm).symm rfl), a9⟩
theorem PL_23_Rel : PL_23 Rel := by
  intro n S1 d1 S2 d2 p1 p2 hn hR
  have hU := hR.up
  obtain ⟨rfl, q0, hF, hN, hC⟩ := rel_at hR
  unfold Ws_kicked Mo_kicked
  rw [hC.K, Option.bind_some, Mo_K, Option.bind_some]
  rcases then_eq hR p1 p2 with ⟨a1, a2⟩ | ⟨q, t, k, r, b, S', f1, f2, a1, a2, a3, a4, a5, a6, a7, ⟨l1, l2, l3, l4, l5, l6, l7, l8, l9, l10, l11, l12, l13, ⟨l14, l15⟩, l16, l17⟩, a9, a10⟩
  · rw [a1, Option.bind_some, if_pos rfl, a2, bind2_some, if_pos rfl]
    exact ⟨_, _, _, _, rfl, rfl, hU⟩
  · rw [a5, Option.bind_some, if_neg (show ¬ (1 : Int32) = 0 by decide), a6, bind3_some, a10, Option.bind_some, a7, bind2_some, if_neg (show ¬ (1 : Int32) = 0 by decide), a1, MoS_R0_42, ma28 a2, Option.bind_some]
    exact ⟨_, _, _, _, rfl, congrArg some (Prod.ext (l11).symm rfl), a9⟩
theorem PL_25_Rel : PL_25 Rel := by
  intro n S1 d1 S2 d2 p1 p2 hn hR
  have hU := hR.up
  obtain ⟨rfl, q0, hF, hN, hC⟩ := rel_at hR
  unfold Ws_jobs Mo_jobs
  rw [hC.K, Option.bind_some, Mo_K, Option.bind_some]
  rcases then_eq hR p1 p2 with ⟨a1, a2⟩ | ⟨q, t, k, r, b, S', f1, f2, a1, a2, a3, a4, a5, a6, a7, ⟨l1, l2, l3, l4, l5, l6, l7, l8, l9, l10, l11, l12, l13, ⟨l14, l15⟩, l16, l17⟩, a9, a10⟩
  · rw [a1, Option.bind_some, if_pos rfl, a2, bind2_some, if_pos rfl]
    exact ⟨_, _, _, _, rfl, rfl, hU⟩
  · rw [a5, Option.bind_some, if_neg (show ¬ (1 : Int32) = 0 by decide), a6, bind3_some, a10, Option.bind_some, a7, bind2_some, if_neg (show ¬ (1 : Int32) = 0 by decide), a1, MoS_R0_30, ma16 a2, Option.bind_some]
    obtain ⟨x, -, x1, x2⟩ := l7
    exact ⟨_, _, _, _, rfl, congrArg some (Prod.ext (x1.trans x2.symm).symm rfl), a9⟩
theorem PL_27_Rel : PL_27 Rel := by
  intro n S1 d1 S2 d2 p1 p2 hn hR
  have hU := hR.up
  obtain ⟨rfl, q0, hF, hN, hC⟩ := rel_at hR
  unfold Ws_question Mo_question
  rw [hC.K, Option.bind_some, Mo_K, Option.bind_some]
  rcases then_eq hR p1 p2 with ⟨a1, a2⟩ | ⟨q, t, k, r, b, S', f1, f2, a1, a2, a3, a4, a5, a6, a7, ⟨l1, l2, l3, l4, l5, l6, l7, l8, l9, l10, l11, l12, l13, ⟨l14, l15⟩, l16, l17⟩, a9, a10⟩
  · rw [a1, Option.bind_some, if_pos rfl, a2, bind2_some, if_pos rfl]
    exact ⟨_, _, _, _, rfl, rfl, hU⟩
  · rw [a5, Option.bind_some, if_neg (show ¬ (1 : Int32) = 0 by decide), a6, bind3_some, a10, Option.bind_some, a7, bind2_some, if_neg (show ¬ (1 : Int32) = 0 by decide), a1, MoS_R0_33, ma19 a2, Option.bind_some]
    exact ⟨_, _, _, _, rfl, congrArg some (Prod.ext (l6).symm rfl), a9⟩
theorem PL_28_Rel : PL_28 Rel := by
  intro n S1 d1 S2 d2 p1 p2 hn hR
  have hU := hR.up
  obtain ⟨rfl, q0, hF, hN, hC⟩ := rel_at hR
  unfold Ws_start Mo_start
  rw [hC.K, Option.bind_some, Mo_K, Option.bind_some]
  rcases then_eq hR p1 p2 with ⟨a1, a2⟩ | ⟨q, t, k, r, b, S', f1, f2, a1, a2, a3, a4, a5, a6, a7, ⟨l1, l2, l3, l4, l5, l6, l7, l8, l9, l10, l11, l12, l13, ⟨l14, l15⟩, l16, l17⟩, a9, a10⟩
  · rw [a1, Option.bind_some, if_pos rfl, a2, bind2_some, if_pos rfl]
    exact ⟨_, _, _, _, rfl, rfl, hU⟩
  · rw [a5, Option.bind_some, if_neg (show ¬ (1 : Int32) = 0 by decide), a6, bind3_some, a10, Option.bind_some, a7, bind2_some, if_neg (show ¬ (1 : Int32) = 0 by decide), a1, MoS_R0_28, ma14 a2, Option.bind_some]
    obtain ⟨x, -, x1, x2⟩ := l3
    exact ⟨_, _, _, _, rfl, congrArg some (Prod.ext (x1.trans x2.symm).symm rfl), a9⟩
theorem PL_29_Rel : PL_29 Rel := by
  intro n S1 d1 S2 d2 p1 p2 hn hR
  have hU := hR.up
  obtain ⟨rfl, q0, hF, hN, hC⟩ := rel_at hR
  unfold Ws_memory Mo_memory
  rw [hC.K, Option.bind_some, Mo_K, Option.bind_some]
  rcases then_eq hR p1 p2 with ⟨a1, a2⟩ | ⟨q, t, k, r, b, S', f1, f2, a1, a2, a3, a4, a5, a6, a7, ⟨l1, l2, l3, l4, l5, l6, l7, l8, l9, l10, l11, l12, l13, ⟨l14, l15⟩, l16, l17⟩, a9, a10⟩
  · rw [a1, Option.bind_some, if_pos rfl, a2, bind2_some, if_pos rfl]
    exact ⟨_, _, _, _, rfl, rfl, hU⟩
  · rw [a5, Option.bind_some, if_neg (show ¬ (1 : Int32) = 0 by decide), a6, bind3_some, a10, Option.bind_some, a7, bind2_some, if_neg (show ¬ (1 : Int32) = 0 by decide), a1, MoS_R0_37, ma23 a2, Option.bind_some]
    obtain ⟨x, -, x1, x2⟩ := l8
    exact ⟨_, _, _, _, rfl, congrArg some (Prod.ext (x1.trans x2.symm).symm rfl), a9⟩
theorem PL_26_Rel : PL_26 Rel := by
  intro n S1 d1 S2 d2 p1 p2 hn hR
  have hU := hR.up
  obtain ⟨rfl, q0, hF, hN, hC⟩ := rel_at hR
  unfold Ws_at_2 Mo_at
  rw [hC.K, Option.bind_some, Mo_K, Option.bind_some]
  rcases then_eq hR p1 p2 with ⟨a1, a2⟩ | ⟨q, t, k, r, b, S', f1, f2, a1, a2, a3, a4, a5, a6, a7, ⟨l1, l2, l3, l4, l5, l6, l7, l8, l9, l10, l11, l12, l13, ⟨l14, l15⟩, l16, l17⟩, a9, a10⟩
  · rw [a1, Option.bind_some, if_neg (show ¬ ¬ (0 : Int32) = 0 from fun z => z rfl), a2, bind2_some, if_neg (show ¬ ¬ (0 : Int32) = 0 from fun z => z rfl)]
    exact ⟨_, _, _, _, rfl, rfl, hU⟩
  · rw [a5, Option.bind_some, if_pos (show ¬ (1 : Int32) = 0 by decide), a6, bind3_some, a10, Option.bind_some, a7, bind2_some, if_pos (show ¬ (1 : Int32) = 0 by decide), a1, MoS_R0_29, ma15 a2, Option.bind_some]
    rcases l1 with ⟨x1, x2⟩ | ⟨x1, j, nn, y1, y2, y3, y4, y5, y6, y7⟩
    · have x2' : f2.1 15 t = -1 := x2
      rw [x1, if_pos rfl, x2', if_neg (show ¬ ¬ (-1 : Int32) = -1 from fun z => z rfl)]
      exact ⟨_, _, _, _, rfl, rfl, a9⟩
    · have y4' : f2.1 15 t = nI j := y4
      have y6' : f2.1 17 t = nI nn := y6
      rw [x1, if_neg (show ¬ (1 : Int32) = 0 by decide), y4', if_pos (m1_pos (by omega)), MoS_R0_31, ma17 a2, Option.bind_some, y5, y6']
      exact ⟨_, _, _, _, rfl, rfl, a9⟩
theorem PL_30_Rel : PL_30 Rel := by
  intro n S1 d1 S2 d2 p1 p2 hn hR
  have hU := hR.up
  obtain ⟨rfl, q0, hF, hN, hC⟩ := rel_at hR
  unfold Ws_health Mo_health
  rw [hC.K, Option.bind_some, Mo_K, Option.bind_some]
  rcases then_eq hR p1 p2 with ⟨a1, a2⟩ | ⟨q, t, k, r, b, S', f1, f2, a1, a2, a3, a4, a5, a6, a7, ⟨l1, l2, l3, l4, l5, l6, l7, l8, l9, l10, l11, l12, l13, ⟨l14, l15⟩, l16, l17⟩, a9, a10⟩
  · rw [a1, Option.bind_some, if_pos rfl, a2, bind2_some, if_pos rfl]
    exact ⟨_, _, _, _, rfl, rfl, hU⟩
  · obtain ⟨v, hv⟩ := Jf_bits (f1.2.1 (30 + t) 17)
    have l14' : f2.2.1 24 t = f1.2.1 (30 + t) 17 := l14.symm
    rw [a5, Option.bind_some, if_neg (show ¬ (1 : Int32) = 0 by decide), a6, bind3_some, a10, Option.bind_some, a7, bind2_some, if_neg (show ¬ (1 : Int32) = 0 by decide), a1, MoS_R0_38, ma24 a2, Option.bind_some, l14', hv, hv, Option.bind_some, Option.bind_some]
    exact ⟨_, _, _, _, rfl, rfl, a9⟩
theorem h_ten {h : UInt32} (a : hOk h) : fNn (FP.fmul h 1092616192) := by
  obtain ⟨c, q, h1, h2, h3, h4, h5⟩ := a.val
  have e : FP.fmul h 1092616192 = UInt32.ofNat (FP.Core.encode FP.Core.b32 (FP.Core.roundRatio FP.Core.b32 false (c * 10485760) 1 (q + -20))) := by
    show UInt32.ofNat (FP.Core.encode FP.Core.b32 (FP.Core.round FP.Core.b32 (FP.Core.exactProduct (FP.Core.decode FP.Core.b32 h.toNat) (FP.Core.decode FP.Core.b32 (UInt32.toNat 1092616192))))) = _
    rw [h1, show FP.Core.decode FP.Core.b32 (UInt32.toNat 1092616192) = .fin false 10485760 (-20) by decide +kernel]
    rfl
  rw [e]
  exact fNn_of (fq_rr false _ 1 _)
theorem PL_31_Rel : PL_31 Rel := by
  intro n S1 d1 S2 d2 p1 p2 hn hR
  have hU := hR.up
  obtain ⟨rfl, q0, hF, hN, hC⟩ := rel_at hR
  unfold Ws_tenths Mo_tenths
  rw [hC.K, Option.bind_some, Mo_K, Option.bind_some]
  rcases then_eq hR p1 p2 with ⟨a1, a2⟩ | ⟨q, t, k, r, b, S', f1, f2, a1, a2, a3, a4, a5, a6, a7, ⟨l1, l2, l3, l4, l5, l6, l7, l8, l9, l10, l11, l12, l13, ⟨l14, l15⟩, l16, l17⟩, a9, a10⟩
  · rw [a1, Option.bind_some, if_pos rfl, a2, bind2_some, if_pos rfl]
    exact ⟨_, _, _, _, rfl, rfl, hU⟩
  · have l14' : f2.2.1 24 t = f1.2.1 (30 + t) 17 := l14.symm
    have hg := gf_ok (h_ten l15)
    rw [a5, Option.bind_some, if_neg (show ¬ (1 : Int32) = 0 by decide), a6, bind3_some, a10, Option.bind_some, a7, bind2_some, if_neg (show ¬ (1 : Int32) = 0 by decide), a1, MoS_R0_38, ma24 a2, Option.bind_some, l14', hg, Option.bind_some, Option.bind_some]
    exact ⟨_, _, _, _, rfl, rfl, a9⟩
theorem PL_32_Rel : PL_32 Rel := by
  intro n S1 d1 S2 d2 p1 p2 hn hR
  have hU := hR.up
  obtain ⟨rfl, q0, hF, hN, hC⟩ := rel_at hR
  unfold Ws_margin Mo_margin
  rw [hC.K, Option.bind_some, Mo_K, Option.bind_some]
  rcases then_eq hR p1 p2 with ⟨a1, a2⟩ | ⟨q, t, k, r, b, S', f1, f2, a1, a2, a3, a4, a5, a6, a7, ⟨l1, l2, l3, l4, l5, l6, l7, l8, l9, l10, l11, l12, l13, ⟨l14, l15⟩, l16, l17⟩, a9, a10⟩
  · rw [a1, Option.bind_some, if_neg (show ¬ ¬ (0 : Int32) = 0 from fun z => z rfl), a2, bind2_some, if_neg (show ¬ ¬ (0 : Int32) = 0 from fun z => z rfl)]
    exact ⟨_, _, _, _, rfl, rfl, hU⟩
  · obtain ⟨x, x1, x2, x3, x4⟩ := l13
    have x3' : f2.1 31 t = nI x := x3
    rw [a5, Option.bind_some, if_pos (show ¬ (1 : Int32) = 0 by decide), a6, bind3_some, a10, Option.bind_some, a7, bind2_some, if_pos (show ¬ (1 : Int32) = 0 by decide), a1, MoS_R0_45, ma31 a2, Option.bind_some, x2, x3']
    by_cases c : x = 0
    · subst c
      rw [if_neg (show ¬ ¬ nI 0 = 0 from fun z => z rfl), if_neg (show ¬ ¬ nI 0 = 0 from fun z => z rfl)]
      exact ⟨_, _, _, _, rfl, rfl, a9⟩
    · have x4' : f2.2.1 29 t = f1.2.1 (30 + t) 18 := (x4 c).symm
      obtain ⟨v, hv⟩ := Jf_bits (f1.2.1 (30 + t) 18)
      rw [if_pos (nI_ne0 (by omega) (by omega)), if_pos (nI_ne0 (by omega) (by omega)), MoS_R0_43, ma29 a2, Option.bind_some, x4', hv, hv, Option.bind_some, Option.bind_some]
      exact ⟨_, _, _, _, rfl, rfl, a9⟩
theorem PL_33_Rel : PL_33 Rel := by
  intro n S1 d1 S2 d2 p1 p2 hn hR
  have hU := hR.up
  obtain ⟨rfl, q0, hF, hN, hC⟩ := rel_at hR
  unfold Ws_mean Mo_mean
  rw [hC.K, Option.bind_some, Mo_K, Option.bind_some]
  rcases then_eq hR p1 p2 with ⟨a1, a2⟩ | ⟨q, t, k, r, b, S', f1, f2, a1, a2, a3, a4, a5, a6, a7, ⟨l1, l2, l3, l4, l5, l6, l7, l8, l9, l10, l11, l12, l13, ⟨l14, l15⟩, l16, l17⟩, a9, a10⟩
  · rw [a1, Option.bind_some, if_neg (show ¬ ¬ (0 : Int32) = 0 from fun z => z rfl), a2, bind2_some, if_neg (show ¬ ¬ (0 : Int32) = 0 from fun z => z rfl)]
    exact ⟨_, _, _, _, rfl, rfl, hU⟩
  · obtain ⟨x, x1, x2, x3, x4⟩ := l13
    have x3' : f2.1 31 t = nI x := x3
    have l16' : f2.2.2 30 t = f1.2.2 (30 + t) 19 := l16.symm
    rw [a5, Option.bind_some, if_pos (show ¬ (1 : Int32) = 0 by decide), a6, bind3_some, a10, Option.bind_some, a7, bind2_some, if_pos (show ¬ (1 : Int32) = 0 by decide), a1, MoS_R0_45, ma31 a2, Option.bind_some, x2, x3']
    by_cases c : x = 0
    · subst c
      rw [if_neg (show ¬ ¬ nI 0 = 0 from fun z => z rfl), if_neg (show ¬ ¬ nI 0 = 0 from fun z => z rfl)]
      exact ⟨_, _, _, _, rfl, rfl, a9⟩
    · obtain ⟨v, hv⟩ := Jd_bits (FP.ddiv (f1.2.2 (30 + t) 19) (FP.i2d (nI x)))
      have hg := gd_ok (mean_ok l17 c (by omega))
      rw [if_pos (nI_ne0 (by omega) (by omega)), if_pos (nI_ne0 (by omega) (by omega)), MoS_R0_44, ma30 a2, Option.bind_some, l16', hg, Option.bind_some, Option.bind_some, hv, hv, Option.bind_some, Option.bind_some]
      exact ⟨_, _, _, _, rfl, rfl, a9⟩
