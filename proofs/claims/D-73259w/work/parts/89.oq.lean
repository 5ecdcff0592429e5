/-! THE PLAIN LAW: queries of orders -/
set_option maxRecDepth 100000
theorem orders_eq {n : Nat} {S1 : Sp} {d1 d2 : Dt} {q : TdP} (hR : Rel n S1 d1 MoS d2) (hF : WsFix S1) (hN : RelN S1 d1 d2 q) : ∃ c e1 e2, Ws_ordersAll 0 S1 d1 = some (nI c, e1) ∧ Mo_laysOrders 0 MoS d2 = some ((), e2) ∧ e2.1 0 21 = nI c ∧ c ≤ 10000 ∧ (0 < c → ∀ j, j < q.nt → e1.1 10 j = e2.1 12 j) ∧ CE S1 e1 (mw d2) q ∧ e2.1 1 4 = nI q.nt ∧ Rel (n + 1) S1 e1 MoS e2 := by
  have hC := hN.ce hF
  have h5 := hC.nt5
  obtain ⟨e0, g1, g2, g3⟩ := lays_eq hC
  have hC' := Kg.ce hC g2
  have hk0 : KoC d1 (dI d1 0 10 0) := KoC.rf.dI (Or.inr ⟨rfl, rfl⟩)
  have hm0 : KoM e0 (dI e0 0 21 0) := KoM.rf.dI (Or.inr ⟨rfl, rfl⟩)
  have hg : ∀ e, KoC d1 e → grC e q (fun _ => 0) := by
    intro e he i hi
    have := hN.gr0 h5 i hi
    rw [he.2 6 (by omega), he.2 7 (by omega)]
    exact this
  obtain ⟨B, b1, b2⟩ := law_tab hC' hg g3
  have hA : AhM q.nt (dI e0 0 21 0) (fun i => 2 ^ i - 1) := by
    intro t ht
    rw [dI_ne (by omega)]
    exact ⟨(g3 t ht).2.2.1, (g3 t ht).2.2.2⟩
  have hc0 : ∀ m, gc (Nat.testBit 0) m = 0 := by
    intro m
    have := gc_no (p := Nat.testBit 0) (m := 0) (n := m) (fun k _ _ => Nat.zero_testBit k) (Nat.zero_le m)
    exact this
  have h6 : 6 ^ (q.nt - 0) ≤ 6 ^ 5 := Nat.pow_le_pow_right (by omega) (by omega)
  obtain ⟨c, e1, e2, A', z1, z2, z3, z4, z5, z6, z7, -, -⟩ := ord_good hC' b1 b2 8 0 0 (dI d1 0 10 0) (dI e0 0 21 0) _ 0 (Nat.zero_le _) (by omega) (by omega) (hc0 _) hk0 hm0 hA (fun t ht hb => by rw [Nat.zero_testBit] at hb; cases hb) (by omega) ⟨dI_at, Or.inl ⟨dI_at, rfl, fun j hj => absurd hj (Nat.not_lt_zero j)⟩⟩
  obtain ⟨z8, z9⟩ := z6
  rw [Nat.zero_add] at z8 z9
  have hk : KoC d1 e1 := z3
  have e21 : e2.1 1 = d2.1 1 := (z4.1 1 (by omega) (by omega)).trans (g2 1 (by omega))
  refine ⟨c, e1, e2, ?_, ?_, z8, by omega, fun h0 => ?_, hC.go hk.kp, ?_, ?_⟩
  · unfold Ws_ordersAll
    rw [hC.K, Option.bind_some, Option.bind_some, show Ws_ordersFrom 8 0 0 0 S1 (dI d1 0 10 0) = _ from z1, bind2_some]
  · unfold Mo_laysOrders
    rw [Mo_K, Option.bind_some, g1, bind2_some, Option.bind_some, show Mo_goesOrders 8 0 0 0 MoS (dI e0 0 21 0) = _ from z2, bind2_some]
  · rcases z9 with ⟨-, o2, -⟩ | ⟨-, -, o3⟩
    · omega
    · exact o3
  · rw [e21]
    exact hC.wf.2.1.1
  · refine hR.go Ext.rf ⟨by omega, by omega, by omega⟩ hk.kp ⟨hk.1 8 (by omega) (by omega), fun k h1 h2 => hk.2 k (by omega)⟩ ⟨fun a h1 h2 => (z4.1 a (by omega) (by omega)).trans (g2 a (by omega)), ?_, ?_, ?_⟩ (hk.1 25 (by omega) (by omega)) (hk.1 26 (by omega) (by omega))
    · rw [z4.2 5 (by omega), g2 0 (by omega)]
    · rw [z4.2 12 (by omega), g2 0 (by omega)]
    · rw [z4.2 13 (by omega), g2 0 (by omega)]
theorem PL_13_Rel : PL_13 Rel := by
  intro n S1 d1 S2 d2 hn hR
  have hU := hR.up
  obtain ⟨rfl, q, hF, hN, hC⟩ := rel_at hR
  unfold Ws_orders Mo_orders
  rw [hC.K, Mo_K, Option.bind_some, Option.bind_some, hC.T, Mo_isBoard_eq, Option.bind_some, Option.bind_some, hC.is, Option.bind_some]
  by_cases hb : mw d2 7 ≤ 0
  · simp only [if_pos hb, i10, eq_self, not_true_eq_false, not_false_eq_true, ↓reduceIte, Option.bind_some]
    exact ⟨_, _, _, rfl, rfl, hU⟩
  simp only [if_neg hb, i10, eq_self, not_true_eq_false, not_false_eq_true, ↓reduceIte, Option.bind_some]
  obtain ⟨c, e1, e2, y1, y2, y3, -, -, -, -, y7⟩ := orders_eq hR hF hN
  rw [y1, y2, bind2_some, bind2_some, y3]
  exact ⟨_, _, _, rfl, rfl, y7⟩
theorem PL_14_Rel : PL_14 Rel := by
  intro n S1 d1 S2 d2 p1 hn hR
  have hU := hR.up
  obtain ⟨rfl, q, hF, hN, hC⟩ := rel_at hR
  have h5 := hC.nt5
  unfold Ws_order Mo_order
  rw [hC.K, Mo_K, Option.bind_some, Option.bind_some, hC.T, Mo_isBoard_eq, Option.bind_some, Option.bind_some, hC.is, Option.bind_some]
  by_cases hb : mw d2 7 ≤ 0
  · simp only [if_pos hb, i10, eq_self, not_true_eq_false, not_false_eq_true, ↓reduceIte, Option.bind_some]
    exact ⟨_, _, _, rfl, rfl, hU⟩
  simp only [if_neg hb, i10, eq_self, not_true_eq_false, not_false_eq_true, ↓reduceIte, Option.bind_some]
  obtain ⟨c, e1, e2, y1, y2, y3, y4, y5, hD, y6, y7⟩ := orders_eq hR hF hN
  rw [y1, y2, bind2_some, bind2_some, y3]
  by_cases h0 : c = 0
  · rw [h0, if_pos (show nI 0 ≤ 0 by decide), if_pos (show nI 0 ≤ 0 by decide)]
    exact ⟨_, _, _, rfl, rfl, y7⟩
  rw [if_neg (nI_nle (by omega) (by omega)), if_neg (nI_nle (by omega) (by omega)), hD.tasks, Option.bind_some, show aix MoS 50 (MoS.2.1 0 1) 4 = some (1, 4) from Mw 4 (by omega), Option.bind_some, y6, Ws_in0, Mo_in0, Option.bind_some, Option.bind_some]
  rcases inI_nI (x := p1) (n := q.nt) (by omega) with ⟨e, -⟩ | ⟨t, ht, rfl, e⟩
  · simp only [e, i10, eq_self, not_true_eq_false, not_false_eq_true, ↓reduceIte, Option.bind_some]
    exact ⟨_, _, _, rfl, rfl, y7⟩
  · simp only [e, i10, eq_self, not_true_eq_false, not_false_eq_true, ↓reduceIte, Option.bind_some]
    rw [cr9 hF, ca10 hF (show t < 5 by omega), MoS_R0_20, ma12 (show t < 5 by omega)]
    simp only [Option.bind_some]
    rw [y5 (by omega) t ht]
    exact ⟨_, _, _, rfl, rfl, y7⟩
