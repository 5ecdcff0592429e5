/-! THE PLAIN LAW: queries of a run at a tick -/
set_option maxRecDepth 100000
section
variable {n : Nat} {S S1 : Sp} {d d1 d2 m f2 : Dt} {w : Nat → Int32} {q : TdP} {p p1 p2 : Int32}
theorem asks_no (hb : mw m 7 ≤ 0) : Mo_asks 0 MoS m = some (0, tld m (-1)) := by
  unfold Mo_asks Mo_asks_b21
  have e : mw (tld m (-1)) = mw m := tld_v.1 1 (by omega)
  rw [Mo_K, Option.bind_some, asTold_eq, bind2_some, Mo_isBoard_eq, Option.bind_some, e, if_pos hb, if_pos rfl, Option.bind_some, Option.bind_some, show gb 0 = some 0 from rfl, Option.bind_some]
theorem asks_yes (hb : ¬ mw m 7 ≤ 0) (h : Mo_runs 0 (mw m 0) MoS (tld m (-1)) = some ((), f2)) (hf : mw f2 = mw m) : Mo_asks 0 MoS m = some (1, f2) := by
  unfold Mo_asks Mo_asks_b21
  have e : mw (tld m (-1)) = mw m := tld_v.1 1 (by omega)
  have e0 : aix MoS 50 (MoS.2.1 0 1) 0 = some (1, 0) := Mw 0 (by omega)
  have er : Mo_runs 0 ((tld m (-1)).1 1 0) MoS (tld m (-1)) = some ((), f2) := by
    rw [show (tld m (-1)).1 1 0 = mw m 0 from congrFun e 0]; exact h
  rw [Mo_K, Option.bind_some, asTold_eq, bind2_some, Mo_isBoard_eq, Option.bind_some, e, if_neg hb, if_neg (show ¬ (1 : Int32) = 0 by decide), e0, Option.bind_some, er, bind2_some, Option.bind_some, Mo_isBoard_eq, Option.bind_some, hf, if_neg hb, show gb 1 = some 1 from rfl, Option.bind_some]
theorem Mo_isTick_eq : Mo_isTick 0 p MoS m = some (if mw m 7 ≤ 0 then 0 else inI p 0 (mw m 0)) := by
  unfold Mo_isTick
  have e0 : aix MoS 50 (MoS.2.1 0 1) 0 = some (1, 0) := Mw 0 (by omega)
  rw [Mo_K, Option.bind_some, Mo_isBoard_eq, Option.bind_some]
  by_cases hb : mw m 7 ≤ 0
  · rw [if_pos hb, if_pos rfl, if_pos hb]
  · rw [if_neg hb, if_neg (show ¬ (1 : Int32) = 0 by decide), e0, Option.bind_some, Mo_in0, Option.bind_some, if_neg hb]
    rcases inI_01 p 0 (m.1 1 0) with e | e
    · rw [e, if_pos rfl]
    · rw [e, if_neg (show ¬ (1 : Int32) = 0 by decide)]
theorem CE.isTick (h : CE S d w q) : Ws_isTick 0 p S d = some (if w 7 ≤ 0 then 0 else inI p 0 (w 0)) := by
  unfold Ws_isTick
  obtain ⟨h9, a1, a2, a3⟩ := h.hF
  rw [h.K, Option.bind_some, h.T, Option.bind_some, h.is, Option.bind_some]
  by_cases hb : w 7 ≤ 0
  · rw [if_pos hb, if_pos rfl, if_pos hb]
  · rw [if_neg hb, if_neg (show ¬ (1 : Int32) = 0 by decide), a3, ← a1, Ws_in0, Option.bind_some, if_neg hb]
    rcases inI_01 p 0 (w 0) with e | e
    · rw [e, if_pos rfl]
    · rw [e, if_neg (show ¬ (1 : Int32) = 0 by decide)]
theorem tick_cases (hC : CE S d (mw m) q) (p : Int32) : (Ws_isTick 0 p S d = some 0 ∧ Mo_isTick 0 p MoS m = some 0) ∨ ∃ k h9, p = nI k ∧ k ≤ h9 ∧ h9 ≤ 200 ∧ mw m 0 = nI h9 ∧ ¬ mw m 7 ≤ 0 ∧ Ws_isTick 0 p S d = some 1 ∧ Mo_isTick 0 p MoS m = some 1 := by
  obtain ⟨h9, a1, a2, a3⟩ := hC.hF
  rw [hC.isTick, Mo_isTick_eq]
  by_cases hb : mw m 7 ≤ 0
  · rw [if_pos hb]
    exact Or.inl ⟨rfl, rfl⟩
  · rw [if_neg hb]
    rcases inI_lit (x := p) (n := h9) (by omega) with ⟨z, -⟩ | ⟨k, k1, k2, z⟩
    · rw [a1, z]
      exact Or.inl ⟨rfl, rfl⟩
    · refine Or.inr ⟨k, h9, k2, k1, a2, a1, hb, ?_, ?_⟩ <;> rw [a1, z]
theorem asksAt_no (h : Mo_isTick 0 p MoS m = some 0) : Mo_asksAt 0 p MoS m = some (0, m) := by
  unfold Mo_asksAt
  rw [Mo_K, Option.bind_some, h, Option.bind_some, if_neg (show ¬ ¬ (0 : Int32) = 0 from fun z => z rfl)]
theorem asksAt_yes (h : Mo_isTick 0 p MoS m = some 1) (hr : Mo_runs 0 p MoS (tld m (-1)) = some ((), f2)) : Mo_asksAt 0 p MoS m = some (1, f2) := by
  unfold Mo_asksAt
  rw [Mo_K, Option.bind_some, h, Option.bind_some, if_pos (show ¬ (1 : Int32) = 0 by decide), asTold_eq, bind2_some, hr, bind2_some]
/-- what a query up to a tick meets -/
theorem at_eq (hR : Rel n S1 d1 MoS d2) (p : Int32) : (Ws_isTick 0 p S1 d1 = some 0 ∧ Mo_asksAt 0 p MoS d2 = some (0, d2)) ∨ ∃ q k S' f1 f2 H r b, p = nI k ∧ k ≤ 200 ∧ ¬ mw d2 7 ≤ 0 ∧ CE S1 d1 (mw d2) q ∧ Ws_isTick 0 p S1 d1 = some 1 ∧ Ws_runs 0 p (-1) S1 d1 = some ((), S', f1) ∧ Mo_asksAt 0 p MoS d2 = some (1, f2) ∧ Run S1 d1 (tld d2 (-1)) (mw d2) q (-1) H k r b S' f1 f2 ∧ r ≤ 2200 ∧ RE S' f1 f2 (mw d2) q (opN (mw d2)) (clN (mw d2)) ∧ Rel (n + 1) S' f1 MoS f2 := by
  obtain ⟨-, q, hF, hN, hC⟩ := rel_at hR
  rcases tick_cases hC p with ⟨a1, a2⟩ | ⟨k, h9, a1, a2, a3, a4, a5, a6, a7⟩
  · exact Or.inl ⟨a1, asksAt_no a2⟩
  · obtain ⟨S', f1, f2, H, r, b, s1, s2, s3, s4, s5, s6⟩ := run1 (p2 := -1) hN hF a5 (p := k) (by omega)
    refine Or.inr ⟨q, k, S', f1, f2, H, r, b, a1, by omega, a5, hC, a6, by rw [a1]; exact s1, asksAt_yes a7 (by rw [a1]; exact s2), s3, s4, s5, s6.rel hR (by omega) (by omega)⟩
/-- what a query of a task at a tick meets -/
theorem then_eq (hR : Rel n S1 d1 MoS d2) (p1 p2 : Int32) : (Ws_isThen 0 p1 p2 S1 d1 = some 0 ∧ Mo_asksOf 0 p1 p2 MoS d2 = some (0, d2)) ∨ ∃ q t k r b S' f1 f2, p1 = nI t ∧ t < 5 ∧ k ≤ 200 ∧ r ≤ 2200 ∧ Ws_isThen 0 p1 p2 S1 d1 = some 1 ∧ Ws_then 0 p1 p2 S1 d1 = some (some (30 + t), S', f1) ∧ Mo_asksOf 0 p1 p2 MoS d2 = some (1, f2) ∧ Lf q 99 k k k r b f1 f2 t ∧ Rel (n + 1) S' f1 MoS f2 ∧ isK S' 8 (some (30 + t)) = some (30 + t) := by
  obtain ⟨-, q, hF, hN, hC⟩ := rel_at hR
  have h5 := hC.nt5
  have hw4 : mw d2 4 = nI q.nt := hC.wf.2.1.1
  unfold Ws_isThen Mo_asksOf
  rw [hC.K, Option.bind_some, hC.isTask, Option.bind_some, Mo_K, Option.bind_some, Mo_isTask_eq, Option.bind_some, hw4]
  rcases inI_nI (x := p1) (n := q.nt) (by omega) with ⟨z, -⟩ | ⟨t, t1, t2, z⟩
  · rw [z, if_pos rfl, if_pos rfl]
    exact Or.inl ⟨rfl, rfl⟩
  rw [z, if_neg (show ¬ (1 : Int32) = 0 by decide), if_neg (show ¬ (1 : Int32) = 0 by decide)]
  rcases at_eq hR p2 with ⟨a1, a2⟩ | ⟨q', k, S', f1, f2, H, r, b, a1, a2, a3, a4, a5, a6, a7, a8, a9, a10, a11⟩
  · rw [a1, Option.bind_some, if_pos rfl, a2, bind2_some, if_pos rfl]
    exact Or.inl ⟨rfl, rfl⟩
  · have hnt : q'.nt = q.nt := by
      have e : nI q'.nt = nI q.nt := a4.wf.2.1.1.symm.trans hw4
      have := a4.nt5
      exact (nI_eq (by omega) (by omega)).mp e
    rw [a5, Option.bind_some, if_neg (show ¬ (1 : Int32) = 0 by decide), a7, bind2_some, if_neg (show ¬ (1 : Int32) = 0 by decide)]
    refine Or.inr ⟨q', t, k, r, b, S', f1, f2, t2, by omega, a2, a9, rfl, ?_, rfl, RT.lfs a8 t (by omega), a11, cl_K a10.C.F (by omega)⟩
    unfold Ws_then Ws_at
    rw [hC.K, Option.bind_some, Option.bind_some, a6, bind3_some, a10.C.K, Option.bind_some, cr12 a10.C.F, t2, ca16 a10.C.F (show t < 5 by omega), Option.bind_some, cl_r a10.C.F (show t < 5 by omega), bind3_some]
end
