/-! THE PLAIN LAW: a node's followers -/
set_option maxRecDepth 100000
theorem and31 : ∀ {k : Nat}, k < 32 → nI k &&& 31 = nI k := by
  have h : ∀ k, k < 32 → nI k &&& 31 = nI k := by decide +kernel
  intro k hk
  exact h k hk
theorem folN_lo {w : Nat → Int32} {t k : Nat} : ∀ {m : Nat}, m ≤ k + 1 → folN w t k m = 0 := by
  intro m
  induction m with
  | zero => exact fun _ => rfl
  | succ m ih =>
    intro h
    show (if k < m ∧ bitI (w (46 + 2 * (6 * t + m) + 1)) k then folN w t k m ||| (1 <<< nI m) else folN w t k m) = 0
    rw [if_neg (fun z => by omega)]
    exact ih (by omega)
theorem folN_s {w : Nat → Int32} {t k m : Nat} : folN w t k (m + 1) = if k < m ∧ bitI (w (46 + 2 * (6 * t + m) + 1)) k then folN w t k m ||| (1 <<< nI m) else folN w t k m := rfl
theorem Mo_followersOf_eq {d : Dt} {t n nd : Nat} (ht : t < 5) (hn : n < nd) (hnd : nd ≤ 6) (hw : mw d (11 + 7 * t + 6) = nI nd) : Mo_followersOf 0 (nI t) (nI n) MoS d = some (folN (mw d) t n nd) := by
  unfold Mo_followersOf
  rw [Option.bind_some, nI_1]
  refine loop_FU (X := fun f (x : Int32 × Int32) => Mo_followersOf_h7 0 (nI t) (nI n) MoS d f x.1 x.2) (Inv := fun i x => x = (folN (mw d) t n (n + 1 + i), nI (n + 1 + i))) (P := fun o => o = some (folN (mw d) t n nd)) (x := (0, nI (n + 1))) (nd - (n + 1)) (by omega) ?_ ?_ ?_
  · show (0, nI (n + 1)) = (folN (mw d) t n (n + 1 + 0), nI (n + 1 + 0))
    rw [folN_lo (by omega)]
  · intro i hi f x hx
    subst hx
    refine ⟨(folN (mw d) t n (n + 1 + (i + 1)), nI (n + 1 + (i + 1))), ?_, rfl⟩
    show Mo_followersOf_h7 0 (nI t) (nI n) MoS d (f + 1) (folN (mw d) t n (n + 1 + i)) (nI (n + 1 + i)) = Mo_followersOf_h7 0 (nI t) (nI n) MoS d f (folN (mw d) t n (n + 1 + (i + 1))) (nI (n + 1 + (i + 1)))
    simp only [Mo_followersOf_h7, Mo_followersOf_b37, Mo_K, Option.bind_some]
    rw [Mo_nodesOf_eq ht, hw]
    simp only [Option.bind_some]
    rw [if_neg (nI_ge (by omega) (by omega)), Mo_isBehind_eq ht (by omega) (by omega)]
    simp only [Option.bind_some]
    rw [and31 (by omega), nI_1]
    have e : folN (mw d) t n (n + 1 + (i + 1)) = folN (mw d) t n (n + 1 + i) ||| (if (if bitI (mw d (46 + 2 * (6 * t + (n + 1 + i)) + 1)) n then (1 : Int32) else 0) = 0 then (0 : Int32) else (1 : Int32) <<< nI (n + 1 + i)) := by
      show folN (mw d) t n ((n + 1 + i) + 1) = _
      rw [folN_s]
      by_cases hb : bitI (mw d (46 + 2 * (6 * t + (n + 1 + i)) + 1)) n
      · rw [if_pos ⟨by omega, hb⟩, if_pos hb, if_neg (by decide)]
      · rw [if_neg (fun z => hb z.2), if_neg hb, if_pos rfl, Int32.or_zero]
    rw [e]
    rfl
  · intro f x hx
    subst hx
    show Mo_followersOf_h7 0 (nI t) (nI n) MoS d (f + 1) (folN (mw d) t n (n + 1 + (nd - (n + 1)))) (nI (n + 1 + (nd - (n + 1)))) = some (folN (mw d) t n nd)
    rw [show n + 1 + (nd - (n + 1)) = nd from by omega]
    simp only [Mo_followersOf_h7, Mo_K, Option.bind_some]
    rw [Mo_nodesOf_eq ht, hw]
    simp only [Option.bind_some]
    rw [if_pos (nI_le (Nat.le_refl _) (by omega))]
theorem PL_5_Rel : PL_5 Rel := by
  intro n S1 d1 S2 d2 p1 p2 p3 hn hR
  have hU := hR.up
  obtain ⟨rfl, q, hF, hN, hC⟩ := rel_at hR
  have h5 := hC.nt5
  unfold Ws_node Mo_node
  rw [hC.K, Mo_K]
  simp only [Option.bind_some]
  rw [hC.isTask, Mo_isTask_eq, hC.wf.2.1.1]
  simp only [Option.bind_some]
  rcases inI_nI (x := p1) (n := q.nt) (by omega) with ⟨e, -⟩ | ⟨t, ht, rfl, e⟩
  · simp only [e, i10, eq_self, not_true_eq_false, not_false_eq_true, ↓reduceIte, Option.bind_some]
    exact ⟨_, rfl, rfl, hU⟩
  simp only [e, i10, eq_self, not_true_eq_false, not_false_eq_true, ↓reduceIte, Option.bind_some]
  have hK := hC.tK ht
  obtain ⟨-, hf, h8, h6, hnd, u, b, s6, s7, s8, s9, s10, s11⟩ := hC.task ht
  rw [hC.taskOf ht, Mo_nodesOf_eq (by omega), h6]
  simp only [Option.bind_some]
  rw [hK, Mo_in0]
  simp only [Option.bind_some]
  rw [h8, Ws_in0]
  simp only [Option.bind_some]
  rcases inI_nI (x := p2) (n := q.nd t) (by omega) with ⟨e2, -⟩ | ⟨k, hk, rfl, e2⟩
  · simp only [e2, i10, eq_self, not_true_eq_false, not_false_eq_true, ↓reduceIte, Option.bind_some]
    exact ⟨_, rfl, rfl, hU⟩
  simp only [e2, i10, eq_self, not_true_eq_false, not_false_eq_true, ↓reduceIte, Option.bind_some]
  rw [show (1 : Int64) = (nI 1).toInt64 from by decide, Mo_in0, Ws_in0]
  simp only [Option.bind_some]
  rcases inI_01 p3 0 (nI 1) with e3 | e3
  · simp only [e3, i10, eq_self, not_true_eq_false, not_false_eq_true, ↓reduceIte, Option.bind_some]
    exact ⟨_, rfl, rfl, hU⟩
  simp only [e3, i10, eq_self, not_true_eq_false, not_false_eq_true, ↓reduceIte, Option.bind_some]
  rw [s6, s7, aix_nI s8 (by omega) (by omega), aix_nI s9 (by omega) (by omega), Mo_followersOf_eq (by omega) hk hnd h6, Mo_unitsOf_eq (by omega) (by omega)]
  simp only [Option.bind_some]
  rw [s10 k hk, s11 k hk]
  by_cases h0 : p3 = 0
  · simp only [h0, i10, eq_self, not_true_eq_false, not_false_eq_true, ↓reduceIte, Option.bind_some]
    exact ⟨_, rfl, rfl, hU⟩
  · rw [if_pos h0]
    exact ⟨_, rfl, rfl, hU⟩
