/-! THE PLAIN LAW: queries that read what is told -/
set_option maxRecDepth 100000
theorem i10 : ((1 : Int32) = 0) = False := eq_false (by decide)
theorem bindE_l {γ β : Type} {x : γ} {S : Sp} {d : Dt} {g : Nat → Sp → Dt → Option β} {f : γ → Sp → Dt → Option β} : bindE (some (Sum.inl x, S, d)) g f = f x S d := rfl
theorem bindE_r {γ β : Type} {x : Nat} {S : Sp} {d : Dt} {g : Nat → Sp → Dt → Option β} {f : γ → Sp → Dt → Option β} : bindE (some ((Sum.inr x : γ ⊕ Nat), S, d)) g f = g x S d := rfl
theorem inI_01 (x lo hi : Int32) : inI x lo hi = 0 ∨ inI x lo hi = 1 := by
  unfold inI
  split
  · exact Or.inr rfl
  · exact Or.inl rfl
theorem gb_inI (x lo hi : Int32) : gb (inI x lo hi) = some (inI x lo hi) := if_pos (inI_01 x lo hi)
theorem inI_nI {x : Int32} {n : Nat} (hn : n < 2 ^ 31) : (inI x 0 (nI n - 1) = 0 ∧ ∀ t, t < n → x ≠ nI t) ∨ ∃ t, t < n ∧ x = nI t ∧ inI x 0 (nI n - 1) = 1 := by
  by_cases h : (0 : Int32) ≤ x ∧ x ≤ nI n - 1
  · right
    cases n with
    | zero =>
      exfalso
      have h1 := Int32.le_iff_toInt_le.mp h.1
      have h2 := Int32.le_iff_toInt_le.mp h.2
      have h3 : (nI 0 - 1 : Int32).toInt = -1 := by decide
      have h4 : (0 : Int32).toInt = 0 := by decide
      omega
    | succ m =>
      have h2 := h.2
      rw [nI_pred] at h2
      obtain ⟨j, hj, rfl⟩ := nI_of2 (M := nI m) (n := m) (nI_toInt (by omega)) (Int32.not_lt.mpr h.1) h2
      exact ⟨j, by omega, rfl, if_pos h⟩
  · left
    refine ⟨if_neg h, fun t ht e => h ?_⟩
    subst e
    refine ⟨nI_pos' (by omega), ?_⟩
    obtain ⟨m, rfl⟩ : ∃ m, n = m + 1 := ⟨n - 1, by omega⟩
    rw [nI_pred]
    exact nI_le (by omega) (by omega)
/-- in, with small bounds -/
theorem inI_lit {x : Int32} {n : Nat} (hn : n < 2 ^ 31) : (inI x 0 (nI n) = 0 ∧ ∀ t, t ≤ n → x ≠ nI t) ∨ ∃ t, t ≤ n ∧ x = nI t ∧ inI x 0 (nI n) = 1 := by
  by_cases h : (0 : Int32) ≤ x ∧ x ≤ nI n
  · right
    obtain ⟨j, hj, rfl⟩ := nI_of2 (M := nI n) (n := n) (nI_toInt hn) (Int32.not_lt.mpr h.1) h.2
    exact ⟨j, hj, rfl, if_pos h⟩
  · left
    refine ⟨if_neg h, fun t ht e => h ?_⟩
    subst e
    exact ⟨nI_pos' (by omega), nI_le ht hn⟩
section
variable {S : Sp} {d d2 : Dt} {w : Nat → Int32} {q : TdP}
theorem Ws_in0 (x hi : Int32) : Ws_in x.toInt64 0 hi.toInt64 S d = some (inI x 0 hi) := Ws_in_eq (lo := 0)
theorem Mo_in0 (x hi : Int32) : Mo_in x.toInt64 0 hi.toInt64 S d = some (inI x 0 hi) := Mo_in_eq (lo := 0)
theorem CE.isTask (h : CE S d w q) (p : Int32) : Ws_isTask 0 p S d = some (inI p 0 (nI q.nt - 1)) := by
  unfold Ws_isTask
  rw [h.K, Option.bind_some, h.tasks, Option.bind_some, Ws_in0, Option.bind_some, gb_inI, Option.bind_some]
theorem Mw (i : Nat) (hi : i < 201) : aix MoS 50 (MoS.2.1 0 1) (nI i) = some (1, i) := by rw [MoS_R0_1]; exact ma1 hi
theorem Mo_isTask_eq (p : Int32) : Mo_isTask 0 p MoS d = some (inI p 0 (mw d 4 - 1)) := by
  unfold Mo_isTask
  rw [Mo_K, Option.bind_some, show aix MoS 50 (MoS.2.1 0 1) 4 = some (1, 4) from Mw 4 (by omega), Option.bind_some, Mo_in0, Option.bind_some, gb_inI, Option.bind_some]
theorem Mo_isWatcher_eq (p : Int32) : Mo_isWatcher 0 p MoS d = some (inI p 0 (mw d 3 - 1)) := by
  unfold Mo_isWatcher
  rw [Mo_K, Option.bind_some, show aix MoS 50 (MoS.2.1 0 1) 3 = some (1, 3) from Mw 3 (by omega), Option.bind_some, Mo_in0, Option.bind_some, gb_inI, Option.bind_some]
theorem Mo_many_eq : Mo_many 0 MoS d = some (mw d 5 + mw d 6) := by
  unfold Mo_many
  rw [Mo_K, Option.bind_some, show aix MoS 50 (MoS.2.1 0 1) 5 = some (1, 5) from Mw 5 (by omega), Option.bind_some, show aix MoS 50 (MoS.2.1 0 1) 6 = some (1, 6) from Mw 6 (by omega), Option.bind_some]
theorem WF.many {nw nt ni na : Nat} {nd : Nat → Nat} (h : WF w nw nt ni na nd) : w 5 + w 6 = nI ni := by
  obtain ⟨-, -, ⟨h1, h2, h3, -⟩, -⟩ := h
  rw [h1, h2, nI_add, Nat.sub_add_cancel h3]
theorem Mo_of_eq {i f : Nat} (hi : i < 19) (hf : f < 5) : Mo_of 0 (nI i) (nI f) MoS d = some (mw d (106 + 5 * i + f)) := by
  unfold Mo_of
  rw [Mo_K, Option.bind_some, show ((106 : Int32) + 5 * nI i) + nI f = nI (106 + 5 * i + f) from by rw [← nI_add, ← nI_add, ← nI_mul]; rfl, Mw _ (by omega), Option.bind_some]
theorem Mo_unitsOf_eq {t n : Nat} (ht : t < 5) (hn : n < 6) : Mo_unitsOf 0 (nI t) (nI n) MoS d = some (mw d (46 + 2 * (6 * t + n))) := by
  unfold Mo_unitsOf
  rw [Mo_K, Option.bind_some, show (46 : Int32) + 2 * (6 * nI t + nI n) = nI (46 + 2 * (6 * t + n)) from by rw [← nI_add, ← nI_mul, ← nI_add, ← nI_mul]; rfl, Mw _ (by omega), Option.bind_some]
theorem Mo_nodesOf_eq {t : Nat} (ht : t < 5) : Mo_nodesOf 0 (nI t) MoS d = some (mw d (11 + 7 * t + 6)) := by
  unfold Mo_nodesOf
  rw [Mo_K, Option.bind_some, show Mo_toldOf 0 (nI t) 6 MoS d = _ from Mo_toldOf_eq (w := 6) ht (by omega), Option.bind_some]
theorem Mo_isBoard_eq : Mo_isBoard 0 MoS d = some (if mw d 7 ≤ 0 then 0 else 1) := by
  unfold Mo_isBoard
  rw [Mo_K, Option.bind_some, show aix MoS 50 (MoS.2.1 0 1) 7 = some (1, 7) from Mw 7 (by omega), Option.bind_some]
  split <;> rfl
theorem CE.taskOf (h : CE S d w q) {t : Nat} (ht : t < q.nt) : Ws_taskOf 0 (nI t) S d = some (some (q.tk t)) := by
  unfold Ws_taskOf
  have h5 := h.nt5
  rw [h.K, Option.bind_some, h.T, Option.bind_some, h.kL, Option.bind_some, list_get h.cap.1 ht (by omega), Option.bind_some, h.tK ht, Option.bind_some]
theorem CE.injOf (h : CE S d w q) {i : Nat} (hi : i < q.ni) : Jl_get q.li (nI i) S d = some (some (q.ij i)) := by
  have h5 := h.ni18
  exact list_get h.cap.2 hi (by omega)
theorem rel_at {n : Nat} {S S2 : Sp} {d d2 : Dt} (h : Rel n S d S2 d2) : S2 = MoS ∧ ∃ q, WsFix S ∧ RelN S d d2 q ∧ CE S d (mw d2) q := by
  obtain ⟨h1, hF, -, q, hN⟩ := h
  exact ⟨h1, q, hF, hN, hN.ce hF⟩
theorem PL_4_Rel : PL_4 Rel := by
  intro n S1 d1 S2 d2 p1 p2 hn hR
  have hU := hR.up
  obtain ⟨rfl, q, hF, hN, hC⟩ := rel_at hR
  have h5 := hC.nt5
  unfold Ws_task Mo_task
  rw [hC.K, Mo_K]
  simp only [Option.bind_some]
  rw [hC.isTask, Mo_isTask_eq, hC.wf.2.1.1]
  simp only [Option.bind_some]
  rcases inI_nI (x := p1) (n := q.nt) (by omega) with ⟨e, -⟩ | ⟨t, ht, rfl, e⟩
  · simp only [e, i10, eq_self, not_true_eq_false, not_false_eq_true, ↓reduceIte, Option.bind_some]
    exact ⟨_, rfl, rfl, hU⟩
  · simp only [e, i10, eq_self, not_true_eq_false, not_false_eq_true, ↓reduceIte, Option.bind_some]
    rw [hC.taskOf ht, show (6 : Int64) = (nI 6).toInt64 from by decide, Mo_in0]
    simp only [Option.bind_some]
    have hK := hC.tK ht
    obtain ⟨-, hf, h8, h6, -⟩ := hC.task ht
    rw [hK]
    simp only [Option.bind_some]
    have hin : ∀ k : Nat, k ≤ 6 → (if inI (nI k) 0 (nI 6) = 0 then some (-2 : Int32) else (Mo_toldOf 0 (nI t) (nI k) MoS d2).bind fun r4 => some r4) = some (mw d2 (11 + 7 * t + k)) := by
      intro k hk
      have e1 : inI (nI k) 0 (nI 6) = 1 := by
        obtain rfl | rfl | rfl | rfl | rfl | rfl | rfl : k = 0 ∨ k = 1 ∨ k = 2 ∨ k = 3 ∨ k = 4 ∨ k = 5 ∨ k = 6 := by omega
        all_goals decide
      rw [e1, if_neg (by decide), Mo_toldOf_eq (by omega) (by omega), Option.bind_some]
    by_cases c0 : p2 = nI 0
    · rw [if_pos c0, c0, hin 0 (by omega), hf 0 (by omega)]
      exact ⟨_, rfl, rfl, hU⟩
    rw [if_neg c0]
    by_cases c1 : p2 = nI 1
    · rw [if_pos c1, c1, hin 1 (by omega), hf 1 (by omega)]
      exact ⟨_, rfl, rfl, hU⟩
    rw [if_neg c1]
    by_cases c2 : p2 = nI 2
    · rw [if_pos c2, c2, hin 2 (by omega), hf 2 (by omega)]
      exact ⟨_, rfl, rfl, hU⟩
    rw [if_neg c2]
    by_cases c3 : p2 = nI 3
    · rw [if_pos c3, c3, hin 3 (by omega), hf 3 (by omega)]
      exact ⟨_, rfl, rfl, hU⟩
    rw [if_neg c3]
    by_cases c4 : p2 = nI 4
    · rw [if_pos c4, c4, hin 4 (by omega), hf 4 (by omega)]
      exact ⟨_, rfl, rfl, hU⟩
    rw [if_neg c4]
    by_cases c5 : p2 = nI 5
    · rw [if_pos c5, c5, hin 5 (by omega), hf 5 (by omega)]
      exact ⟨_, rfl, rfl, hU⟩
    rw [if_neg c5]
    by_cases c6 : p2 = nI 6
    · rw [if_pos c6, c6, hin 6 (by omega), h8, h6]
      exact ⟨_, rfl, rfl, hU⟩
    rw [if_neg c6]
    have e0 : inI p2 0 (nI 6) = 0 := by
      rcases inI_lit (x := p2) (n := 6) (by omega) with ⟨e, -⟩ | ⟨k, hk, rfl, -⟩
      · exact e
      · exfalso
        obtain rfl | rfl | rfl | rfl | rfl | rfl | rfl : k = 0 ∨ k = 1 ∨ k = 2 ∨ k = 3 ∨ k = 4 ∨ k = 5 ∨ k = 6 := by omega
        all_goals contradiction
    rw [e0, if_pos rfl]
    exact ⟨_, rfl, rfl, hU⟩
theorem PL_6_Rel : PL_6 Rel := by
  intro n S1 d1 S2 d2 p1 hn hR
  have hU := hR.up
  obtain ⟨rfl, q, hF, hN, hC⟩ := rel_at hR
  have h3 := hC.nw3
  unfold Ws_watcher Mo_watcher
  rw [hC.K, Mo_K]
  simp only [Option.bind_some]
  rw [hC.T, Mo_isWatcher_eq]
  simp only [Option.bind_some]
  obtain ⟨-, -, -, -, -, t2, ⟨to, -⟩, -, -, -, -, -, -, hO, -, -, -, v6, -⟩ := hC
  have v6' : d1.1 q.a 6 = mw d2 3 := v6
  have hw := hN.2.1
  obtain ⟨-, -, -, -, -, -, -, -, -, -, -, -, -, -, -, -, -, -, ⟨w3, -⟩, -⟩ := hw
  rw [v6', Ws_in0, w3]
  simp only [Option.bind_some]
  rcases inI_nI (x := p1) (n := q.nw) (by omega) with ⟨e, -⟩ | ⟨t, ht, rfl, e⟩
  · simp only [e, i10, eq_self, not_true_eq_false, not_false_eq_true, ↓reduceIte, Option.bind_some]
    exact ⟨_, rfl, rfl, hU⟩
  · simp only [e, i10, eq_self, not_true_eq_false, not_false_eq_true, ↓reduceIte, Option.bind_some]
    rw [t2, aix_nI to (by omega) (by omega), show (8 : Int32) + nI t = nI (8 + t) from nI_add 8 t, Mw _ (by omega)]
    simp only [Option.bind_some]
    rw [hO t ht]
    exact ⟨_, rfl, rfl, hU⟩
theorem CE.isInj (h : CE S d w q) (p : Int32) : Ws_isInjection 0 p S d = some (inI p 0 (nI q.ni - 1)) := by
  unfold Ws_isInjection
  rw [h.K, Option.bind_some, h.T, Option.bind_some, h.kM, Option.bind_some, h.injs, Option.bind_some, Ws_in0, Option.bind_some, gb_inI, Option.bind_some]
theorem PL_7_Rel : PL_7 Rel := by
  intro n S1 d1 S2 d2 p1 p2 hn hR
  have hU := hR.up
  obtain ⟨rfl, q, hF, hN, hC⟩ := rel_at hR
  have h5 := hC.ni18
  unfold Ws_injection Mo_injection
  rw [hC.K, Mo_K]
  simp only [Option.bind_some]
  rw [hC.isInj, Mo_many_eq, hC.wf.many]
  simp only [Option.bind_some]
  rw [Mo_in0]
  simp only [Option.bind_some]
  rcases inI_nI (x := p1) (n := q.ni) (by omega) with ⟨e, -⟩ | ⟨t, ht, rfl, e⟩
  · simp only [e, i10, eq_self, not_true_eq_false, not_false_eq_true, ↓reduceIte, Option.bind_some]
    exact ⟨_, rfl, rfl, hU⟩
  · simp only [e, i10, eq_self, not_true_eq_false, not_false_eq_true, ↓reduceIte, Option.bind_some]
    rw [hC.T]
    simp only [Option.bind_some]
    rw [hC.kM]
    simp only [Option.bind_some]
    rw [hC.injOf ht, show (4 : Int64) = (nI 4).toInt64 from by decide, Mo_in0]
    simp only [Option.bind_some]
    rw [hC.iK ht]
    simp only [Option.bind_some]
    obtain ⟨-, hf⟩ := hC.inj ht
    have hin : ∀ k : Nat, k ≤ 4 → (if inI (nI k) 0 (nI 4) = 0 then some (-2 : Int32) else (Mo_of 0 (nI t) (nI k) MoS d2).bind fun r4 => some r4) = some (mw d2 (106 + 5 * t + k)) := by
      intro k hk
      have e1 : inI (nI k) 0 (nI 4) = 1 := by
        obtain rfl | rfl | rfl | rfl | rfl : k = 0 ∨ k = 1 ∨ k = 2 ∨ k = 3 ∨ k = 4 := by omega
        all_goals decide
      rw [e1, if_neg (by decide), Mo_of_eq (by omega) (by omega), Option.bind_some]
    by_cases c0 : p2 = nI 0
    · rw [if_pos c0, c0, hin 0 (by omega), hf 0 (by omega)]
      exact ⟨_, rfl, rfl, hU⟩
    rw [if_neg c0]
    by_cases c1 : p2 = nI 1
    · rw [if_pos c1, c1, hin 1 (by omega), hf 1 (by omega)]
      exact ⟨_, rfl, rfl, hU⟩
    rw [if_neg c1]
    by_cases c2 : p2 = nI 2
    · rw [if_pos c2, c2, hin 2 (by omega), hf 2 (by omega)]
      exact ⟨_, rfl, rfl, hU⟩
    rw [if_neg c2]
    by_cases c3 : p2 = nI 3
    · rw [if_pos c3, c3, hin 3 (by omega), hf 3 (by omega)]
      exact ⟨_, rfl, rfl, hU⟩
    rw [if_neg c3]
    by_cases c4 : p2 = nI 4
    · rw [if_pos c4, c4, hin 4 (by omega), hf 4 (by omega)]
      exact ⟨_, rfl, rfl, hU⟩
    rw [if_neg c4]
    have e0 : inI p2 0 (nI 4) = 0 := by
      rcases inI_lit (x := p2) (n := 4) (by omega) with ⟨e, -⟩ | ⟨k, hk, rfl, -⟩
      · exact e
      · exfalso
        obtain rfl | rfl | rfl | rfl | rfl : k = 0 ∨ k = 1 ∨ k = 2 ∨ k = 3 ∨ k = 4 := by omega
        all_goals contradiction
    rw [e0, if_pos rfl]
    exact ⟨_, rfl, rfl, hU⟩
end
