/-! THE PLAIN LAW: queries without a run -/
set_option maxRecDepth 100000
theorem Ws_K {S : Sp} (h : WsFix S) : isK S 0 (some 0) = some 0 := isK_of (n := 0) (by rw [h.1 0 (by omega)]; rfl)
theorem nI_sub {a b : Nat} (h : b ≤ a) : nI a - nI b = nI (a - b) := by
  have e : nI a = nI b + nI (a - b) := by rw [nI_add, Nat.add_sub_cancel' h]
  rw [e, Int32.add_comm, Int32.add_sub_cancel]
theorem Rel.up {n : Nat} {S1 S2 : Sp} {d1 d2 : Dt} (h : Rel n S1 d1 S2 d2) : Rel (n + 1) S1 d1 S2 d2 := PLm_Rel n S1 d1 S2 d2 h
theorem PL_52_Rel : PL_52 Rel := by
  intro n S1 d1 S2 d2 p1 hn hR
  have hU := hR.up
  obtain ⟨rfl, hF, -, q, hq0, hT, -, -, ⟨tp, -, htp1, htp2⟩, -⟩ := hR
  obtain ⟨ta, t0, t1, t2, -, ⟨l1, -, -, l2, -⟩, ⟨m1, -, -, m2, -⟩, -, -, -, -, -, v3, v4, v5, v6, v7, v8, ⟨w3, -⟩, ⟨w4, -⟩, ⟨w5, w6, hna, -⟩, -⟩ := hT
  have hK := Ws_K hF
  have kT : isK S1 1 (S1.2.1 0 0) = some q.1.1 := by rw [hq0]; exact isK_of ta
  have kL : isK S1 16 (S1.2.1 q.1.1 0) = some q.1.2.1 := by rw [t0]; exact isK_of l1
  have kM : isK S1 16 (S1.2.1 q.1.1 1) = some q.1.2.2.2.2.1 := by rw [t1]; exact isK_of m1
  have hL := isK_s kL
  have hM := isK_s kM
  have hz : Ws_tasks 0 S1 d1 = some (nI q.2.2.2.1.2.1) := by
    unfold Ws_tasks Jl_size
    rw [hK, Option.bind_some, kT, Option.bind_some, kL, Option.bind_some, hL, Option.bind_some, l2]
    rfl
  have hin : ∀ k : Nat, k ≤ 7 → Mo_count 0 (nI k) MoS d2 = some (mw d2 k) := by
    intro k hk
    unfold Mo_count
    rw [show (0 : Int64) = (0 : Int32).toInt64 from rfl, show (7 : Int64) = (7 : Int32).toInt64 from rfl, Mo_in_eq, Option.bind_some]
    have e : inI (nI k) 0 7 = 1 := by
      obtain rfl | rfl | rfl | rfl | rfl | rfl | rfl | rfl : k = 0 ∨ k = 1 ∨ k = 2 ∨ k = 3 ∨ k = 4 ∨ k = 5 ∨ k = 6 ∨ k = 7 := by omega
      all_goals decide
    rw [e, if_neg (by decide), Mo_K, Option.bind_some, MoS_R0_1, aix_nI (Mo_a (a := 1) (sh := (50, 201)) rfl) (by omega) (by omega), Option.bind_some]
  unfold Ws_count
  by_cases c0 : p1 = nI 0
  · rw [if_pos c0, c0, hin 0 (by omega), hK, Option.bind_some, kT, Option.bind_some, v3]
    exact ⟨_, rfl, rfl, hU⟩
  rw [if_neg c0]
  by_cases c1 : p1 = nI 1
  · rw [if_pos c1, c1, hin 1 (by omega), hK, Option.bind_some, kT, Option.bind_some, v4]
    exact ⟨_, rfl, rfl, hU⟩
  rw [if_neg c1]
  by_cases c2 : p1 = nI 2
  · rw [if_pos c2, c2, hin 2 (by omega), hK, Option.bind_some, kT, Option.bind_some, v5]
    exact ⟨_, rfl, rfl, hU⟩
  rw [if_neg c2]
  by_cases c3 : p1 = nI 3
  · rw [if_pos c3, c3, hin 3 (by omega), hK, Option.bind_some, kT, Option.bind_some, v6]
    exact ⟨_, rfl, rfl, hU⟩
  rw [if_neg c3]
  by_cases c4 : p1 = nI 4
  · rw [if_pos c4, c4, hin 4 (by omega), hK, Option.bind_some, hz, Option.bind_some, w4]
    exact ⟨_, rfl, rfl, hU⟩
  rw [if_neg c4]
  by_cases c5 : p1 = nI 5
  · rw [if_pos c5, c5, hin 5 (by omega), hK, Option.bind_some, kT, Option.bind_some, v7]
    exact ⟨_, rfl, rfl, hU⟩
  rw [if_neg c5]
  by_cases c6 : p1 = nI 6
  · rw [if_pos c6, c6, hin 6 (by omega), hK, Option.bind_some, kT, Option.bind_some, kM, Option.bind_some]
    unfold Jl_size
    rw [hM, Option.bind_some, m2, Option.bind_some, v7, w5, w6, nI_sub (Nat.sub_le _ _), Nat.sub_sub_self hna]
    exact ⟨_, rfl, rfl, hU⟩
  rw [if_neg c6]
  by_cases c7 : p1 = nI 7
  · rw [if_pos c7, c7, hin 7 (by omega), hK, Option.bind_some, kT, Option.bind_some, v8]
    exact ⟨_, rfl, rfl, hU⟩
  rw [if_neg c7]
  have hout : Mo_count 0 p1 MoS d2 = some (if p1 = nI 8 then d2.1 0 5 else -1) := by
    unfold Mo_count
    rw [show (0 : Int64) = (0 : Int32).toInt64 from rfl, show (7 : Int64) = (7 : Int32).toInt64 from rfl, Mo_in_eq, Option.bind_some]
    have e : inI p1 0 7 = 0 := by
      refine if_neg (fun h => ?_)
      obtain ⟨j, hj, rfl⟩ := nI_of2 (M := 7) (n := 7) (by decide) (Int32.not_lt.mpr h.1) h.2
      obtain rfl | rfl | rfl | rfl | rfl | rfl | rfl | rfl : j = 0 ∨ j = 1 ∨ j = 2 ∨ j = 3 ∨ j = 4 ∨ j = 5 ∨ j = 6 ∨ j = 7 := by omega
      all_goals contradiction
    rw [e, if_pos rfl, Mo_K, Option.bind_some]
    by_cases c8 : p1 = nI 8
    · rw [if_neg (show ¬ ¬ p1 = 8 from fun h => h c8), if_pos c8]
    · rw [if_pos (show ¬ p1 = 8 from c8), if_neg c8]
  rw [hout, hK, Option.bind_some]
  by_cases c8 : p1 = nI 8
  · rw [if_pos c8, if_pos c8, htp1, htp2]
    exact ⟨_, rfl, rfl, hU⟩
  · rw [if_neg c8, if_neg c8]
    exact ⟨_, rfl, rfl, hU⟩
theorem PL_3_Rel : PL_3 Rel := by
  intro n S1 d1 S2 d2 p1 hn hR
  have hU := hR.up
  obtain ⟨rfl, hF, -, q, -, -, -, -, -, -, g1, g2, -⟩ := hR
  have hK := Ws_K hF
  unfold Ws_fault Mo_fault
  rw [hK, Mo_K]
  simp only [Option.bind_some]
  rw [g1, g2]
  by_cases h0 : p1 = 0
  · rw [if_neg (show ¬ ¬ p1 = 0 from fun h => h h0)]
    exact ⟨_, rfl, rfl, hU⟩
  · rw [if_pos h0]
    by_cases h1 : p1 = 1
    · rw [if_neg (show ¬ ¬ p1 = 1 from fun h => h h1)]
      exact ⟨_, rfl, rfl, hU⟩
    · rw [if_pos h1]
      exact ⟨_, rfl, rfl, hU⟩
/-- the places that a Told reads are none of the component's own -/
theorem adr_of {S : Sp} (hF : WsFix S) {a : Nat} {sh : Nat × Nat} (hs : sh ∈ ([(1, 0), (16, 0), (12, 0), (13, 0), (50, 6)] : List (Nat × Nat))) (h : S.1[a]? = some sh) : (1 ≤ a ∧ a < 7) ∨ 35 ≤ a := by
  by_cases ha : a < 35
  · rw [hF.1 a ha] at h
    left
    have key : ∀ i, i < 35 → ∀ sh ∈ ([(1, 0), (16, 0), (12, 0), (13, 0), (50, 6)] : List (Nat × Nat)), WsL[i]? = some sh → 1 ≤ i ∧ i < 7 := by decide +kernel
    exact key a ha sh hs h
  · exact Or.inr (Nat.not_lt.mp ha)
theorem adr_ov {S : Sp} (hF : WsFix S) {a : Nat} (h : S.1[a]? = some (50, 3)) (h1 : a ≠ 18) (h2 : a ≠ 19) : (1 ≤ a ∧ a < 7) ∨ 35 ≤ a := by
  by_cases ha : a < 35
  · rw [hF.1 a ha] at h
    left
    have key : ∀ i, i < 35 → WsL[i]? = some (50, 3) → i ≠ 18 → i ≠ 19 → 1 ≤ i ∧ i < 7 := by decide +kernel
    exact key a ha h h1 h2
  · exact Or.inr (Nat.not_lt.mp ha)
/-- a Told is kept where only the component's own rows change -/
theorem TdOk.keep {S : Sp} {d d' : Dt} {w : Nat → Int32} {q : TdP} (h : TdOk S d w q) (hF : WsFix S) (hk : ∀ a, (1 ≤ a ∧ a < 7) ∨ 35 ≤ a → d'.1 a = d.1 a) : TdOk S d' w q := by
  obtain ⟨ta, t0, t1, t2, ⟨to, o1, o2⟩, ⟨l1, l2, l3, l4, l5, l6, l7⟩, ⟨m1, m2, m3, m4, m5, m6, m7⟩, c1, c2, hT, hI, hO, v3, v4, v5, v6, v7, v8, hW⟩ := h
  have ea := hk _ (adr_of hF (by decide) ta)
  have el := hk _ (adr_of hF (by decide) l1)
  have em := hk _ (adr_of hF (by decide) m1)
  have eo := hk _ (adr_ov hF to o1 o2)
  refine ⟨ta, t0, t1, t2, ⟨to, o1, o2⟩, ⟨l1, l2, l3, by rw [el]; exact l4, l5, l6, l7⟩, ⟨m1, m2, m3, by rw [em]; exact m4, m5, m6, m7⟩, c1, c2, fun t ht => ?_, fun i hi => ?_, fun v hv => by rw [eo]; exact hO v hv, by rw [ea]; exact v3, by rw [ea]; exact v4, by rw [ea]; exact v5, by rw [ea]; exact v6, by rw [ea]; exact v7, by rw [ea]; exact v8, hW⟩
  · obtain ⟨s1, s2, s3, s4, s5, u, b, s6, s7, s8, s9, s10, s11⟩ := hT t ht
    have e1 := hk _ (adr_of hF (by decide) s1)
    have e2 := hk _ (adr_of hF (by decide) s8)
    have e3 := hk _ (adr_of hF (by decide) s9)
    exact ⟨s1, fun f hf => by rw [e1]; exact s2 f hf, by rw [e1]; exact s3, s4, s5, u, b, s6, s7, s8, s9, fun n hn => by rw [e2]; exact s10 n hn, fun k hk9 => by rw [e3]; exact s11 k hk9⟩
  · obtain ⟨s1, s2⟩ := hI i hi
    have e1 := hk _ (adr_of hF (by decide) s1)
    exact ⟨s1, fun f hf => by rw [e1]; exact s2 f hf⟩
theorem dI_ne {d : Dt} {a k : Nat} {x : Int32} {b : Nat} (h : b ≠ a) : (dI d a k x).1 b = d.1 b := u2_row h
theorem dI_at {d : Dt} {a k : Nat} {x : Int32} : (dI d a k x).1 a k = x := u2_at
theorem dI_nk {d : Dt} {a k b j : Nat} {x : Int32} (h : ¬ (b = a ∧ j = k)) : (dI d a k x).1 b j = d.1 b j := u2_ne h
theorem PL_1_Rel : PL_1 Rel := by
  intro n S1 d1 S2 d2 p1 hn hR
  have hU := hR.up
  obtain ⟨rfl, hF, hC, q, hq0, hT, hs, hI, ⟨tp, htp0, htp1, htp2⟩, g0, g1, g2, g3, g4⟩ := hR
  have hK := Ws_K hF
  unfold Ws_end Mo_end
  rw [hK, Mo_K]
  simp only [Option.bind_some]
  rw [htp1, htp2, show (0 : Int64) = (0 : Int32).toInt64 from rfl, Mo_in_eq, Ws_in_eq]
  simp only [Option.bind_some]
  by_cases h0 : inI p1 0 (nI tp) = 0
  · rw [if_neg (show ¬ ¬ inI p1 0 (nI tp) = 0 from fun h => h h0), if_neg (show ¬ ¬ inI p1 0 (nI tp) = 0 from fun h => h h0)]
    exact ⟨_, _, _, rfl, rfl, hU⟩
  · rw [if_pos h0, if_pos h0]
    have h9 : (0 : Int32) ≤ p1 ∧ p1 ≤ nI tp := by
      unfold inI at h0
      split at h0
      · assumption
      · exact absurd rfl h0
    obtain ⟨j, hj, rfl⟩ := nI_of2 (M := nI tp) (n := tp) (nI_toInt (by omega)) (Int32.not_lt.mpr h9.1) h9.2
    have e2 : mw (dI d2 0 5 (nI j)) = mw d2 := dI_ne (by decide)
    have e3 : (dI d2 0 5 (nI j)).1 3 = d2.1 3 := dI_ne (by decide)
    have e4 : (dI d2 0 5 (nI j)).1 2 = d2.1 2 := dI_ne (by decide)
    have kp : ∀ {w : Nat → Int32} {r : TdP}, TdOk S1 d1 w r → TdOk S1 (dI d1 0 3 (nI j)) w r := fun h => h.keep hF (fun a ha => dI_ne (by omega))
    refine ⟨_, _, _, rfl, rfl, rfl, hF, ⟨by omega, by omega, hC.2.2⟩, q, hq0, ?_, hs, ?_, ⟨j, by omega, dI_at, dI_at⟩, ?_, ?_, ?_, ?_, ?_⟩
    · rw [e2]; exact kp hT
    · intro k hk
      rw [e3, e4]
      rcases hI k hk with h | ⟨h1, r, h2, h3, h4⟩
      · exact Or.inl h
      · exact Or.inr ⟨h1, r, h2, kp h3, h4⟩
    · intro i hi
      rw [dI_ne (by decide), dI_ne (by decide)]
      exact g0 i hi
    · rw [dI_nk (by decide), dI_nk (by decide)]; exact g1
    · rw [dI_nk (by decide), dI_nk (by decide)]; exact g2
    · rw [dI_nk (by decide)]; exact g3
    · intro t ht
      rw [e2, dI_ne (by decide), dI_ne (by decide)]
      exact g4 t ht
