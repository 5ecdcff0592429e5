/-! THE PLAIN LAW: new Tolds -/
set_option maxRecDepth 100000
theorem at_app {α : Type} {L L' M : List α} {k : Nat} {x : α} (h : L' = L ++ M) (hk : M[k]? = some x) : L'[L.length + k]? = some x := by
  rw [h, List.getElem?_append_right (by omega), Nat.add_sub_cancel_left]
  exact hk
theorem at_old {α : Type} {L L' M : List α} {i : Nat} {x : α} (h : L' = L ++ M) (hk : L[i]? = some x) : L'[i]? = some x := by
  rw [h, List.getElem?_append_left (List.getElem?_eq_some_iff.mp hk).1]
  exact hk
theorem gcp_ok {S : Sp} {k v w n1 n2 n : Nat} (h1 : S.1[v]? = some (k, n1)) (h2 : S.1[w]? = some (k, n2)) (a : n ≤ n1) (b : n ≤ n2) (hn : n < 2 ^ 31) : gcp S k (some v) (some w) 0 0 (nI n) = some (v, w) := by
  simp only [gcp, Option.bind_some, h1, h2]
  refine if_pos ⟨⟨trivial, trivial⟩, ⟨by decide, by decide, nI_pos hn⟩, ?_, ?_⟩
  · rw [nI_clamp hn, show Int32.toNatClampNeg 0 = 0 from rfl, Nat.zero_add]; exact a
  · rw [nI_clamp hn, show Int32.toNatClampNeg 0 = 0 from rfl, Nat.zero_add]; exact b
theorem aln_ok {S : Sp} {k v n : Nat} (h : S.1[v]? = some (k, n)) : aln S k (some v) = some n := by
  simp only [aln, Option.bind_some, h]
  exact if_pos trivial
theorem imin_nI {a b : Nat} (h : b ≤ a) (ha : a < 2 ^ 31) : imin (nI a) (nI b) = nI b := by
  unfold imin
  by_cases e : b = a
  · subst e
    split <;> rfl
  · rw [if_pos (nI_lt (by omega) ha)]
theorem Jl_init_ok {T : Sp} {e : Dt} {l c : Nat} (hl : T.1[l]? = some (16, 0)) (hc : 0 < c) (hc2 : c ≤ 65536) : ∃ T' e', Jl_init l (nI c) T e = some ((), T', e') ∧ T'.1 = T.1 ++ [(58, c)] ∧ T'.2.2 = (T.2.2.1 + 1, T.2.2.2 + c) ∧ (∀ a, a ≠ l → a ≠ T.1.length → T'.2.1 a = T.2.1 a) ∧ (∀ j, j ≠ 1 → T'.2.1 l j = T.2.1 l j) ∧ T'.2.1 l 1 = some T.1.length ∧ (∀ j, T'.2.1 T.1.length j = none) ∧ (∀ a, a ≠ l → a ≠ T.1.length → e'.1 a = e.1 a) ∧ ∀ j, j ≠ 0 → e'.1 l j = e.1 l j := by
  have hlt := (List.getElem?_eq_some_iff.mp hl).1
  have hl2 : (mmNew T (50 + 8, c) c).1[l]? = some (16, 0) := at_old rfl hl
  unfold Jl_init Jal_init Jac_init
  rw [isK_of hl]
  simp only [Option.bind_some, bind2_some]
  rw [if_neg (nI_nle hc (by omega)), gn_ok hc2]
  simp only [Option.bind_some, bind2_some]
  rw [isK_of hl2]
  simp only [Option.bind_some]
  refine ⟨_, _, rfl, rfl, rfl, fun a h1 h2 => (u2_row h1).trans (z2_row h2), fun j hj => (u2_ne (fun z => hj z.2)).trans (congrFun (z2_row (show l ≠ T.1.length by omega)) j), u2_at, fun j => (u2_ne (by omega)).trans (if_pos rfl), fun a h1 h2 => (z2_row h2).trans (dI_ne h1), fun j hj => (congrFun (z2_row (show l ≠ T.1.length by omega)) j).trans (dI_nk (fun z => hj z.2))⟩
theorem To_init_ok {T : Sp} {e : Dt} {t m : Nat} (ht : T.1[t]? = some (1, 0)) (hm : T.1.length = m) : ∃ T' e', To_init t T e = some ((), T', e') ∧ T'.1 = T.1 ++ [(16, 0), (58, 5), (16, 0), (58, 18), (50, 3)] ∧ T'.2.2 = (T.2.2.1 + 5, T.2.2.2 + 32) ∧ (∀ a, a < m → a ≠ t → T'.2.1 a = T.2.1 a) ∧ (∀ j, 3 ≤ j → T'.2.1 t j = T.2.1 t j) ∧ T'.2.1 t 0 = some m ∧ T'.2.1 t 1 = some (m + 2) ∧ T'.2.1 t 2 = some (m + 4) ∧ T'.2.1 m 1 = some (m + 1) ∧ T'.2.1 (m + 2) 1 = some (m + 3) ∧ (∀ j, T'.2.1 (m + 1) j = none) ∧ (∀ j, T'.2.1 (m + 3) j = none) ∧ (∀ a, a < m → e'.1 a = e.1 a) ∧ e'.1 m 2 = 0 ∧ e'.1 (m + 2) 2 = 0 ∧ ∀ j, e'.1 (m + 4) j = 0 := by
  have hlt : t < m := by rw [← hm]; exact (List.getElem?_eq_some_iff.mp ht).1
  unfold To_init
  simp only [bind2_some]
  -- the first list
  generalize hT1 : mmNew T (16, 0) 3 = T1
  generalize he1 : mmNewD T e = e1
  have n1 : T1.1 = T.1 ++ [(16, 0)] := by rw [← hT1]; rfl
  have c1 : T1.2.2 = (T.2.2.1 + 1, T.2.2.2 + 3) := by rw [← hT1]; rfl
  have r1 : ∀ a, a < m → T1.2.1 a = T.2.1 a := fun a ha => by rw [← hT1]; exact z2_row (by omega)
  have d1 : ∀ a, a < m → e1.1 a = e.1 a := fun a ha => by rw [← he1]; exact z2_row (by omega)
  have d1m : ∀ j, e1.1 m j = 0 := fun j => by rw [← he1, ← hm]; exact if_pos rfl
  have l1 : T1.1.length = m + 1 := by rw [n1, List.length_append, hm]; rfl
  obtain ⟨T2, e2, g2, n2, c2, r2, r2l, r2a, r2b, d2, d2l⟩ := Jl_init_ok (T := T1) (e := e1) (l := T.1.length) (c := 5) (at_app (k := 0) n1 rfl) (by omega) (by omega)
  rw [show Jl_init T.1.length 5 T1 e1 = _ from g2]
  simp only [bind3_some]
  rw [hm] at r2 r2l r2a d2 d2l ⊢
  rw [l1] at r2 r2a r2b d2
  have n2' : T2.1 = T.1 ++ [(16, 0), (58, 5)] := by rw [n2, n1, List.append_assoc]; rfl
  have l2 : T2.1.length = m + 2 := by rw [n2', List.length_append, hm]; rfl
  rw [isK_of (at_old n2' ht)]
  simp only [Option.bind_some]
  generalize hT3 : sR T2 t 0 (some m) = T3
  have n3 : T3.1 = T2.1 := by rw [← hT3]
  have c3 : T3.2.2 = T2.2.2 := by rw [← hT3]
  have r3 : ∀ a, a ≠ t → T3.2.1 a = T2.2.1 a := fun a ha => by rw [← hT3]; exact u2_row ha
  have r3t : T3.2.1 t 0 = some m := by rw [← hT3]; exact u2_at
  have r3j : ∀ j, j ≠ 0 → T3.2.1 t j = T2.2.1 t j := fun j hj => by rw [← hT3]; exact u2_ne (fun z => hj z.2)
  -- the second list
  generalize hT4 : mmNew T3 (16, 0) 3 = T4
  generalize he4 : mmNewD T3 e2 = e4
  have l3 : T3.1.length = m + 2 := by rw [n3, l2]
  have n4 : T4.1 = T3.1 ++ [(16, 0)] := by rw [← hT4]; rfl
  have c4 : T4.2.2 = (T3.2.2.1 + 1, T3.2.2.2 + 3) := by rw [← hT4]; rfl
  have r4 : ∀ a, a ≠ m + 2 → T4.2.1 a = T3.2.1 a := fun a ha => by rw [← hT4]; exact z2_row (by omega)
  have d4 : ∀ a, a ≠ m + 2 → e4.1 a = e2.1 a := fun a ha => by rw [← he4]; exact z2_row (by omega)
  have d4m : ∀ j, e4.1 (m + 2) j = 0 := fun j => by rw [← he4, ← l3]; exact if_pos rfl
  have l4 : T4.1.length = m + 3 := by rw [n4, List.length_append, l3]; rfl
  obtain ⟨T5, e5, g5, n5, c5, r5, r5l, r5a, r5b, d5, d5l⟩ := Jl_init_ok (T := T4) (e := e4) (l := T3.1.length) (c := 18) (at_app (k := 0) n4 rfl) (by omega) (by omega)
  rw [l3] at g5
  rw [l2, show Jl_init (m + 2) 18 T4 e4 = _ from g5]
  simp only [bind3_some]
  rw [l3] at r5 r5l r5a d5 d5l
  rw [l4] at r5 r5a r5b d5
  have n5' : T5.1 = T.1 ++ [(16, 0), (58, 5), (16, 0), (58, 18)] := by rw [n5, n4, n3, n2', List.append_assoc, List.append_assoc]; rfl
  have l5 : T5.1.length = m + 4 := by rw [n5', List.length_append, hm]; rfl
  rw [isK_of (at_old n5' ht)]
  simp only [Option.bind_some]
  generalize hT6 : sR T5 t 1 (some (m + 2)) = T6
  have n6 : T6.1 = T5.1 := by rw [← hT6]
  have c6 : T6.2.2 = T5.2.2 := by rw [← hT6]
  have r6 : ∀ a, a ≠ t → T6.2.1 a = T5.2.1 a := fun a ha => by rw [← hT6]; exact u2_row ha
  have r6t : T6.2.1 t 1 = some (m + 2) := by rw [← hT6]; exact u2_at
  have r6j : ∀ j, j ≠ 1 → T6.2.1 t j = T5.2.1 t j := fun j hj => by rw [← hT6]; exact u2_ne (fun z => hj z.2)
  -- the row over
  rw [show gn 3 = some 3 from gn_ok (n := 3) (by omega)]
  simp only [Option.bind_some, bind2_some]
  have l6 : T6.1.length = m + 4 := by rw [n6, l5]
  have n7 : (mmNew T6 (50 + 0, 3) 3).1 = T.1 ++ [(16, 0), (58, 5), (16, 0), (58, 18), (50, 3)] := by
    show T6.1 ++ [(50, 3)] = _
    rw [n6, n5', List.append_assoc]
    rfl
  rw [isK_of (at_old n7 ht), l5]
  simp only [Option.bind_some]
  have e7 : ∀ a, a ≠ m + 4 → (mmNewD T6 e5).1 a = e5.1 a := fun a ha => z2_row (by omega)
  have r7 : ∀ a, a ≠ t → a ≠ m + 4 → (sR (mmNew T6 (50 + 0, 3) 3) t 2 (some (m + 4))).2.1 a = T6.2.1 a := fun a h1 h2 => (u2_row h1).trans (z2_row (by omega))
  have r7j : ∀ j, j ≠ 2 → (sR (mmNew T6 (50 + 0, 3) 3) t 2 (some (m + 4))).2.1 t j = T6.2.1 t j := fun j hj => (u2_ne (fun z => hj z.2)).trans (congrFun (z2_row (show t ≠ T6.1.length by omega)) j)
  refine ⟨_, _, rfl, n7, ?_, fun a h1 h2 => ?_, fun j hj => ?_, ?_, ?_, u2_at, ?_, ?_, fun j => ?_, fun j => ?_, fun a ha => ?_, ?_, ?_, fun j => ?_⟩
  · show (T6.2.2.1 + 1, T6.2.2.2 + 3) = _
    rw [c6, c5, c4, c3, c2, c1]
  · rw [r7 a h2 (by omega), r6 a h2, r5 a (by omega) (by omega), r4 a (by omega), r3 a h2, r2 a (by omega) (by omega), r1 a h1]
  · rw [r7j j (by omega), r6j j (by omega), r5 t (by omega) (by omega), r4 t (by omega), r3j j (by omega), r2 t (by omega) (by omega), r1 t hlt]
  · rw [r7j 0 (by omega), r6j 0 (by omega), r5 t (by omega) (by omega), r4 t (by omega), r3t]
  · rw [r7j 1 (by omega), r6t]
  · rw [r7 m (by omega) (by omega), r6 m (by omega), r5 m (by omega) (by omega), r4 m (by omega), r3 m (by omega), r2a]
  · rw [r7 (m + 2) (by omega) (by omega), r6 (m + 2) (by omega), r5a]
  · rw [r7 (m + 1) (by omega) (by omega), r6 (m + 1) (by omega), r5 (m + 1) (by omega) (by omega), r4 (m + 1) (by omega), r3 (m + 1) (by omega), r2b]
  · rw [r7 (m + 3) (by omega) (by omega), r6 (m + 3) (by omega), r5b]
  · rw [e7 a (by omega), d5 a (by omega) (by omega), d4 a (by omega), d2 a (by omega) (by omega), d1 a ha]
  · rw [e7 m (by omega), d5 m (by omega) (by omega), d4 m (by omega), d2l 2 (by omega), d1m]
  · rw [e7 (m + 2) (by omega), d5l 2 (by omega), d4m]
  · show z2 e5.1 T6.1.length 0 (m + 4) j = 0
    rw [l6]
    exact if_pos rfl
