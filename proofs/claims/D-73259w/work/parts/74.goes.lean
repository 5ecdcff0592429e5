/-! THE PLAIN LAW: the model's costs and ways, from the last node down -/
set_option maxRecDepth 100000
section
variable {d : Dt} {t nd : Nat}
/-- the inner loop: what is best over the followers -/
def gB (g : Nat → Int32) (p : Nat → Bool) (wh m : Nat) : Int32 := if wh = 2 then wB g p m else imax 0 (cB g p (decide (wh = 1)) m)
theorem gV_s {w : Nat → Int32} {n wh : Nat} (hn : n < nd) (hnd : nd ≤ 6) : gV w t nd wh n = if wh = 2 then (if gc (gp w t n) nd = 0 then 1 else gB (gV w t nd wh) (gp w t n) wh nd) else gB (gV w t nd wh) (gp w t n) wh nd + wU w t n := by
  have hp := gp_le w t
  by_cases h2 : wh = 2
  · subst h2
    rw [if_pos rfl]
    show wS (gp w t) nd (7 + 1) n = if _ then 1 else wB (fun n => gV w t nd 2 n) (gp w t n) nd
    rw [wS_s, wB_cong (g' := fun n => gV w t nd 2 n) (fun k hk hpk => ?_)]
    show wS (gp w t) nd 7 k = wS (gp w t) nd 8 k
    exact wS_st hp _ _ _ hk (by omega) (by omega)
  · rw [if_neg h2]
    have e1 : gV w t nd wh = wC w t nd (decide (wh = 1)) := funext fun k => if_neg h2
    rw [e1]
    show cS (wU w t) (gp w t) (decide (wh = 1)) nd (7 + 1) n = (if wh = 2 then _ else imax 0 (cB _ _ _ _)) + _
    rw [if_neg h2, cS_s, Int32.add_comm, cB_cong (g' := wC w t nd (decide (wh = 1))) (fun k hk hpk => ?_)]
    have hk2 : n < k := Nat.lt_of_not_le (fun z => by rw [hp n k z] at hpk; cases hpk)
    exact cS_st hp _ _ _ hk (by omega) (by omega)
theorem gV_in {w : Nat → Int32} {n wh : Nat} (h2 : wh ≠ 2) (hn : n < nd) (hnd : nd ≤ 6) (hU : ∀ n, n < nd → ∃ u, wU w t n = nI u ∧ 1 ≤ u ∧ u ≤ 9) : ∃ c, gV w t nd wh n = nI c ∧ 1 ≤ c ∧ c ≤ 54 := by
  unfold gV
  rw [if_neg h2]
  obtain ⟨c, c1, c2, c3⟩ := cS_in (mx := decide (wh = 1)) (gp_le w t) hnd hU 8 n hn (by omega)
  exact ⟨c, c1, c2, Nat.le_trans c3 (by omega)⟩
theorem m1_pos {c : Nat} (h : c < 2 ^ 31) : ¬ nI c = -1 := by
  intro e
  have h1 := congrArg Int32.toInt e
  rw [nI_toInt h] at h1
  have h2 : (-1 : Int32).toInt = -1 := by decide
  omega
theorem imax0 {c : Nat} (h : c < 2 ^ 31) : imax 0 (nI c) = nI c := by
  rw [imax_le]
  by_cases h0 : c = 0
  · subst h0; rfl
  · rw [if_neg (nI_nle (by omega) h)]
theorem Mo_goes_in {n wh : Nat} (ht : t < 5) (hn : n < nd) (hnd : nd ≤ 6) (hwh : wh < 3) (hw : mw d (11 + 7 * t + 6) = nI nd) {g : Nat → Int32} (hg : wh ≠ 2 → ∀ k, n < k → k < nd → ∃ c, g k = nI c ∧ 1 ≤ c ∧ c ≤ 54) (hr : ∀ k, n < k → k < nd → d.1 7 k = g k) (k8 : Int32 → Dt → Option (Int32 × Dt)) (s0 : Int32) (hs0 : wh ≠ 2 → s0 = 0) : Mo_goes_h41 0 (nI t) (nI wh) MoS k8 FU (nI n) s0 1 (nI (n + 1)) d = k8 (nI n + (-1)) (dI d 7 n (if wh = 2 then s0 + gB g (gp (mw d) t n) wh nd else gB g (gp (mw d) t n) wh nd + wU (mw d) t n)) := by
  refine loop_FU (X := fun F (x : Int32 × Int32 × Int32) => Mo_goes_h41 0 (nI t) (nI wh) MoS k8 F (nI n) x.1 x.2.1 x.2.2 d) (Inv := fun i x => x = (if wh = 2 then s0 + wB g (gp (mw d) t n) (n + 1 + i) else imax 0 (cB g (gp (mw d) t n) (decide (wh = 1)) (n + 1 + i)), if gc (gp (mw d) t n) (n + 1 + i) = 0 then 1 else 0, nI (n + 1 + i)) ∧ (gc (gp (mw d) t n) (n + 1 + i) = 0 → cB g (gp (mw d) t n) (decide (wh = 1)) (n + 1 + i) = -1) ∧ (wh ≠ 2 → gc (gp (mw d) t n) (n + 1 + i) ≠ 0 → ∃ c, cB g (gp (mw d) t n) (decide (wh = 1)) (n + 1 + i) = nI c ∧ 1 ≤ c ∧ c ≤ 54)) (P := fun o => o = k8 (nI n + (-1)) (dI d 7 n (if wh = 2 then s0 + gB g (gp (mw d) t n) wh nd else gB g (gp (mw d) t n) wh nd + wU (mw d) t n))) (x := (s0, 1, nI (n + 1))) (nd - (n + 1)) (by omega) ?_ ?_ ?_
  · refine ⟨?_, fun _ => cB_lo (fun k hk => gp_lo (by omega)), fun _ hc => absurd (gc_lo (by omega)) hc⟩
    rw [Nat.add_zero, gc_lo (Nat.le_refl _), if_pos rfl, cB_lo (fun k hk => gp_lo (by omega)), wB_lo (fun k hk => gp_lo (by omega))]
    by_cases h2 : wh = 2
    · rw [if_pos h2, Int32.add_zero]
    · rw [if_neg h2, hs0 h2]
      rfl
  · rintro i hi F x ⟨rfl, h0, h1⟩
    have hgs : gc (gp (mw d) t n) (n + 1 + (i + 1)) = gc (gp (mw d) t n) (n + 1 + i) + if gp (mw d) t n (n + 1 + i) then 1 else 0 := rfl
    have hcs : cB g (gp (mw d) t n) (decide (wh = 1)) (n + 1 + (i + 1)) = _ := cB_s (m := n + 1 + i)
    have hws : wB g (gp (mw d) t n) (n + 1 + (i + 1)) = _ := wB_s (m := n + 1 + i)
    by_cases hp : gp (mw d) t n (n + 1 + i) = true
    · rw [if_pos hp] at hgs hcs hws
      refine ⟨_, ?_, rfl, fun z => by omega, fun h2 _ => ?_⟩
      · show Mo_goes_h41 0 (nI t) (nI wh) MoS k8 (F + 1) (nI n) (if wh = 2 then s0 + wB g (gp (mw d) t n) (n + 1 + i) else imax 0 (cB g (gp (mw d) t n) (decide (wh = 1)) (n + 1 + i))) (if gc (gp (mw d) t n) (n + 1 + i) = 0 then 1 else 0) (nI (n + 1 + i)) d = Mo_goes_h41 0 (nI t) (nI wh) MoS k8 F (nI n) (if wh = 2 then s0 + wB g (gp (mw d) t n) (n + 1 + (i + 1)) else imax 0 (cB g (gp (mw d) t n) (decide (wh = 1)) (n + 1 + (i + 1)))) (if gc (gp (mw d) t n) (n + 1 + (i + 1)) = 0 then 1 else 0) (nI (n + 1 + i + 1)) d
        rw [hgs, hcs, hws]
        simp only [Mo_goes_h41, Mo_goes_b132, Mo_goes_b134, Mo_K, Option.bind_some]
        rw [Mo_nodesOf_eq ht, hw]
        simp only [Option.bind_some]
        rw [if_neg (nI_ge (by omega) (by omega)), Mo_isBehind_gp ht (by omega) (by omega) (by omega), if_pos hp]
        simp only [Option.bind_some]
        rw [if_pos (by decide), MoS_R0_15, ma7 (show n + 1 + i < 6 by omega)]
        simp only [Option.bind_some]
        rw [hr _ (by omega) (by omega), nI_1, if_neg (show ¬ gc (gp (mw d) t n) (n + 1 + i) + 1 = 0 by omega)]
        by_cases h2 : wh = 2
        · subst h2
          rw [if_neg (show ¬ ¬ nI 2 = 2 from fun z => z rfl), if_pos rfl, if_pos rfl, Int32.add_assoc]
        · have hw2 : ¬ nI wh = 2 := fun z => h2 ((nI_eq (by omega) (by omega)).mp z)
          obtain ⟨c, c1, c2, c3⟩ := hg h2 (n + 1 + i) (by omega) (by omega)
          rw [if_pos hw2, if_neg h2, if_neg h2]
          by_cases hz : gc (gp (mw d) t n) (n + 1 + i) = 0
          · rw [if_pos hz, if_neg (by decide), h0 hz, if_pos rfl, c1, imax0 (by omega)]
          · obtain ⟨e, e1, e2, e3⟩ := h1 h2 hz
            rw [if_neg hz, if_pos rfl, e1, c1, if_neg (m1_pos (by omega)), imax0 (by omega)]
            by_cases hw1 : wh = 1
            · subst hw1
              rw [if_neg (show ¬ ¬ nI 1 = 1 from fun z => z rfl), if_pos (show decide (1 = 1) = true from rfl), imax_le]
              by_cases hle : nI c ≤ nI e
              · rw [if_pos hle, imax0 (by omega)]
              · rw [if_neg hle, imax0 (by omega)]
            · rw [if_pos (show ¬ nI wh = 1 from fun z => hw1 ((nI_eq (b := 1) (by omega) (by omega)).mp z)), if_neg (show ¬ decide (wh = 1) = true from fun z => hw1 (of_decide_eq_true z)), imin_le]
              by_cases hle : nI e ≤ nI c
              · rw [if_pos hle, imax0 (by omega)]
              · rw [if_neg hle, imax0 (by omega)]
      · rw [hcs]
        obtain ⟨c, c1, c2, c3⟩ := hg h2 (n + 1 + i) (by omega) (by omega)
        by_cases hz : gc (gp (mw d) t n) (n + 1 + i) = 0
        · rw [h0 hz, if_pos rfl]
          exact ⟨c, c1, c2, c3⟩
        · obtain ⟨e, e1, e2, e3⟩ := h1 h2 hz
          rw [e1, if_neg (m1_pos (by omega)), c1]
          split
          · split
            · exact ⟨e, rfl, e2, e3⟩
            · exact ⟨c, rfl, c2, c3⟩
          · split
            · exact ⟨e, rfl, e2, e3⟩
            · exact ⟨c, rfl, c2, c3⟩
    · rw [if_neg hp] at hgs hcs hws
      rw [Nat.add_zero] at hgs
      refine ⟨_, ?_, rfl, by rw [hgs, hcs]; exact h0, by rw [hgs, hcs]; exact h1⟩
      show Mo_goes_h41 0 (nI t) (nI wh) MoS k8 (F + 1) (nI n) (if wh = 2 then s0 + wB g (gp (mw d) t n) (n + 1 + i) else imax 0 (cB g (gp (mw d) t n) (decide (wh = 1)) (n + 1 + i))) (if gc (gp (mw d) t n) (n + 1 + i) = 0 then 1 else 0) (nI (n + 1 + i)) d = Mo_goes_h41 0 (nI t) (nI wh) MoS k8 F (nI n) (if wh = 2 then s0 + wB g (gp (mw d) t n) (n + 1 + (i + 1)) else imax 0 (cB g (gp (mw d) t n) (decide (wh = 1)) (n + 1 + (i + 1)))) (if gc (gp (mw d) t n) (n + 1 + (i + 1)) = 0 then 1 else 0) (nI (n + 1 + i + 1)) d
      rw [hgs, hcs, hws]
      simp only [Mo_goes_h41, Mo_K, Option.bind_some]
      rw [Mo_nodesOf_eq ht, hw]
      simp only [Option.bind_some]
      rw [if_neg (nI_ge (by omega) (by omega)), Mo_isBehind_gp ht (by omega) (by omega) (by omega), if_neg hp]
      simp only [Option.bind_some, not_true_eq_false, ↓reduceIte]
      rw [nI_1]
      rfl
  · rintro F x ⟨rfl, h0, h1⟩
    show Mo_goes_h41 0 (nI t) (nI wh) MoS k8 (F + 1) (nI n) (if wh = 2 then s0 + wB g (gp (mw d) t n) (n + 1 + (nd - (n + 1))) else imax 0 (cB g (gp (mw d) t n) (decide (wh = 1)) (n + 1 + (nd - (n + 1))))) (if gc (gp (mw d) t n) (n + 1 + (nd - (n + 1))) = 0 then 1 else 0) (nI (n + 1 + (nd - (n + 1)))) d = _
    rw [show n + 1 + (nd - (n + 1)) = nd from by omega]
    simp only [Mo_goes_h41, Mo_goes_b167, Mo_K, Option.bind_some]
    rw [Mo_nodesOf_eq ht, hw]
    simp only [Option.bind_some]
    rw [if_pos (nI_le (Nat.le_refl _) (by omega)), MoS_R0_15, ma7 (show n < 6 by omega), Mo_unitsOf_eq ht (by omega)]
    simp only [Option.bind_some]
    unfold gB
    by_cases h2 : wh = 2
    · subst h2
      rw [if_neg (show ¬ ¬ nI 2 = 2 from fun z => z rfl), if_pos rfl, if_pos rfl, if_pos rfl]
    · rw [if_pos (show ¬ nI wh = 2 from fun z => h2 ((nI_eq (by omega) (by omega)).mp z)), if_neg h2, if_neg h2, if_neg h2]
      rfl
theorem Mo_goes_eq {wh : Nat} (ht : t < 5) (h1 : 1 ≤ nd) (hnd : nd ≤ 6) (hwh : wh < 3) (hw : mw d (11 + 7 * t + 6) = nI nd) (hU : ∀ n, n < nd → ∃ u, wU (mw d) t n = nI u ∧ 1 ≤ u ∧ u ≤ 9) : ∃ d', Mo_goes 0 (nI t) (nI wh) MoS d = some (gV (mw d) t nd wh 0, d') ∧ Ks 7 d d' := by
  unfold Mo_goes
  rw [Mo_K, Option.bind_some, Mo_nodesOf_eq ht, Option.bind_some, Option.bind_some, hw]
  obtain ⟨m, rfl⟩ : ∃ m, nd = m + 1 := ⟨nd - 1, by omega⟩
  rw [nI_pred]
  refine loop_FU (X := fun F (x : Int32 × Dt) => Mo_goes_h8 0 (nI t) (nI wh) MoS F x.1 x.2) (Inv := fun i x => x.1 = (if i = m + 1 then -1 else nI (m - i)) ∧ Ks 7 d x.2 ∧ ∀ k, m + 1 ≤ k + i → k < m + 1 → x.2.1 7 k = gV (mw d) t (m + 1) wh k) (P := fun o => ∃ d', o = some (gV (mw d) t (m + 1) wh 0, d') ∧ Ks 7 d d') (x := (nI m, d)) (m + 1) (by omega) ?_ ?_ ?_
  · exact ⟨by rw [if_neg (by omega)]; rfl, Ks.rf, fun k h1 h2 => by omega⟩
  · rintro i hi F ⟨x1, d'⟩ ⟨hx, hk, hr⟩
    have hx' : x1 = nI (m - i) := by rw [show x1 = _ from hx, if_neg (by omega)]
    subst hx'
    have ew : mw d' = mw d := hk.1 1 (by omega)
    have hw' : mw d' (11 + 7 * t + 6) = nI (m + 1) := by rw [ew]; exact hw
    refine ⟨(if i + 1 = m + 1 then -1 else nI (m - (i + 1)), dI d' 7 (m - i) (gV (mw d) t (m + 1) wh (m - i))), ?_, rfl, hk.dI, ?_⟩
    · show Mo_goes_h8 0 (nI t) (nI wh) MoS (F + 1) (nI (m - i)) d' = Mo_goes_h8 0 (nI t) (nI wh) MoS F (if i + 1 = m + 1 then -1 else nI (m - (i + 1))) (dI d' 7 (m - i) (gV (mw d) t (m + 1) wh (m - i)))
      have en : nI (m - i) + (-1) = if i + 1 = m + 1 then -1 else nI (m - (i + 1)) := by
        by_cases hi2 : i + 1 = m + 1
        · rw [if_pos hi2, show m - i = 0 from by omega]
          decide
        · rw [if_neg hi2, show m - i = (m - (i + 1)) + 1 from by omega, pk_m1]
      have hgi : wh ≠ 2 → ∀ k, m - i < k → k < m + 1 → ∃ c, gV (mw d) t (m + 1) wh k = nI c ∧ 1 ≤ c ∧ c ≤ 54 := fun h2 k _ hk2 => gV_in h2 hk2 hnd hU
      have hri : ∀ k, m - i < k → k < m + 1 → d'.1 7 k = gV (mw d) t (m + 1) wh k := fun k h1 h2 => hr k (by omega) h2
      have hgv := gV_s (w := mw d) (t := t) (wh := wh) (n := m - i) (show m - i < m + 1 by omega) hnd
      simp only [Mo_goes_h8, Mo_goes_b30, Mo_goes_b31, Mo_K, Option.bind_some]
      rw [if_neg (nI_pos (by omega)), Mo_followers_eq ht (by omega) hnd hw']
      simp only [Option.bind_some]
      rw [nI_1]
      have hgl := gc_le (gp (mw d') t (m - i)) (m + 1)
      by_cases hz : gc (gp (mw d') t (m - i)) (m + 1) = 0
      · have hz' : gc (gp (mw d) t (m - i)) (m + 1) = 0 := by rw [← ew]; exact hz
        rw [hz, if_neg (show ¬ ¬ nI 0 = 0 from fun z => z rfl)]
        by_cases h2 : wh = 2
        · subst h2
          rw [if_neg (show ¬ ¬ nI 2 = 2 from fun z => z rfl), Mo_goes_in ht (by omega) hnd hwh hw' hgi hri _ 1 (fun z => absurd rfl z), en, if_pos (rfl : (2 : Nat) = 2), hgv, if_pos (rfl : (2 : Nat) = 2), ew, if_pos hz']
          have e0 : gB (gV (mw d) t (m + 1) 2) (gp (mw d) t (m - i)) 2 (m + 1) = 0 := by
            show wB _ _ _ = 0
            refine wB_lo (fun k hk9 => ?_)
            cases hpk : gp (mw d) t (m - i) k with
            | false => rfl
            | true =>
              exfalso
              rw [ew] at hz
              have e1 := gcF_gc (gp (mw d) t (m - i)) (m + 1 - (k + 1)) (k + 1)
              rw [show k + 1 + (m + 1 - (k + 1)) = m + 1 from by omega, hz] at e1
              have e2 : gc (gp (mw d) t (m - i)) (k + 1) = gc (gp (mw d) t (m - i)) k + if gp (mw d) t (m - i) k then 1 else 0 := rfl
              rw [hpk, if_pos rfl] at e2
              omega
          rw [e0]
          rfl
        · rw [if_pos (show ¬ nI wh = 2 from fun z => h2 ((nI_eq (by omega) (by omega)).mp z)), Mo_goes_in ht (by omega) hnd hwh hw' hgi hri _ 0 (fun _ => rfl), en, if_neg h2, hgv, if_neg h2, ew]
      · rw [if_pos (nI_ne0 (by omega) (by omega)), Mo_goes_in ht (by omega) hnd hwh hw' hgi hri _ 0 (fun _ => rfl), en, hgv, ew]
        have hz' : ¬ gc (gp (mw d) t (m - i)) (m + 1) = 0 := by rw [← ew]; exact hz
        by_cases h2 : wh = 2
        · rw [if_pos h2, if_pos h2, if_neg hz', Int32.zero_add]
        · rw [if_neg h2, if_neg h2]
    · intro k h1 h2
      by_cases hkm : k = m - i
      · subst hkm
        exact dI_at
      · show (dI d' 7 (m - i) _).1 7 k = _
        rw [dI_nk (fun z => hkm z.2)]
        exact hr k (by omega) h2
  · rintro F ⟨x1, d'⟩ ⟨hx, hk, hr⟩
    have hx' : x1 = -1 := by rw [show x1 = _ from hx, if_pos rfl]
    subst hx'
    refine ⟨d', ?_, hk⟩
    show Mo_goes_h8 0 (nI t) (nI wh) MoS (F + 1) (-1) d' = _
    simp only [Mo_goes_h8, Mo_K, Option.bind_some]
    rw [if_pos (by decide), MoS_R0_15, show aix MoS 50 (some 7) 0 = some (7, 0) from ma7 (i := 0) (by omega)]
    simp only [Option.bind_some]
    rw [hr 0 (by omega) (by omega)]
end
