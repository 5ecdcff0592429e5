/-! THE PLAIN LAW: caught, without, blame -/
set_option maxRecDepth 100000
section
variable {n r : Nat} {S S1 S' : Sp} {d d1 d2 m e1 e2 f1 f2 : Dt} {w : Nat → Int32} {q : TdP} {op cl : Nat → Nat} {p p1 p2 from9 : Int32}
theorem tld_23 {x y : Int32} : dI (tld m y) 0 23 x = tld m x := by
  refine Prod.ext ?_ rfl
  funext a j
  simp only [tld, u2]
  by_cases c : a = 0 ∧ j = 23
  · obtain ⟨rfl, rfl⟩ := c
    simp
  · simp only [if_neg c]
/-- one record: whether it is one of an injection that is caught behind a tick -/
theorem rec_step (hR : RE S f1 f2 w q op cl) (hrc : RcR r f1 f2) (hr : r ≤ 2200) {i k : Nat} (hi : i < q.ni) (hk : k < r) {F : Nat} (hf : ¬ from9 = -1) : ∃ c : Prop, ∃ x : Int32, (c ∧ Ws_caughtOf_h47 0 p (F + 1) (some (q.ij i)) (nI r) from9 (nI k) S f1 = Ws_caughtOf_h47 0 p F (some (q.ij i)) (nI r) from9 (nI (k + 1)) S f1 ∧ ∀ p' G, Mo_caughtIn_h65 0 p' MoS f2 (G + 1) (w (106 + 5 * i + 1)) (if ¬ w (106 + 5 * i) = 5 then 0 else 1) from9 (nI k) = Mo_caughtIn_h65 0 p' MoS f2 G (w (106 + 5 * i + 1)) (if ¬ w (106 + 5 * i) = 5 then 0 else 1) from9 (nI (k + 1))) ∨ (¬ c ∧ Ws_caughtOf_h47 0 p (F + 1) (some (q.ij i)) (nI r) from9 (nI k) S f1 = some (x, S, f1) ∧ ∀ p' G, Mo_caughtIn_h65 0 p' MoS f2 (G + 1) (w (106 + 5 * i + 1)) (if ¬ w (106 + 5 * i) = 5 then 0 else 1) from9 (nI k) = some x) := by
  have hC := hR.C
  have hF := hC.F
  have hk3 : k < 3000 := by omega
  have hk4 : k < 4000 := by omega
  obtain ⟨⟨v1, v2, v3, v4⟩, kd, kd1, kd2, kd3⟩ := hrc.2.2 k hk
  have kd2' : f2.1 39 k = nI kd := v2.symm.trans kd2
  have hb153 : ∀ p' K s0, Mo_caughtIn_b153 0 p' MoS f2 K (w (106 + 5 * i + 1)) (if ¬ w (106 + 5 * i) = 5 then 0 else 1) from9 (nI k) s0 = if s0 = 0 then K (w (106 + 5 * i + 1)) (if ¬ w (106 + 5 * i) = 5 then 0 else 1) from9 (nI (k + 1)) else if f1.1 21 k < from9 then K (w (106 + 5 * i + 1)) (if ¬ w (106 + 5 * i) = 5 then 0 else 1) from9 (nI (k + 1)) else some (f1.1 21 k - from9) := by
    intro p' K s0
    unfold Mo_caughtIn_b153
    rw [Mo_K, Option.bind_some, MoS_R0_52, ma38 hk4, Option.bind_some, nI_1, v1]
  have hcomp : Ws_caughtOf_h47 0 p (F + 1) (some (q.ij i)) (nI r) from9 (nI k) S f1 = if f1.1 21 k < from9 then Ws_caughtOf_h47 0 p F (some (q.ij i)) (nI r) from9 (nI (k + 1)) S f1 else (Ws_isRecordOf 0 (nI k) (some (q.ij i)) S f1).bind fun r15 => if r15 = 0 then Ws_caughtOf_h47 0 p F (some (q.ij i)) (nI r) from9 (nI (k + 1)) S f1 else some (f1.1 21 k - from9, S, f1) := by
    rw [Ws_caughtOf_h47, if_neg (nI_ge hk (by omega)), if_neg hf, hC.K, Option.bind_some, cr17 hF, ca21 hF hk3, Option.bind_some, nI_1]
  have hiR : Ws_isRecordOf 0 (nI k) (some (q.ij i)) S f1 = some (if w (106 + 5 * i) = 5 then (if kd < 6 then 0 else if f1.1 23 k = w (106 + 5 * i + 1) then 1 else 0) else (if 6 ≤ kd then 0 else if f1.1 23 k = w (106 + 5 * i + 1) then 1 else 0)) := by
    unfold Ws_isRecordOf
    rw [hC.iK hi, Option.bind_some, hC.iF0 hi, hC.iF hi (f := 1) (by omega), hC.K]
    simp only [Option.bind_some]
    rw [cr18 hF, cr19 hF, ca22 hF hk3, ca23 hF hk3]
    simp only [Option.bind_some]
    rw [kd2]
    by_cases h5 : w (106 + 5 * i) = 5
    · rw [if_pos h5, if_pos h5]
      by_cases c6 : kd < 6
      · rw [if_pos (show nI kd < 6 from nI_lt (b := 6) c6 (by omega)), if_pos c6]
      · rw [if_neg (show ¬ nI kd < 6 from nI_nlt (b := 6) (by omega) (by omega)), if_neg c6]
        by_cases cw : f1.1 23 k = w (106 + 5 * i + 1)
        · rw [if_neg (fun z => z cw), if_pos cw]
        · rw [if_pos cw, if_neg cw]
    · rw [if_neg h5, if_neg h5]
      by_cases c6 : 6 ≤ kd
      · rw [if_pos (show 6 ≤ nI kd from nI_le (a := 6) c6 (by omega)), if_pos c6]
      · rw [if_neg (show ¬ 6 ≤ nI kd from nI_ge (b := 6) (by omega) (by omega)), if_neg c6]
        by_cases cw : f1.1 23 k = w (106 + 5 * i + 1)
        · rw [if_neg (fun z => z cw), if_pos cw]
        · rw [if_pos cw, if_neg cw]
  have hmod : ∀ p' G, ∃ s0 : Int32, Mo_caughtIn_h65 0 p' MoS f2 (G + 1) (w (106 + 5 * i + 1)) (if ¬ w (106 + 5 * i) = 5 then 0 else 1) from9 (nI k) = Mo_caughtIn_b153 0 p' MoS f2 (Mo_caughtIn_h65 0 p' MoS f2 G) (w (106 + 5 * i + 1)) (if ¬ w (106 + 5 * i) = 5 then 0 else 1) from9 (nI k) s0 ∧ s0 = (if w (106 + 5 * i) = 5 then (if kd < 6 then 0 else if f1.1 23 k = w (106 + 5 * i + 1) then 1 else 0) else (if 6 ≤ kd then 0 else if f1.1 23 k = w (106 + 5 * i + 1) then 1 else 0)) := by
    intro p' G
    rw [Mo_caughtIn_h65, Mo_K, Option.bind_some, hrc.2.1, if_neg (nI_ge hk (by omega))]
    unfold Mo_caughtIn_b152 Mo_caughtIn_b101 Mo_caughtIn_b117 Mo_caughtIn_b121
    simp only [Mo_K, Option.bind_some, MoS_R0_53, ma39 hk4, MoS_R0_54, ma40 hk4, kd2', ← v3]
    by_cases h5 : w (106 + 5 * i) = 5
    · rw [if_pos h5, if_neg (show ¬ ¬ w (106 + 5 * i) = 5 from fun z => z h5), if_neg (show ¬ (1 : Int32) = 0 by decide)]
      by_cases c6 : kd = 6
      · subst c6
        rw [if_neg (show ¬ ¬ nI 6 = 6 from fun z => z rfl), if_neg (show ¬ 6 < 6 by omega)]
        by_cases cw : f1.1 23 k = w (106 + 5 * i + 1)
        · rw [if_pos cw, if_pos cw]
          exact ⟨1, rfl, rfl⟩
        · rw [if_neg cw, if_neg cw, if_pos (show ¬ nI 6 = 7 by decide)]
          exact ⟨0, rfl, rfl⟩
      · rw [if_pos (show ¬ nI kd = 6 from fun z => c6 ((nI_eq (b := 6) (by omega) (by omega)).mp z))]
        by_cases c7 : kd = 7
        · subst c7
          rw [if_neg (show ¬ ¬ nI 7 = 7 from fun z => z rfl), if_neg (show ¬ 7 < 6 by omega), kd3 rfl]
          by_cases cw : w (106 + 5 * i + 1) = 0
          · rw [cw, if_neg (fun z => z rfl), if_pos rfl]
            exact ⟨1, rfl, rfl⟩
          · rw [if_pos cw, if_neg (fun z => cw z.symm)]
            exact ⟨0, rfl, rfl⟩
        · rw [if_pos (show ¬ nI kd = 7 from fun z => c7 ((nI_eq (b := 7) (by omega) (by omega)).mp z)), if_pos (show kd < 6 by omega)]
          exact ⟨0, rfl, rfl⟩
    · rw [if_neg h5, if_pos h5, if_pos rfl]
      by_cases c6 : 6 ≤ kd
      · rw [if_pos (show 6 ≤ nI kd from nI_le (a := 6) c6 (by omega)), if_pos c6]
        exact ⟨0, rfl, rfl⟩
      · rw [if_neg (show ¬ 6 ≤ nI kd from nI_ge (b := 6) (by omega) (by omega)), if_neg c6]
        by_cases cw : f1.1 23 k = w (106 + 5 * i + 1)
        · rw [if_neg (fun z => z cw), if_pos cw]
          exact ⟨1, rfl, rfl⟩
        · rw [if_pos cw, if_neg cw]
          exact ⟨0, rfl, rfl⟩
  rw [hcomp, hiR]
  generalize hs0 : (if w (106 + 5 * i) = 5 then (if kd < 6 then (0 : Int32) else if f1.1 23 k = w (106 + 5 * i + 1) then 1 else 0) else (if 6 ≤ kd then 0 else if f1.1 23 k = w (106 + 5 * i + 1) then 1 else 0)) = s9 at hmod
  have hmod' : ∀ p' G, Mo_caughtIn_h65 0 p' MoS f2 (G + 1) (w (106 + 5 * i + 1)) (if ¬ w (106 + 5 * i) = 5 then 0 else 1) from9 (nI k) = if s9 = 0 then Mo_caughtIn_h65 0 p' MoS f2 G (w (106 + 5 * i + 1)) (if ¬ w (106 + 5 * i) = 5 then 0 else 1) from9 (nI (k + 1)) else if f1.1 21 k < from9 then Mo_caughtIn_h65 0 p' MoS f2 G (w (106 + 5 * i + 1)) (if ¬ w (106 + 5 * i) = 5 then 0 else 1) from9 (nI (k + 1)) else some (f1.1 21 k - from9) := by
    intro p' G
    obtain ⟨s0, y1, rfl⟩ := hmod p' G
    rw [y1, hb153]
  rw [Option.bind_some]
  by_cases ct : f1.1 21 k < from9
  · refine ⟨True, 0, Or.inl ⟨trivial, if_pos ct, fun p' G => ?_⟩⟩
    rw [hmod', if_pos ct]
    split <;> rfl
  · by_cases cs : s9 = 0
    · refine ⟨True, 0, Or.inl ⟨trivial, by rw [if_neg ct, if_pos cs], fun p' G => ?_⟩⟩
      rw [hmod', if_pos cs]
    · refine ⟨False, f1.1 21 k - from9, Or.inr ⟨fun z => z, by rw [if_neg ct, if_neg cs], fun p' G => ?_⟩⟩
      rw [hmod', if_neg cs, if_neg ct]
/-- how soon an injection is caught: what follows the run -/
theorem caught_eq (hR : RE S f1 f2 w q op cl) (hst : StR w q f1 f2) (hrc : RcR r f1 f2) (hr : r ≤ 2200) {i : Nat} (hi : i < q.ni) : ∃ x, ((isK S 13 (some (q.ij i))).bind fun z9 => if ¬ (f1.1 z9 0) = 5 then (isK S 0 (some 0)).bind fun z10 => (aix S 50 (S.2.1 z10 23) (nI i)).bind fun q11 => Ws_caughtOf_b42 0 (nI i) (some (q.ij i)) (nI r) (f1.1 q11.1 q11.2) S f1 else Ws_caughtOf_b42 0 (nI i) (some (q.ij i)) (nI r) (f1.1 z9 2) S f1) = some (x, S, f1) ∧ Mo_caughtIn 0 (nI i) MoS f2 = some x := by
  have hC := hR.C
  have hF := hC.F
  have hni := hC.ni18
  have h5 := hC.nt5
  have h47 : ∀ (fr : Int32) (p' : Int32), ¬ fr = -1 → ∃ x, Ws_caughtOf_h47 0 (nI i) FU (some (q.ij i)) (nI r) fr 0 S f1 = some (x, S, f1) ∧ Mo_caughtIn_h65 0 p' MoS f2 FU (w (106 + 5 * i + 1)) (if ¬ w (106 + 5 * i) = 5 then 0 else 1) fr 0 = some x := by
    intro fr p' hfr
    refine loop2_FU (X := fun F (x : Int32) => Ws_caughtOf_h47 0 (nI i) F (some (q.ij i)) (nI r) fr x S f1) (Y := fun F (x : Int32) => Mo_caughtIn_h65 0 p' MoS f2 F (w (106 + 5 * i + 1)) (if ¬ w (106 + 5 * i) = 5 then 0 else 1) fr x) (Inv := fun k x y => x = nI k ∧ y = nI k) (P := fun o p => ∃ x, o = some (x, S, f1) ∧ p = some x) (x := 0) (y := 0) r (by omega) ⟨rfl, rfl⟩ ?_ ?_
    · rintro k hk F G x y ⟨rfl, rfl⟩
      obtain ⟨c, x, ⟨-, y1, y2⟩ | ⟨-, y1, y2⟩⟩ := rec_step (p := nI i) (F := F) hR hrc hr hi hk hfr
      · exact Or.inl ⟨_, _, y1, y2 p' G, rfl, rfl⟩
      · exact Or.inr ⟨x, y1, y2 p' G⟩
    · rintro F G x y ⟨rfl, rfl⟩
      refine ⟨-1, ?_, ?_⟩
      · show Ws_caughtOf_h47 0 (nI i) (F + 1) (some (q.ij i)) (nI r) fr (nI r) S f1 = _
        rw [Ws_caughtOf_h47, if_pos (nI_le (Nat.le_refl _) (by omega))]
      · show Mo_caughtIn_h65 0 p' MoS f2 (G + 1) (w (106 + 5 * i + 1)) (if ¬ w (106 + 5 * i) = 5 then 0 else 1) fr (nI r) = _
        rw [Mo_caughtIn_h65, Mo_K, Option.bind_some, hrc.2.1, if_pos (nI_le (Nat.le_refl _) (by omega))]
  have hno : Ws_caughtOf_h47 0 (nI i) FU (some (q.ij i)) (nI r) (-1) 0 S f1 = some (-1, S, f1) := by
    rw [show FU = 9999 + 1 from rfl, Ws_caughtOf_h47, if_pos rfl]
    split <;> rfl
  have of0 := hR.of0 hi
  have of1 : Mo_of 0 (nI i) 1 MoS f2 = _ := hR.of hi (f := 1) (by omega)
  have of2 : Mo_of 0 (nI i) 2 MoS f2 = _ := hR.of hi (f := 2) (by omega)
  have hb52 : ∀ (fr s : Int32), s = (if ¬ w (106 + 5 * i) = 5 then 0 else 1) → ∃ x, Ws_caughtOf_b42 0 (nI i) (some (q.ij i)) (nI r) fr S f1 = some (x, S, f1) ∧ Mo_caughtIn_b52 0 (nI i) MoS f2 (w (106 + 5 * i + 1)) s fr = some x := by
    intro fr s hs
    subst hs
    unfold Ws_caughtOf_b42 Mo_caughtIn_b52
    by_cases hfr : fr = -1
    · subst hfr
      rw [hno, if_neg (fun z => z rfl)]
      exact ⟨-1, rfl, rfl⟩
    · rw [if_pos hfr]
      exact h47 fr (nI i) hfr
  unfold Mo_caughtIn Mo_caughtIn_b22
  rw [hC.iK hi, Option.bind_some, hC.iF0 hi, hC.iF hi (f := 2) (by omega), Mo_K, Option.bind_some, of1, Option.bind_some, of0, Option.bind_some, of2]
  by_cases h9 : w (106 + 5 * i) = 5
  · rw [if_neg (show ¬ ¬ w (106 + 5 * i) = 5 from fun z => z h9), if_neg (show ¬ ¬ w (106 + 5 * i) = 5 from fun z => z h9), if_neg (show ¬ (1 : Int32) = 0 by decide), Option.bind_some, Option.bind_some]
    exact hb52 _ 1 (by rw [if_neg (fun z => z h9)])
  · rw [if_pos h9, if_pos h9, if_pos rfl, hC.K, Option.bind_some, cr23 hF, ca27 hF (show i < 19 by omega), Option.bind_some, Option.bind_some, Option.bind_some]
    rcases hC.iw hi with ⟨v, j, k0, -⟩ | ⟨k, s, j, tm, k0, k1, k2, k3, k4, k5, k6, k7, k8, k9⟩
    · exact absurd k0 h9
    have hs := hst i hi s j h9 k2 k3 k4 k5
    rw [show (51 : Int32) * w (106 + 5 * i + 1) + w (106 + 5 * i + 2) = nI (51 * s + j) from by rw [k2, k4, nlit, nI_mul, nI_add], MoS_R0_47, ma33 (show 51 * s + j < 255 by omega), Option.bind_some, ← hs]
    exact hb52 _ 0 (by rw [if_pos h9])
/-- an injection is asked for -/
theorem caughtOf_eq (hC : CE S d w q) {i : Nat} (hi : i < q.ni) (ha : Ws_all 0 (-1) S d = some (nI r, S', f1)) (he : Ext S S') (hR : RE S' f1 f2 w q op cl) (hst : StR w q f1 f2) (hrc : RcR r f1 f2) (hr : r ≤ 2200) : ∃ x, Ws_caughtOf 0 (nI i) S d = some (x, S', f1) ∧ Mo_caughtIn 0 (nI i) MoS f2 = some x := by
  obtain ⟨x, x1, x2⟩ := caught_eq hR hst hrc hr hi
  refine ⟨x, ?_, x2⟩
  unfold Ws_caughtOf
  rw [hC.K, Option.bind_some, hC.T, Option.bind_some, hC.kM, Option.bind_some, hC.injOf hi, Option.bind_some, hC.iK hi, Option.bind_some, ha, bind3_some]
  exact x1
theorem Mo_isInj_eq : Mo_isInjection 0 p MoS m = some (inI p 0 (mw m 5 + mw m 6 - 1)) := by
  unfold Mo_isInjection
  rw [Mo_K, Option.bind_some, Mo_many_eq, Option.bind_some, Mo_in0, Option.bind_some, gb_inI, Option.bind_some]
theorem rwo_eq {x : Int32} (h : Mo_runs 0 (mw m 0) MoS (tld m x) = some ((), f2)) : Mo_recordsWithout 0 x MoS m = some (f2.1 0 56, f2) := by
  unfold Mo_recordsWithout
  have e0 : aix MoS 50 (MoS.2.1 0 1) 0 = some (1, 0) := Mw 0 (by omega)
  have e : (tld m x).1 1 0 = mw m 0 := congrFun (tld_v.1 1 (by omega)) 0
  rw [Mo_K, Option.bind_some, asTold_eq, bind2_some, Option.bind_some, tld_23, e0, Option.bind_some, e, h, bind2_some]
end
theorem PL_42_Rel : PL_42 Rel := by
  intro n S1 d1 S2 d2 p1 hn hR
  have hU := hR.up
  obtain ⟨rfl, q, hF, hN, hC⟩ := rel_at hR
  have hni := hC.ni18
  unfold Ws_without Mo_without
  rw [hC.K, Option.bind_some, hC.isInj, Option.bind_some, Mo_K, Option.bind_some, Mo_isInj_eq, Option.bind_some, hC.wf.many]
  rcases inI_nI (x := p1) (n := q.ni) (by omega) with ⟨z, -⟩ | ⟨i, i1, rfl, z⟩
  · rw [z, if_pos rfl, if_pos rfl]
    exact ⟨_, _, _, _, rfl, rfl, hU⟩
  obtain ⟨S', f1, f2, H, r, b, h9, s1, s2, s3, s4, s5, s6, s7, s8, s9⟩ := all1 (p2 := nI i) hN hF (hC.brd (by omega))
  rw [z, if_neg (show ¬ (1 : Int32) = 0 by decide), if_neg (show ¬ (1 : Int32) = 0 by decide), s3, bind3_some, rwo_eq s4, bind2_some, s5]
  exact ⟨_, _, _, _, rfl, rfl, s9.rel hR (by omega) (by omega)⟩
theorem PL_41_Rel : PL_41 Rel := by
  intro n S1 d1 S2 d2 p1 hn hR
  have hU := hR.up
  obtain ⟨rfl, q, hF, hN, hC⟩ := rel_at hR
  have hni := hC.ni18
  unfold Ws_caught Mo_caught
  rw [hC.K, Option.bind_some, hC.isInj, Option.bind_some, Mo_K, Option.bind_some, Mo_isInj_eq, Option.bind_some, hC.wf.many]
  rcases inI_nI (x := p1) (n := q.ni) (by omega) with ⟨z, -⟩ | ⟨i, i1, rfl, z⟩
  · rw [z, if_pos rfl, if_pos rfl]
    exact ⟨_, _, _, _, rfl, rfl, hU⟩
  have hb := hC.brd (by omega)
  obtain ⟨S', f1, f2, H, r, b, h9, s1, s2, s3, s4, s5, s6, s7, s8, s9⟩ := all1 (p2 := -1) hN hF hb
  obtain ⟨x, x1, x2⟩ := caughtOf_eq hC i1 s3 s9.1 s8 (RT.str s6) (RT.rcr s6) s7
  rw [z, if_neg (show ¬ (1 : Int32) = 0 by decide), if_neg (show ¬ (1 : Int32) = 0 by decide), x1, bind3_some, asks_yes hb s4 s9.row, bind2_some, if_neg (show ¬ (1 : Int32) = 0 by decide), x2, Option.bind_some]
  exact ⟨_, _, _, _, rfl, rfl, s9.rel hR (by omega) (by omega)⟩
theorem PL_43_Rel : PL_43 Rel := by
  intro n S1 d1 S2 d2 hn hR
  have hU := hR.up
  obtain ⟨rfl, q, hF, hN, hC⟩ := rel_at hR
  have hni := hC.ni18
  unfold Ws_blame Mo_blame
  rw [hC.K, Option.bind_some, hC.T, Option.bind_some, hC.is, Option.bind_some, Mo_K, Option.bind_some]
  by_cases hb : mw d2 7 ≤ 0
  · rw [if_pos hb, if_neg (show ¬ ¬ (0 : Int32) = 0 from fun z => z rfl), asks_no hb, bind2_some, if_neg (show ¬ ¬ (0 : Int32) = 0 from fun z => z rfl)]
    exact ⟨_, _, _, _, rfl, rfl, tld_kt.rel hR (by omega) (by omega)⟩
  obtain ⟨S', f1, f2, H, r, b, h9, s1, s2, s3, s4, s5, s6, s7, s8, s9⟩ := all1 (p2 := -1) hN hF hb
  rw [if_neg hb, if_pos (show ¬ (1 : Int32) = 0 by decide), s3, bind3_some, asks_yes hb s4 s9.row, bind2_some, if_pos (show ¬ (1 : Int32) = 0 by decide), Option.bind_some, s5]
  refine loop2_FU (X := fun F (x : Int32 × Int32 × Int32 × Sp × Dt) => Ws_blame_h23 0 F x.1 x.2.1 x.2.2.1 x.2.2.2.1 x.2.2.2.2) (Y := fun F (x : Int32 × Int32 × Int32 × Dt) => Mo_blame_h19 0 MoS F x.1 x.2.1 x.2.2.1 x.2.2.2) (Inv := fun i x y => x.2.2.1 = nI i ∧ y.1 = x.2.1 ∧ y.2.1 = x.1 ∧ y.2.2.1 = nI i ∧ Kt S1 d1 d2 x.2.2.2.1 x.2.2.2.2 y.2.2.2 (3 + 3 * i) (18 + 18 * i)) (P := fun o p => ∃ (a : Int32) (T1 : Sp) (b1 b2 : Dt), o = some (a, T1, b1) ∧ p = some (a, b2) ∧ Rel (n + 1) T1 b1 MoS b2) (x := (nI r, -1, 0, S', f1)) (y := (-1, nI r, 0, f2)) q.ni (by omega) ⟨rfl, rfl, rfl, rfl, s9⟩ ?_ ?_
  · rintro i hi F G ⟨x1, x2, x3, T, e⟩ ⟨y1, y2, y3, g⟩ ⟨h1, h2, h3, h4, hK⟩
    have h1' : x3 = nI i := h1
    have h2' : y1 = x2 := h2
    have h3' : y2 = x1 := h3
    have h4' : y3 = nI i := h4
    have hK' : Kt S1 d1 d2 T e g (3 + 3 * i) (18 + 18 * i) := hK
    subst h1' h2' h3' h4'
    have hFT := hK'.fix hF
    have hNT := hK'.relN hN hF
    have hCT := hNT.ce hFT
    have hbT : ¬ mw g 7 ≤ 0 := by rw [hK'.row]; exact hb
    obtain ⟨S3, f3, f4, H3, r3, b3, h93, t1, t2, t3, t4, t5, t6, t7, t8, t9⟩ := all1 (p2 := nI i) hNT hFT hbT
    refine Or.inl ⟨(if nI r3 < y2 then nI r3 else y2, if nI r3 < y2 then nI i else y1, nI (i + 1), S3, f3), (if nI r3 < y2 then nI i else y1, if nI r3 < y2 then nI r3 else y2, nI (i + 1), f4), ?_, ?_, rfl, rfl, rfl, rfl, (hK'.tr t9).mono (by omega) (by omega)⟩
    · show Ws_blame_h23 0 (F + 1) y2 y1 (nI i) T e = _
      rw [Ws_blame_h23, hCT.K, Option.bind_some, hCT.T, Option.bind_some, hCT.kM, Option.bind_some, hCT.injs, Option.bind_some, if_neg (nI_ge hi (by omega)), t3, bind3_some, nI_1]
    · show Mo_blame_h19 0 MoS (G + 1) y1 y2 (nI i) g = _
      rw [Mo_blame_h19, Mo_K, Option.bind_some, Mo_many_eq, Option.bind_some, hCT.wf.many, if_neg (nI_ge hi (by omega)), rwo_eq t4, bind2_some, t5, nI_1]
  · rintro F G ⟨x1, x2, x3, T, e⟩ ⟨y1, y2, y3, g⟩ ⟨h1, h2, h3, h4, hK⟩
    have h1' : x3 = nI q.ni := h1
    have h2' : y1 = x2 := h2
    have h3' : y2 = x1 := h3
    have h4' : y3 = nI q.ni := h4
    have hK' : Kt S1 d1 d2 T e g (3 + 3 * q.ni) (18 + 18 * q.ni) := hK
    subst h1' h2' h3' h4'
    have hFT := hK'.fix hF
    have hNT := hK'.relN hN hF
    have hCT := hNT.ce hFT
    refine ⟨y1, T, e, g, ?_, ?_, hK'.rel hR (by omega) (by omega)⟩
    · show Ws_blame_h23 0 (F + 1) y2 y1 (nI q.ni) T e = _
      rw [Ws_blame_h23, hCT.K, Option.bind_some, hCT.T, Option.bind_some, hCT.kM, Option.bind_some, hCT.injs, Option.bind_some, if_pos (nI_le (Nat.le_refl _) (by omega))]
    · show Mo_blame_h19 0 MoS (G + 1) y1 y2 (nI q.ni) g = _
      rw [Mo_blame_h19, Mo_K, Option.bind_some, Mo_many_eq, Option.bind_some, hCT.wf.many, if_pos (nI_le (Nat.le_refl _) (by omega))]
