/-! THE RUN: a kick in time -/
set_option maxRecDepth 100000
section
variable {w : Nat → Int32} {q : TdP} {u k kh kg r b t z : Nat} {kj : Nat → Nat} {S0 S S' : Sp} {d0 m0 d e f e1 e2 f1 f2 g1 g2 : Dt} {op cl : Nat → Nat} {W : Int32} {F0 : Int32 × (Nat → Int32)} {P V P' V' : Nat → Prop} {p1 p2 p3 : Int32}
/-- the least margin -/
abbrev mgN (m : Int32) (g v : UInt32) : UInt32 := if m = 0 then g else if 0 ≤ Op.cmpValue (FP.fcmp g v) .g then v else g
theorem marks_C {g : UInt32} (hK : isK S 8 (some z) = some z) (hg : fFi g) (hs : dNn (d.2.2 z 19)) : Li_marks z g S d = some ((), dI (dD (dF d z 18 (mgN (d.1 z 15) g (d.2.1 z 18))) z 19 (FP.dadd (d.2.2 z 19) (FP.f2d g))) z 15 (d.1 z 15 + 1)) := by
  have hsum := dq_add hs (f2d_fin hg)
  have h25 : ∀ v : UInt32, Li_marks_b25 z g S v (some z) d = some ((), dI (dD (dF d z 18 v) z 19 (FP.dadd (d.2.2 z 19) (FP.f2d g))) z 15 (d.1 z 15 + 1)) := by
    intro v
    unfold Li_marks_b25
    rw [hK, Option.bind_some, Option.bind_some, Option.bind_some, gd_ok (f2d_fin hg).n, Option.bind_some, show (dF d z 18 v).2.2 z 19 = d.2.2 z 19 from rfl, gd_ok hsum, Option.bind_some, Option.bind_some]
    rfl
  unfold Li_marks Li_marks_b17
  rw [hK, Option.bind_some, h25, h25, mgN]
  split
  · rfl
  · split <;> rfl
theorem good_C (hK : isK S 8 (some z) = some z) (hh : hOk (d.2.1 z 17)) (hs : dNn (d.2.2 z 19)) (hg : fFi (FP.fdiv (FP.i2f (p3 - (p1 - d.1 z 6))) (FP.i2f (p3 - p2)))) : ∃ d', Li_good z p1 p2 p3 S d = some ((), d') ∧ (∀ v, v ≠ z → d'.1 v = d.1 v ∧ d'.2.1 v = d.2.1 v ∧ d'.2.2 v = d.2.2 v) ∧ (d'.1 z 12 = d.1 z 12 + 1 ∧ d'.1 z 13 = p1 ∧ d'.1 z 14 = d.1 z 14 + 1 ∧ d'.1 z 1 = 0 ∧ d'.1 z 6 = p1 ∧ d'.1 z 8 = irm (13 * d.1 z 8 + 7) 64 ∧ ∀ f, f ≠ 1 → f ≠ 6 → f ≠ 8 → f ≠ 12 → f ≠ 13 → f ≠ 14 → f ≠ 15 → d'.1 z f = d.1 z f) ∧ d'.2.1 z 17 = FP.fadd (d.2.1 z 17) (FP.fmul (FP.fsub FP.fconst1 (d.2.1 z 17)) 1048576000) ∧
    (¬ d.1 z 1 = 0 → d'.1 z 15 = d.1 z 15 ∧ d'.2.1 z 18 = d.2.1 z 18 ∧ d'.2.2 z 19 = d.2.2 z 19) ∧ (d.1 z 1 = 0 → d'.1 z 15 = d.1 z 15 + 1 ∧ d'.2.1 z 18 = mgN (d.1 z 15) (FP.fdiv (FP.i2f (p3 - (p1 - d.1 z 6))) (FP.i2f (p3 - p2))) (d.2.1 z 18) ∧ d'.2.2 z 19 = FP.dadd (d.2.2 z 19) (FP.f2d (FP.fdiv (FP.i2f (p3 - (p1 - d.1 z 6))) (FP.i2f (p3 - p2))))) := by
  obtain ⟨y1, y2, y3, y4⟩ := h_good hh
  obtain ⟨g, hg'⟩ : ∃ g, g = FP.fdiv (FP.i2f (p3 - (p1 - d.1 z 6))) (FP.i2f (p3 - p2)) := ⟨_, rfl⟩
  rw [← hg'] at hg ⊢
  obtain ⟨h', hh'⟩ : ∃ h', h' = FP.fadd (d.2.1 z 17) (FP.fmul (FP.fsub FP.fconst1 (d.2.1 z 17)) 1048576000) := ⟨_, rfl⟩
  rw [← hh'] at y3 ⊢
  have hb : Li_good z p1 p2 p3 S d = (if ¬ d.1 z 1 = 0 then Li_good_b72 z p1 p2 p3 S (dF (dI (dI (dI d z 12 (d.1 z 12 + 1)) z 13 p1) z 14 (d.1 z 14 + 1)) z 17 h') else bind2 (Li_marks z g S (dF (dI (dI (dI d z 12 (d.1 z 12 + 1)) z 13 p1) z 14 (d.1 z 14 + 1)) z 17 h')) fun _ d11 => Li_good_b72 z p1 p2 p3 S d11) := by
    unfold Li_good
    rw [hK, Option.bind_some, Option.bind_some, Option.bind_some, Option.bind_some, show (dI (dI d z 12 (d.1 z 12 + 1)) z 13 p1).1 z 14 = d.1 z 14 from (dI_nk (by omega)).trans (dI_nk (by omega)), Option.bind_some, show (dI (dI (dI d z 12 (d.1 z 12 + 1)) z 13 p1) z 14 (d.1 z 14 + 1)).2.1 z 17 = d.2.1 z 17 from rfl, gf_ok y1, Option.bind_some, gf_ok y2, Option.bind_some, ← hh', gf_ok y3, Option.bind_some, Option.bind_some, ← hg', gf_ok hg.n, Option.bind_some, show (dF (dI (dI (dI d z 12 (d.1 z 12 + 1)) z 13 p1) z 14 (d.1 z 14 + 1)) z 17 h').1 z 1 = d.1 z 1 from (dI_nk (by omega)).trans ((dI_nk (by omega)).trans (dI_nk (by omega)))]
  have h72 : ∀ y : Dt, Li_good_b72 z p1 p2 p3 S y = some ((), dI (dI (dI y z 1 0) z 6 p1) z 8 (irm (13 * y.1 z 8 + 7) 64)) := by
    intro y
    unfold Li_good_b72
    rw [hK, Option.bind_some, Option.bind_some, Option.bind_some, show (dI (dI y z 1 0) z 6 p1).1 z 8 = y.1 z 8 from (dI_nk (by omega)).trans (dI_nk (by omega)), Option.bind_some]
  rw [hb]
  by_cases c : d.1 z 1 = 0
  · rw [if_neg (fun y => y c), marks_C hK hg (d := dF (dI (dI (dI d z 12 (d.1 z 12 + 1)) z 13 p1) z 14 (d.1 z 14 + 1)) z 17 h') hs, bind2_some, h72]
    refine ⟨_, rfl, fun v hv => ⟨?_, ?_, ?_⟩, ⟨?_, ?_, ?_, ?_, ?_, ?_, fun f h1 h2 h3 h4 h5 h6 h7 => ?_⟩, ?_, fun y => absurd c y, fun _ => ⟨?_, ?_, ?_⟩⟩
    · funext j; simp [dI, dF, dD, u2, hv]
    · funext j; simp [dI, dF, dD, u2, hv]
    · funext j; simp [dI, dF, dD, u2, hv]
    all_goals simp_all [dI, dF, dD, u2]
  · rw [if_pos c, h72]
    refine ⟨_, rfl, fun v hv => ⟨?_, ?_, ?_⟩, ⟨?_, ?_, ?_, ?_, ?_, ?_, fun f h1 h2 h3 h4 h5 h6 h7 => ?_⟩, ?_, fun _ => ⟨?_, ?_, ?_⟩, fun y => absurd y c⟩
    · funext j; simp [dI, dF, dD, u2, hv]
    · funext j; simp [dI, dF, dD, u2, hv]
    · funext j; simp [dI, dF, dD, u2]
    all_goals simp_all [dI, dF, dD, u2]
theorem b177_M {x3 : Int32} {gk : Nat} (ht : t < 5) (hgk : d.1 27 t = nI gk) (hg2 : gk < 200) (hh : hOk (d.2.1 24 t)) : ∃ d', Mo_kickNow_b177 0 (nI t) p2 MoS x3 d = some ((), d') ∧ (∀ v, v ≠ 19 → v ≠ 20 → v ≠ 21 → v ≠ 22 → v ≠ 27 → v ≠ 28 → v ≠ 32 → d'.1 v = d.1 v) ∧ (∀ v s, s ≠ t → v ≠ 32 → d'.1 v s = d.1 v s) ∧ (d'.1 19 t = irm (13 * d.1 19 t + 7) 64 ∧ d'.1 20 t = p2 ∧ d'.1 21 t = 1 ∧ d'.1 22 t = d.1 22 t + 1 ∧ d'.1 27 t = d.1 27 t + 1 ∧ d'.1 28 t = p2) ∧ (∀ j, d'.1 32 j = if j = 200 * t + gk then x3 else d.1 32 j) ∧ d'.2.1 24 t = FP.fadd (d.2.1 24 t) (FP.fmul (FP.fsub FP.fconst1 (d.2.1 24 t)) 1048576000) ∧ (∀ v s, (v ≠ 24 ∨ s ≠ t) → d'.2.1 v s = d.2.1 v s) ∧ d'.2.2 = d.2.2 := by
  obtain ⟨y1, y2, y3, y4⟩ := h_good hh
  obtain ⟨h', hh'⟩ : ∃ h', h' = FP.fadd (d.2.1 24 t) (FP.fmul (FP.fsub FP.fconst1 (d.2.1 24 t)) 1048576000) := ⟨_, rfl⟩
  rw [← hh'] at y3 ⊢
  unfold Mo_kickNow_b177
  rw [Mo_K, Option.bind_some, MoS_R0_38, ma24 ht, Option.bind_some, gf_ok y1, Option.bind_some, gf_ok y2, Option.bind_some, ← hh', gf_ok y3, Option.bind_some, Option.bind_some, MoS_R0_33, ma19 ht, Option.bind_some, Option.bind_some, show (dF d 24 t h').1 19 t = d.1 19 t from rfl, MoS_R0_34, ma20 ht, Option.bind_some, Option.bind_some, MoS_R0_35, ma21 ht, Option.bind_some, Option.bind_some, MoS_R0_36, ma22 ht, Option.bind_some]
  obtain ⟨a, ha⟩ : ∃ a, a = dI (dI (dI (dF d 24 t h') 19 t (irm (13 * d.1 19 t + 7) 64)) 20 t p2) 21 t (vp_nar .boolean 1) := ⟨_, rfl⟩
  rw [← ha]
  have a22 : a.1 22 t = d.1 22 t := by rw [ha]; simp [dI, dF, u2]
  have a27 : (dI a 22 t (d.1 22 t + 1)).1 27 t = nI gk := by rw [ha]; simp [dI, dF, u2, hgk]
  rw [a22, Option.bind_some, MoS_R0_41, ma27 ht, Option.bind_some, a27, MoS_R0_46, show (200 : Int32) * nI t + nI gk = nI (200 * t + gk) from by rw [nlit, nI_mul, nI_add], ma32 (show 200 * t + gk < 1000 by omega), Option.bind_some, Option.bind_some, show (dI (dI a 22 t (d.1 22 t + 1)) 32 (200 * t + gk) x3).1 27 t = nI gk from (dI_nk (by omega)).trans a27, Option.bind_some, MoS_R0_42, ma28 ht, Option.bind_some, Option.bind_some]
  have vb : vp_nar .boolean 1 = 1 := by decide
  refine ⟨_, rfl, fun v h1 h2 h3 h4 h5 h6 h7 => ?_, fun v s h1 h2 => ?_, ⟨?_, ?_, ?_, ?_, ?_, ?_⟩, fun j => ?_, ?_, fun v s hv => ?_, ?_⟩
  · funext j
    simp [ha, dI, dF, u2, h1, h2, h3, h4, h5, h6, h7]
  · simp [ha, dI, dF, u2, h1, h2]
  · simp [ha, dI, dF, u2]
  · simp [ha, dI, dF, u2]
  · simp [ha, dI, dF, u2, vb]
  · simp [ha, dI, dF, u2]
  · simp [ha, dI, dF, u2, hgk]
  · simp [ha, dI, dF, u2]
  · simp [ha, dI, dF, u2]
  · simp [ha, dI, dF, u2]
  · simp [ha, dI, dF, u2]
    intro z1 z2
    rcases hv with hv | hv
    · exact absurd z1 hv
    · exact absurd z2 hv
  · rw [ha]
theorem good_M {x3 : Int32} {gk : Nat} (hR : RE S e1 e2 w q op cl) (ht : t < q.nt) (hgk : e2.1 27 t = nI gk) (hg2 : gk < 200) (hh : hOk (e2.2.1 24 t)) (hs : dNn (e2.2.2 30 t)) (hg : fFi (FP.fdiv (FP.i2f (nI (cl t) - x3)) (FP.i2f (nI (cl t) - nI (op t))))) : ∃ d', Mo_kickNow_b62 0 (nI t) p2 MoS x3 0 e2 = some ((), d') ∧ (∀ v, v ≠ 15 → v ≠ 19 → v ≠ 20 → v ≠ 21 → v ≠ 22 → v ≠ 27 → v ≠ 28 → v ≠ 31 → v ≠ 32 → d'.1 v = e2.1 v) ∧ (∀ v s, s ≠ t → v ≠ 32 → d'.1 v s = e2.1 v s) ∧ (d'.1 15 t = -1 ∧ d'.1 19 t = irm (13 * e2.1 19 t + 7) 64 ∧ d'.1 20 t = p2 ∧ d'.1 21 t = 1 ∧ d'.1 22 t = e2.1 22 t + 1 ∧ d'.1 27 t = e2.1 27 t + 1 ∧ d'.1 28 t = p2) ∧ (∀ j, d'.1 32 j = if j = 200 * t + gk then x3 else e2.1 32 j) ∧ d'.2.1 24 t = FP.fadd (e2.2.1 24 t) (FP.fmul (FP.fsub FP.fconst1 (e2.2.1 24 t)) 1048576000) ∧ (∀ v s, s ≠ t → d'.2.1 v s = e2.2.1 v s ∧ d'.2.2 v s = e2.2.2 v s) ∧
    (e2.1 21 t = 0 → d'.1 31 t = e2.1 31 t ∧ d'.2.1 29 t = e2.2.1 29 t ∧ d'.2.2 30 t = e2.2.2 30 t) ∧ (¬ e2.1 21 t = 0 → d'.1 31 t = e2.1 31 t + 1 ∧ d'.2.1 29 t = mgN (e2.1 31 t) (FP.fdiv (FP.i2f (nI (cl t) - x3)) (FP.i2f (nI (cl t) - nI (op t)))) (e2.2.1 29 t) ∧ d'.2.2 30 t = FP.dadd (e2.2.2 30 t) (FP.f2d (FP.fdiv (FP.i2f (nI (cl t) - x3)) (FP.i2f (nI (cl t) - nI (op t)))))) := by
  have h5 := hR.C.nt5
  have ht5 : t < 5 := by omega
  obtain ⟨g, hg'⟩ : ∃ g, g = FP.fdiv (FP.i2f (nI (cl t) - x3)) (FP.i2f (nI (cl t) - nI (op t))) := ⟨_, rfl⟩
  rw [← hg'] at hg ⊢
  have hR1 : RE S e1 (dI e2 15 t (-1)) w q op cl := hR.m (KrM.rf.dI (by omega))
  obtain ⟨ho, hc⟩ := hR1.opn ht
  have h154 : ∀ v : UInt32, Mo_kickNow_b154 0 (nI t) p2 MoS x3 g v (nI t) (MoS.2.1 0 43) (dI e2 15 t (-1)) = Mo_kickNow_b177 0 (nI t) p2 MoS x3 (dI (dD (dF (dI e2 15 t (-1)) 29 t v) 30 t (FP.dadd (e2.2.2 30 t) (FP.f2d g))) 31 t (e2.1 31 t + 1)) := by
    intro v
    have hsum := dq_add hs (f2d_fin hg)
    unfold Mo_kickNow_b154
    rw [MoS_R0_43, ma29 ht5, Option.bind_some, Option.bind_some, Mo_K, Option.bind_some, MoS_R0_44, ma30 ht5, Option.bind_some, gd_ok (f2d_fin hg).n, Option.bind_some, show (dF (dI e2 15 t (-1)) 29 t v).2.2 30 t = e2.2.2 30 t from rfl, gd_ok hsum, Option.bind_some, Option.bind_some, MoS_R0_45, ma31 ht5, Option.bind_some, Option.bind_some, show (dD (dF (dI e2 15 t (-1)) 29 t v) 30 t (FP.dadd (e2.2.2 30 t) (FP.f2d g))).1 31 t = e2.1 31 t from by simp [dI, dF, dD, u2]]
  have hb : Mo_kickNow_b62 0 (nI t) p2 MoS x3 0 e2 = if e2.1 21 t = 0 then Mo_kickNow_b177 0 (nI t) p2 MoS x3 (dI e2 15 t (-1)) else Mo_kickNow_b177 0 (nI t) p2 MoS x3 (dI (dD (dF (dI e2 15 t (-1)) 29 t (mgN (e2.1 31 t) g (e2.2.1 29 t))) 30 t (FP.dadd (e2.2.2 30 t) (FP.f2d g))) 31 t (e2.1 31 t + 1)) := by
    unfold Mo_kickNow_b62
    rw [Mo_K, Option.bind_some, MoS_R0_29, ma15 ht5, Option.bind_some, Option.bind_some, if_pos (show (0 : Int32) ≤ 0 by decide), MoS_R0_35, ma21 ht5, Option.bind_some, dI_nk (show ¬ (21 = 15 ∧ t = t) by omega), hc, Option.bind_some, Option.bind_some, ho, Option.bind_some, ← hg', gf_ok hg.n, Option.bind_some, MoS_R0_45, ma31 ht5, Option.bind_some, dI_nk (show ¬ (31 = 15 ∧ t = t) by omega), MoS_R0_43, ma29 ht5, Option.bind_some, show (dI e2 15 t (-1)).2.1 29 t = e2.2.1 29 t from rfl]
    unfold Mo_kickNow_b143
    rw [← MoS_R0_43, h154, h154, mgN]
    by_cases c : e2.1 21 t = 0
    · rw [if_pos c, if_pos c]
    · rw [if_neg c, if_neg c]
      split
      · rfl
      · split <;> rfl
  rw [hb]
  by_cases c : e2.1 21 t = 0
  · rw [if_pos c]
    obtain ⟨d', a1, a2, a3, ⟨a19, a20, a21, a22, a27, a28⟩, a4, a5, a6, a7⟩ := b177_M (p2 := p2) (x3 := x3) (d := dI e2 15 t (-1)) ht5 ((dI_nk (by omega)).trans hgk) hg2 hh
    refine ⟨d', a1, fun v h1 h2 h3 h4 h5 h6 h7 h8 h9 => (a2 v h2 h3 h4 h5 h6 h7 h9).trans (dI_ne h1), fun v s h1 h2 => (a3 v s h1 h2).trans (dI_nk (by omega)), ⟨?_, a19.trans (by rw [dI_nk (by omega)]), a20, a21, a22.trans (by rw [dI_nk (by omega)]), a27.trans (by rw [dI_nk (by omega)]), a28⟩, fun j => (a4 j).trans (by rw [dI_nk (by omega)]), a5, fun v s h1 => ⟨a6 v s (Or.inr h1), by rw [a7]⟩, fun _ => ⟨?_, a6 29 t (Or.inl (by omega)), by rw [a7]⟩, fun y => absurd c y⟩
    · rw [a2 15 (by omega) (by omega) (by omega) (by omega) (by omega) (by omega) (by omega)]
      exact dI_at
    · rw [a2 31 (by omega) (by omega) (by omega) (by omega) (by omega) (by omega) (by omega)]
      exact dI_nk (by omega)
  · rw [if_neg c]
    obtain ⟨a, ha⟩ : ∃ a, a = dI (dD (dF (dI e2 15 t (-1)) 29 t (mgN (e2.1 31 t) g (e2.2.1 29 t))) 30 t (FP.dadd (e2.2.2 30 t) (FP.f2d g))) 31 t (e2.1 31 t + 1) := ⟨_, rfl⟩
    have b1 : ∀ v, v ≠ 15 → v ≠ 31 → a.1 v = e2.1 v := fun v h1 h2 => by
      funext j
      simp [ha, dI, dF, dD, u2, h1, h2]
    have b2 : ∀ v s, s ≠ t → a.1 v s = e2.1 v s := fun v s h1 => by simp [ha, dI, dF, dD, u2, h1]
    have b15 : a.1 15 t = -1 := by simp [ha, dI, dF, dD, u2]
    have b31 : a.1 31 t = e2.1 31 t + 1 := by simp [ha, dI, dF, dD, u2]
    have bf : ∀ v s, (v ≠ 29 ∨ s ≠ t) → a.2.1 v s = e2.2.1 v s := fun v s h1 => by
      simp [ha, dI, dF, dD, u2]
      intro z1 z2
      rcases h1 with h1 | h1
      · exact absurd z1 h1
      · exact absurd z2 h1
    have bg : ∀ v s, s ≠ t → a.2.2 v s = e2.2.2 v s := fun v s h1 => by simp [ha, dI, dF, dD, u2, h1]
    have b29 : a.2.1 29 t = mgN (e2.1 31 t) g (e2.2.1 29 t) := by simp [ha, dI, dF, dD, u2]
    have b30 : a.2.2 30 t = FP.dadd (e2.2.2 30 t) (FP.f2d g) := by simp [ha, dI, dF, dD, u2]
    rw [← ha]
    obtain ⟨d', a1, a2, a3, ⟨a19, a20, a21, a22, a27, a28⟩, a4, a5, a6, a7⟩ := b177_M (p2 := p2) (x3 := x3) (d := a) ht5 ((congrFun (b1 27 (by omega) (by omega)) t).trans hgk) hg2 (by rw [bf 24 t (Or.inl (by omega))]; exact hh)
    rw [b1 19 (by omega) (by omega)] at a19
    rw [b1 22 (by omega) (by omega)] at a22
    rw [b1 27 (by omega) (by omega)] at a27
    refine ⟨d', a1, fun v h1 h2 h3 h4 h5 h6 h7 h8 h9 => (a2 v h2 h3 h4 h5 h6 h7 h9).trans (b1 v h1 h8), fun v s h1 h2 => (a3 v s h1 h2).trans (b2 v s h1), ⟨?_, a19, a20, a21, a22, a27, a28⟩, fun j => (a4 j).trans (by rw [b1 32 (by omega) (by omega)]), ?_, fun v s h1 => ⟨(a6 v s (Or.inr h1)).trans (bf v s (Or.inr h1)), by rw [a7]; exact bg v s h1⟩, fun y => absurd y c, fun _ => ⟨?_, (a6 29 t (Or.inl (by omega))).trans b29, by rw [a7]; exact b30⟩⟩
    · rw [a2 15 (by omega) (by omega) (by omega) (by omega) (by omega) (by omega) (by omega)]
      exact b15
    · rw [a5, bf 24 t (Or.inl (by omega))]
    · rw [a2 31 (by omega) (by omega) (by omega) (by omega) (by omega) (by omega) (by omega)]
      exact b31
end
