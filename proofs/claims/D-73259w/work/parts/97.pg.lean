/-! THE RUN: faults of a task -/
set_option maxRecDepth 100000
def fltC (t c : Nat) (g : UInt32) (d : Dt) : Dt := dF (dI (dI (dI d (30 + t) 10 (nI (c + 1))) (30 + t) 11 0) (30 + t) 16 1) (30 + t) 17 g
def fltM (t c : Nat) (g : UInt32) (d : Dt) : Dt := dI (dI (dF (dI d 23 t (nI (c + 1))) 24 t g) 25 t 0) 26 t 1
section
variable {w : Nat → Int32} {q : TdP} {u k kh kg r b t : Nat} {kj : Nat → Nat} {S0 S S' : Sp} {d0 m0 d e f e1 e2 f1 f2 g1 g2 : Dt} {op cl : Nat → Nat} {W : Int32} {F0 : Int32 × (Nat → Int32)} {P V P' V' : Nat → Prop}
theorem fltC_v {c : Nat} {g : UInt32} : (∀ v, v ≠ 30 + t → (fltC t c g d).1 v = d.1 v) ∧ (∀ f, f ≠ 10 → f ≠ 11 → f ≠ 16 → (fltC t c g d).1 (30 + t) f = d.1 (30 + t) f) ∧ (fltC t c g d).1 (30 + t) 10 = nI (c + 1) ∧ (fltC t c g d).1 (30 + t) 11 = 0 ∧ (fltC t c g d).1 (30 + t) 16 = 1 ∧ (∀ v, v ≠ 30 + t → (fltC t c g d).2.1 v = d.2.1 v) ∧ (fltC t c g d).2.1 (30 + t) 17 = g ∧ (∀ f, f ≠ 17 → (fltC t c g d).2.1 (30 + t) f = d.2.1 (30 + t) f) ∧ (fltC t c g d).2.2 = d.2.2 := by
  refine ⟨fun v h => ?_, fun f h1 h2 h3 => ?_, ?_, ?_, ?_, fun v h => ?_, ?_, fun f h => ?_, rfl⟩
  · funext j
    simp [fltC, dF, dI, u2, h]
  · simp [fltC, dF, dI, u2, h1, h2, h3]
  · simp [fltC, dF, dI, u2]
  · simp [fltC, dF, dI, u2]
  · simp [fltC, dF, dI, u2]
  · funext j
    simp [fltC, dF, dI, u2, h]
  · simp [fltC, dF, dI, u2]
  · simp [fltC, dF, dI, u2, h]
theorem fltM_v {c : Nat} {g : UInt32} : (∀ v, v ≠ 23 → v ≠ 25 → v ≠ 26 → (fltM t c g d).1 v = d.1 v) ∧ (∀ v s, s ≠ t → (fltM t c g d).1 v s = d.1 v s) ∧ (fltM t c g d).1 23 t = nI (c + 1) ∧ (fltM t c g d).1 25 t = 0 ∧ (fltM t c g d).1 26 t = 1 ∧ (∀ v, v ≠ 24 → (fltM t c g d).2.1 v = d.2.1 v) ∧ (fltM t c g d).2.1 24 t = g ∧ (∀ f, f ≠ t → (fltM t c g d).2.1 24 f = d.2.1 24 f) ∧ (fltM t c g d).2.2 = d.2.2 := by
  refine ⟨fun v h1 h2 h3 => ?_, fun v s h => ?_, ?_, ?_, ?_, fun v h => ?_, ?_, fun f h => ?_, rfl⟩
  · funext j
    simp [fltM, dF, dI, u2, h1, h2, h3]
  · simp [fltM, dF, dI, u2, h]
  · simp [fltM, dF, dI, u2]
  · simp [fltM, dF, dI, u2]
  · simp [fltM, dF, dI, u2]
  · funext j
    simp [fltM, dF, dI, u2, h]
  · simp [fltM, dF, dI, u2]
  · simp [fltM, dF, dI, u2, h]
theorem CE.low (h : CE S d w q) : ∃ lo, lo ≤ 9 ∧ w 2 = nI lo ∧ d.1 q.a 5 = nI lo := by
  obtain ⟨h', cy, lo, ln, -, -, -, -, w2, w3, -⟩ := h.wf.2.2.2.1
  obtain ⟨-, -, ta, t0, t1, t2, -, -, -, -, -, -, -, -, -, -, v5, -⟩ := h
  exact ⟨lo, w3, w2, v5.trans w2⟩
theorem imin3 {c : Nat} (hc : c < 5000) : imin 3 (nI c) = nI (min 3 c) := by
  unfold imin
  by_cases h : c < 3
  · rw [if_pos (show nI c < 3 from nI_lt (b := 3) h (by omega)), Nat.min_eq_right (by omega)]
  · rw [if_neg (show ¬ nI c < 3 from nI_nlt (b := 3) (by omega) (by omega)), Nat.min_eq_left (by omega)]
    rfl
theorem faults_eq {kd : Nat} (h : RT S0 d0 m0 w q W F0 u k kh kj kg r b S e1 e2) (h0 : RE S0 d0 m0 w q op cl) (hk : k < 200) (hb : b < 3) (hr : r < 3000) (ht : t < q.nt) (hkd : kd < 6) (hu : q.nt ≤ u ∨ u = t) : Out S0 d0 m0 w q W F0 99 k kh kj kg (r + 1) b S e1 e2 (Ws_faults 0 (nI kd) (nI t) S e1) (Mo_faultOf 0 (nI t) (nI kd) (nI k) MoS e2) := by
  have hR := h.re h0
  have hC := hR.C
  have h5 := hC.nt5
  obtain ⟨q1, q2, q3, q4, q5, q6, q7, q8, q9, q10, q11⟩ := h
  have hlf := q4 t ht
  obtain ⟨-, -, -, -, -, -, -, ⟨c, y8, l8, l8'⟩, -, -, -, -, -, ⟨hhE, hhO⟩, -⟩ := hlf
  have hhE' : e1.2.1 (30 + t) 17 = e2.2.1 24 t := hhE
  have l8'' : e2.1 23 t = nI c := l8'
  obtain ⟨g, hg⟩ : ∃ g, g = FP.fmul (e1.2.1 (30 + t) 17) 1056964608 := ⟨_, rfl⟩
  obtain ⟨n1, n2, n3, n4, n5, n6, n7, n8, n9⟩ := fltC_v (t := t) (c := c) (g := g) (d := e1)
  obtain ⟨o1, o2, o3, o4, o5, o6, o7, o8, o9⟩ := fltM_v (t := t) (c := c) (g := g) (d := e2)
  obtain ⟨lo, lo9, lw, ld⟩ := hC.low
  have hgl : fNn (FP.fdiv (FP.i2f (nI lo)) 1092616192) := by
    unfold fNn
    exact of_decide_eq_true (chkL_tab lo (by omega))
  obtain ⟨a, a1, a2, a3⟩ := hC.wat ht
  have hgC : CE S (fltC t c g e1) w q := hC.go (fun a ha hx => n1 a (by omega))
  have hgR : RE S e1 (fltM t c g e2) w q op cl := hR.m ⟨fun a h1 h2 => o1 a (by omega) (by omega) (by omega), fun j _ => by rw [o1 0 (by omega) (by omega) (by omega)]⟩
  obtain ⟨x, hx, hx9⟩ : ∃ x : Nat, (if 0 ≤ (Op.cmpValue (FP.fcmp g (FP.fdiv (FP.i2f (nI lo)) 1092616192)) .g) then (0 : Int32) else 1) = nI x ∧ x ≤ 1 := by
    split
    · exact ⟨0, rfl, by omega⟩
    · exact ⟨1, rfl, by omega⟩
  have hL : imin 3 (nI c + nI x) = nI (min 3 (c + x)) := by rw [nI_add, imin3 (by omega)]
  have hL4 : min 3 (c + x) < 4 := by omega
  have hwC : Ws_faults 0 (nI kd) (nI t) S e1 = Ws_notes 0 (nI kd) (nI t) (nI (min 3 (c + x))) S (fltC t c g e1) := by
    have e0 : (dI (dI (dI e1 (30 + t) 10 (nI (c + 1))) (30 + t) 11 0) (30 + t) 16 1).2.1 (30 + t) 17 = e1.2.1 (30 + t) 17 := rfl
    unfold Ws_faults
    rw [hC.K, Option.bind_some, cr12 hC.F, ca16 hC.F (show t < 5 by omega), Option.bind_some, Option.bind_some, cl_r hC.F (show t < 5 by omega), cl_K hC.F (show t < 5 by omega), Option.bind_some, show e1.1 (30 + t) 10 = nI c from l8, nI_1, Option.bind_some, Option.bind_some, Option.bind_some, e0, ← hg, gf_ok (hg ▸ (h_half hhO).1), Option.bind_some, Option.bind_some, hC.T, Option.bind_some]
    show ((gf (FP.fdiv (FP.i2f ((fltC t c g e1).1 q.a 5)) 1092616192)).bind fun g11 => Ws_faults_b70 0 (nI kd) (nI t) (if 0 ≤ (Op.cmpValue (FP.fcmp ((fltC t c g e1).2.1 (30 + t) 17) g11) .g) then 0 else 1) (((fltC t c g e1).1 (30 + t) 10) - 1) S (fltC t c g e1)) = _
    have hqa : q.a ≠ 30 + t := by
      have := h0.C
      intro z
      obtain ⟨-, -, ta, -⟩ := hC
      have h8 := cl_K hR.C.F (show t < 5 by omega)
      rw [show (30 + t) = q.a from z.symm] at h8
      have := isK_of ta
      unfold isK at h8
      rw [Option.bind_some, ta] at h8
      exact absurd h8 (by simp)
    rw [n1 q.a hqa, ld, gf_ok hgl, Option.bind_some, n7, n3, nI_pred, hx]
    unfold Ws_faults_b70
    rw [Option.bind_some, hC.K, Option.bind_some, hL]
    cases hh : Ws_notes 0 (nI kd) (nI t) (nI (min 3 (c + x))) S (fltC t c g e1) with
    | none => rfl
    | some a =>
      obtain ⟨a1, a2, a3⟩ := a
      cases a1 <;> rfl
  have hwM : Mo_faultOf 0 (nI t) (nI kd) (nI k) MoS e2 = bind2 (Mo_records 0 (nI k) (nI kd) (nI t) (nI (min 3 (c + x))) MoS (fltM t c g e2)) fun _ m => Mo_climbs 0 (nI (min 3 (c + x))) (nI t) (nI a) (nI k) MoS m := by
    unfold Mo_faultOf
    rw [Mo_K, Option.bind_some, MoS_R0_37, ma23 (show t < 5 by omega), Option.bind_some, l8'', nI_1, Option.bind_some, MoS_R0_38, ma24 (show t < 5 by omega), Option.bind_some, show (dI e2 23 t (nI (c + 1))).2.1 24 t = e1.2.1 (30 + t) 17 from hhE'.symm, ← half_two hhO, ← hg, gf_ok (hg ▸ (h_half hhO).1), Option.bind_some, Option.bind_some, MoS_R0_39, ma25 (show t < 5 by omega), Option.bind_some, Option.bind_some, MoS_R0_40, ma26 (show t < 5 by omega), Option.bind_some, Option.bind_some, show aix MoS 50 (MoS.2.1 0 1) 2 = some (1, 2) from Mw 2 (by omega), Option.bind_some, show (dI (dI (dF (dI e2 23 t (nI (c + 1))) 24 t g) 25 t 0) 26 t (vp_nar .boolean 1)) = fltM t c g e2 from rfl]
    rw [o7, o3, o1 1 (by omega) (by omega) (by omega), show e2.1 1 2 = nI lo from (hR.row (i := 2) (by omega)).trans lw, gf_ok hgl, Option.bind_some, nI_pred, hx]
    unfold Mo_faultOf_b73
    rw [Option.bind_some, Mo_K, Option.bind_some, hL, rec_mo ((congrFun (o1 0 (by omega) (by omega) (by omega)) 56).trans q7.2.1) hr, bind2_some, bind2_some]
    have hgR2 : RE S e1 (recM r k kd t (min 3 (c + x)) (fltM t c g e2)) w q op cl := hgR.m ⟨fun a h1 h2 => recM_v.1 a (by omega) (by omega) (by omega) (by omega) (by omega), fun j hj => recM_v.2.1 j (by omega)⟩
    rw [show Mo_toldOf 0 (nI t) 0 MoS (recM r k kd t (min 3 (c + x)) (fltM t c g e2)) = _ from hgR2.told ht (f := 0) (by omega), Option.bind_some, show w (11 + 7 * t + 0) = nI a from a2]
    cases hh : Mo_climbs 0 (nI (min 3 (c + x))) (nI t) (nI a) (nI k) MoS (recM r k kd t (min 3 (c + x)) (fltM t c g e2)) with
    | none => rfl
    | some a =>
      obtain ⟨a1, a2⟩ := a
      rfl
  rw [hwC, hwM]
  have hrt : RT S0 d0 m0 w q W F0 u k kh kj kg (r + 1) b S (recC r k kd t (min 3 (c + x)) (fltC t c g e1)) (recM r k kd t (min 3 (c + x)) (fltM t c g e2)) := by
    refine RT.rec (u' := u) (e1 := e1) (e2 := e2) ⟨q1, q2, q3, q4, q5, q6, q7, q8, q9, q10, q11⟩ (q2.1.by (fun v h1 h2 => n1 v (by omega)) (fun f hf => by rw [n1 0 (by omega)])) (q2.2.by (fun v h1 h2 => o1 v (by omega) (by omega) (by omega)) (fun f hf => by rw [o1 0 (by omega) (by omega) (by omega)])) (fun s hs => ?_) (fun v hv => ?_) (fun f h1 h2 => by rw [n1 0 (by omega)]) (fun v h1 h2 h3 h4 h5 h6 => n1 v (by omega)) (fun f h1 h2 h3 => by rw [o1 0 (by omega) (by omega) (by omega)]) (fun v h1 h2 h3 h4 h5 h6 => o1 v (by omega) (by omega) (by omega)) (by omega) (fun z => by omega)
    · by_cases c9 : s = t
      · subst c9
        exact (q4 s hs).fault (by rw [n9]) (by rw [o6 29 (by omega)]) o9 (n8 18 (by omega)) (n7.trans hg) (o7.trans hg) (by rw [n3, l8, nI_1]) n4 n5 n2 (by rw [o3, l8'', nI_1]) o4 o5 (fun p h1 h2 h3 h4 => by rw [o1 p h1 h2 h3])
      · exact ((q4 s hs).same (n1 (30 + s) (by omega)) (n6 (30 + s) (by omega)) (by rw [n9]) (fun p h1 h2 => o2 p s c9) (o8 s c9) (by rw [o6 29 (by omega)]) (by rw [o9])).mono (Nat.le_refl _) (Nat.le_refl _) (by omega)
    · obtain ⟨x, x1, x2, x3⟩ := q8 v hv
      refine ⟨x, by omega, ?_, ?_⟩
      · rw [n1 19 (by omega)]; exact x2
      · rw [o1 35 (by omega) (by omega) (by omega)]; exact x3
  obtain ⟨f1, f2, x1, x2, x3, x4⟩ := notes_eq (t := t) h0 hgC ((congrFun (n1 0 (by omega)) 25).trans q3.1) ((congrFun (n1 0 (by omega)) 24).trans q7.1) ((congrFun (o1 0 (by omega) (by omega) (by omega)) 56).trans q7.2.1) hr hrt hk hb hL4 a1 (by omega) (fun _ => ⟨rfl, ht, a2⟩) (fun z => by omega) (p2 := nI t) (p3 := nI a) (hu.imp id (fun z => ⟨z, a2⟩)) (fun _ => rfl) (fun _ => rfl)
  refine ⟨f1, f2, x1, x2.trans (n1 20 (by omega)), x3.trans (o1 36 (by omega) (by omega) (by omega)), x4.imp (fun ⟨y1, y2, y3⟩ => ⟨y1, y2, y3.trans (by rw [o1 0 (by omega) (by omega) (by omega)])⟩) id⟩
end
