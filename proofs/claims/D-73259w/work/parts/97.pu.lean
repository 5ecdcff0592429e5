/-! THE RUN: whole runs; what they leave of the relation -/
set_option maxRecDepth 100000
/-- what calls leave of both memories -/
def Kt (S : Sp) (d m : Dt) (S' : Sp) (d' m' : Dt) (c s : Nat) : Prop := Ext S S' ∧ (S'.2.2.1 ≤ S.2.2.1 + c ∧ S'.2.2.2 ≤ S.2.2.2 + s ∧ S'.1.length + S.2.2.1 ≤ S'.2.2.1 + S.1.length) ∧ Kp S d d' ∧ Kc d d' ∧ Km m m' ∧ d'.1 25 = d.1 25 ∧ d'.1 26 = d.1 26
theorem Kt.rf {S : Sp} {d m : Dt} : Kt S d m S d m 0 0 := ⟨Ext.rf, by omega, Kp.rf, Kc.rf, Km.rf, rfl, rfl⟩
theorem Kt.tr {S T U : Sp} {d d' d'' m m' m'' : Dt} {c s c' s' : Nat} (h : Kt S d m T d' m' c s) (g : Kt T d' m' U d'' m'' c' s') : Kt S d m U d'' m'' (c + c') (s + s') := by
  obtain ⟨a1, a2, a3, a4, a5, a6, a7⟩ := h
  obtain ⟨b1, b2, b3, b4, b5, b6, b7⟩ := g
  exact ⟨a1.tr b1, by omega, a3.tr (fun a x y => b3 a (Nat.lt_of_lt_of_le x a1.2.2) y), a4.tr b4, a5.tr b5, b6.trans a6, b7.trans a7⟩
theorem Kt.mono {S T : Sp} {d d' m m' : Dt} {c s c' s' : Nat} (h : Kt S d m T d' m' c s) (h1 : c ≤ c') (h2 : s ≤ s') : Kt S d m T d' m' c' s' := by
  obtain ⟨a1, a2, a3⟩ := h
  exact ⟨a1, by omega, a3⟩
theorem Kt.rel {n : Nat} {S T : Sp} {d d' m m' : Dt} {c s : Nat} (hR : Rel n S d MoS m) (h : Kt S d m T d' m' c s) (h1 : c ≤ 17000) (h2 : s ≤ 76000) : Rel (n + 1) T d' MoS m' := by
  obtain ⟨a1, a2, a3, a4, a5, a6, a7⟩ := h
  exact hR.go a1 (by omega) a3 a4 a5 a6 a7
theorem Kt.relN {S T : Sp} {d d' m m' : Dt} {c s : Nat} {q : TdP} (hN : RelN S d m q) (hF : WsFix S) (h : Kt S d m T d' m' c s) : RelN T d' m' q := by
  obtain ⟨a1, a2, a3, a4, a5, a6, a7⟩ := h
  obtain ⟨hW, hO⟩ := RelN_iff.mp hN
  exact RelN_iff.mpr ⟨hW.go hF a1 a3 a4 a5, hO.go a6 a7 (a5.1 1 (by omega) (by omega))⟩
theorem Kt.fix {S T : Sp} {d d' m m' : Dt} {c s : Nat} (hF : WsFix S) (h : Kt S d m T d' m' c s) : WsFix T := hF.ext h.1
theorem Kt.row {S T : Sp} {d d' m m' : Dt} {c s : Nat} (h : Kt S d m T d' m' c s) : mw m' = mw m := h.2.2.2.2.1.1 1 (by omega) (by omega)
theorem Kt.dC {S : Sp} {d m : Dt} {v k : Nat} {x : Int32} (hv : (v = 0 ∧ (k < 3 ∨ 7 ≤ k)) ∨ (9 ≤ v ∧ v < 25) ∨ (27 ≤ v ∧ v < 35)) : Kt S d m S (dI d v k x) m 0 0 :=
  ⟨Ext.rf, by omega, Kp.rf.dI (by omega), Kc.rf.dI (by omega) (by omega), Km.rf, dI_ne (by omega), dI_ne (by omega)⟩
theorem Kt.dM {S : Sp} {d m : Dt} {v k : Nat} {x : Int32} (hv : 5 ≤ v ∨ (v = 0 ∧ k ≠ 5 ∧ k ≠ 12 ∧ k ≠ 13)) : Kt S d m S d (dI m v k x) 0 0 :=
  ⟨Ext.rf, by omega, Kp.rf, Kc.rf, Km.rf.dI hv, rfl, rfl⟩
section
variable {w : Nat → Int32} {q : TdP} {u k kh kg r b t z cy : Nat} {kj : Nat → Nat} {S0 S S' : Sp} {d0 m0 d m e f e1 e2 f1 f2 g1 g2 : Dt} {op cl : Nat → Nat} {W : Int32} {F0 : Int32 × (Nat → Int32)} {P V P' V' : Nat → Prop} {p1 p2 p3 : Int32}
/-- a run leaves what it must of the relation -/
theorem RT.kt (h : RT S d0 m w q W F0 u k kh kj kg r b S' f1 f2) (hl : 35 ≤ S.1.length) (hd : d0 = dI d 0 28 p2) : Kt S d m S' f1 f2 3 18 := by
  obtain ⟨⟨a1, a2, a3, a4⟩, ⟨c1, c2⟩, -, -, -, -, -, -, ⟨hb, -⟩, -, -⟩ := h
  have k1 : Kt S d m S (dI d 0 28 p2) m 0 0 := Kt.dC (by omega)
  subst hd
  refine (k1.tr (⟨a1, ⟨by omega, by omega, a4⟩, c1.kp, c1.kc hl, c2.km, c1.1 25 (by omega) (by omega), c1.1 26 (by omega) (by omega)⟩ : Kt S (dI d 0 28 p2) m S' f1 f2 3 18)).mono (by omega) (by omega)
/-- what is known behind a run -/
def Run (S : Sp) (d m : Dt) (w : Nat → Int32) (q : TdP) (p2 : Int32) (H : Nat → Int32) (p r b : Nat) (S' : Sp) (f1 f2 : Dt) : Prop := RT S (dI d 0 28 p2) m w q (d.1 0 30) (d.1 0 31, H) 99 p p (fun _ => p) p r b S' f1 f2
theorem RT.rcr (h : RT S0 d0 m0 w q W F0 u k kh kj kg r b S e1 e2) : RcR r e1 e2 := h.2.2.2.2.2.2.1
theorem RT.spr (h : RT S0 d0 m0 w q W F0 u k kh kj kg r b S e1 e2) : SpR q r e1 e2 := h.2.2.2.2.2.2.2.1
theorem RT.bdr (h : RT S0 d0 m0 w q W F0 u k kh kj kg r b S e1 e2) : BdR b e1 e2 := h.2.2.2.2.2.2.2.2.1
theorem RT.hdr (h : RT S0 d0 m0 w q W F0 u k kh kj kg r b S e1 e2) : HdR kh F0.2 e1 e2 := h.2.2.2.2.2.2.2.2.2.1
theorem RT.gpr (h : RT S0 d0 m0 w q W F0 u k kh kj kg r b S e1 e2) : GpR q W F0.1 e1 e2 := h.2.2.2.2.2.2.2.2.2.2
theorem RT.lfs (h : RT S0 d0 m0 w q W F0 u k kh kj kg r b S e1 e2) : ∀ t, t < q.nt → Lf q u k (kj t) kg r b e1 e2 t := h.2.2.2.1
theorem RT.slr (h : RT S0 d0 m0 w q W F0 u k kh kj kg r b S e1 e2) : SlR w q k e1 e2 := h.2.2.2.2.1
theorem RT.str (h : RT S0 d0 m0 w q W F0 u k kh kj kg r b S e1 e2) : StR w q e1 e2 := h.2.2.2.2.2.1
/-- both run: the component up to tick p, the model up to tick P -/
theorem runs_two (h0 : RE S (dI d 0 28 p2) m w q op cl) (hb : ¬ w 7 ≤ 0) {p P : Nat} (hp : p ≤ P) (hP : P ≤ 200) : ∃ S' f1 f2 H r b T g1 g2 H' r' b', Ws_runs 0 (nI p) p2 S d = some ((), S', f1) ∧ Mo_runs 0 (nI P) MoS m = some ((), g2) ∧ Run S d m w q p2 H p r b S' f1 f2 ∧ Run S d m w q p2 H' P r' b' T g1 g2 ∧ (r ≤ 2200 ∧ r' ≤ 2200) ∧ ∀ j, j < p → H' j = H j := by
  obtain ⟨cy, c1, c2, c3, c4⟩ := h0.C.cyF
  have hcy5 : 5 ≤ cy := c4.resolve_left hb
  obtain ⟨e1, e2, s1, s2, s3⟩ := start_eq h0 cy (p := nI p) (P := nI P)
  obtain ⟨r, b, S', f1, f2, H, t1, t2, t3, t4⟩ := ticks_eq (p2 := p2) h0 c2 hcy5 c1 p 0 0 0 S e1 e2 _ s3 (by omega)
  rw [Nat.zero_add] at t3
  obtain ⟨r', b', T, g1, g2, H', u1, u2, u3, u4⟩ := ticks_eq (p2 := p2) h0 c2 hcy5 c1 (P - p) p r b S' f1 f2 _ t3 (by omega)
  rw [show p + (P - p) = P by omega] at u3
  have hl1 := cy_le (k := p) (cy := cy) (by omega) hcy5
  have hl2 := cy_le (k := P) (cy := cy) (by omega) hcy5
  have hR := t3.1.re h0
  have h25 : f1.1 0 25 = nI p := t3.1.2.2.1.1
  refine ⟨S', f1, f2, H, r, b, T, g1, g2, H', r', b', ?_, ?_, t3.1, u3.1, ⟨by have := t3.2.2; omega, by have := u3.2.2; omega⟩, u4⟩
  · rw [s1, show FU = (9999 - p + 1) + p from by show 10000 = _; omega, t1 p (9999 - p + 1) (by omega) (by omega), Ws_runs_h106, hR.C.K, Option.bind_some, h25, if_pos (nI_le (Nat.le_refl _) (by omega))]
  · have a1 := t2 P (9999 - p) (by omega) (by omega)
    have a2 := u2 P (9999 - P) (by omega) (by omega)
    rw [Nat.zero_add] at a1
    rw [show p + (P - p) = P by omega] at a2
    rw [s2, show FU = 9999 - p + p + 1 from by show 10000 = _; omega]
    refine a1.trans ?_
    rw [show 9999 - p + 1 = 9999 - P + (P - p) + 1 by omega]
    refine a2.trans ?_
    rw [Mo_runs_h6, if_pos (nI_le (Nat.le_refl _) (by omega))]
/-- both run up to one tick -/
theorem runs_eq (h0 : RE S (dI d 0 28 p2) m w q op cl) (hb : ¬ w 7 ≤ 0) {p : Nat} (hp : p ≤ 200) : ∃ S' f1 f2 H r b, Ws_runs 0 (nI p) p2 S d = some ((), S', f1) ∧ Mo_runs 0 (nI p) MoS m = some ((), f2) ∧ Run S d m w q p2 H p r b S' f1 f2 ∧ r ≤ 2200 := by
  obtain ⟨cy, c1, c2, c3, c4⟩ := h0.C.cyF
  have hcy5 : 5 ≤ cy := c4.resolve_left hb
  obtain ⟨e1, e2, s1, s2, s3⟩ := start_eq h0 cy (p := nI p) (P := nI p)
  obtain ⟨r, b, S', f1, f2, H, t1, t2, t3, t4⟩ := ticks_eq (p2 := p2) h0 c2 hcy5 c1 p 0 0 0 S e1 e2 _ s3 (by omega)
  rw [Nat.zero_add] at t3
  have hl1 := cy_le (k := p) (cy := cy) (by omega) hcy5
  have hR := t3.1.re h0
  have h25 : f1.1 0 25 = nI p := t3.1.2.2.1.1
  refine ⟨S', f1, f2, H, r, b, ?_, ?_, t3.1, by have := t3.2.2; omega⟩
  · rw [s1, show FU = (9999 - p + 1) + p from by show 10000 = _; omega, t1 p (9999 - p + 1) (by omega) (by omega), Ws_runs_h106, hR.C.K, Option.bind_some, h25, if_pos (nI_le (Nat.le_refl _) (by omega))]
  · have a1 := t2 p (9999 - p) (by omega) (by omega)
    rw [Nat.zero_add] at a1
    rw [s2, show FU = 9999 - p + p + 1 from by show 10000 = _; omega]
    refine a1.trans ?_
    rw [Mo_runs_h6, if_pos (nI_le (Nat.le_refl _) (by omega))]
/-- the windows that are told -/
def opN (w : Nat → Int32) (t : Nat) : Nat := (w (11 + 7 * t + 2)).toNatClampNeg
def clN (w : Nat → Int32) (t : Nat) : Nat := (w (11 + 7 * t + 3)).toNatClampNeg
theorem CE.win (h : CE S d w q) (ht : t < q.nt) : w (11 + 7 * t + 2) = nI (opN w t) ∧ w (11 + 7 * t + 3) = nI (clN w t) ∧ opN w t < clN w t ∧ clN w t ≤ 120 ∧ opN w t ≤ 99 := by
  obtain ⟨-, -, -, -, -, hT, -⟩ := h.wf
  obtain ⟨-, ⟨a, p, o, c, le, mo, -, -, -, -, -, o1, o2, c1, c2, c3, -⟩, -⟩ := hT t ht
  have eo : opN w t = o := by unfold opN; rw [o1]; exact nI_clamp (by omega)
  have ec : clN w t = c := by unfold clN; rw [c1]; exact nI_clamp (by omega)
  rw [eo, ec]
  exact ⟨o1, c1, c2, c3, o2⟩
theorem RelN.re (hN : RelN S d m q) (hF : WsFix S) (kp : Kp S d e1) (a25 : e1.1 25 = d.1 25) (a26 : e1.1 26 = d.1 26) (m1 : e2.1 1 = m.1 1) (h28 : e1.1 0 28 = e2.1 0 23) (h24 : e2.1 0 24 = -1) (h27 : e2.1 0 27 = 0) : RE S e1 e2 (mw m) q (opN (mw m)) (clN (mw m)) := by
  have hC := hN.ce hF
  have hC' : CE S e1 (mw m) q := hC.go kp
  have h5 := hC.nt5
  obtain ⟨-, hO⟩ := RelN_iff.mp hN
  have em : mw e2 = mw m := m1
  refine ⟨hC', fun i _ => by rw [em], ?_, h28, fun t ht => ?_⟩
  · rw [em, h27, hC.wf.many, Int32.add_zero]
  · obtain ⟨o1, o2⟩ := hO t ht
    obtain ⟨w1, w2, w3, w4, w5⟩ := hC.win ht
    rw [em, h24, if_pos (m1_pos (by omega)), if_pos (m1_pos (by omega)), a25, a26, o1, o2]
    exact ⟨w1, w2, w1, w2, w3, w4⟩
/-- the model as told, but for the injection x -/
def tld (m : Dt) (x : Int32) : Dt := dI (dI (dI m 0 23 x) 0 24 (-1)) 0 27 0
theorem asTold_eq : Mo_asTold 0 MoS m = some ((), tld m (-1)) := by
  unfold Mo_asTold
  rw [Mo_K]
  rfl
theorem tld_v {x : Int32} : (∀ v, v ≠ 0 → (tld m x).1 v = m.1 v) ∧ (tld m x).1 0 23 = x ∧ (tld m x).1 0 24 = -1 ∧ (tld m x).1 0 27 = 0 ∧ (∀ j, j ≠ 23 → j ≠ 24 → j ≠ 27 → (tld m x).1 0 j = m.1 0 j) ∧ (tld m x).2 = m.2 := by
  unfold tld
  refine ⟨fun v hv => by rw [dI_ne hv, dI_ne hv, dI_ne hv], ?_, ?_, dI_at, fun j h1 h2 h3 => ?_, rfl⟩
  · rw [dI_nk (by omega), dI_nk (by omega), dI_at]
  · rw [dI_nk (by omega), dI_at]
  · rw [dI_nk (by omega), dI_nk (by omega), dI_nk (by omega)]
theorem tld_kt {x : Int32} : Kt S d m S d (tld m x) 0 0 := ((Kt.dM (by omega)).tr (Kt.dM (by omega))).tr (Kt.dM (by omega))
theorem RelN.re0 (hN : RelN S d m q) (hF : WsFix S) : RE S (dI d 0 28 p2) (tld m p2) (mw m) q (opN (mw m)) (clN (mw m)) :=
  hN.re hF (Kp.rf.dI (by omega)) (dI_ne (by omega)) (dI_ne (by omega)) (tld_v.1 1 (by omega)) (by rw [dI_at]; exact tld_v.2.1.symm) tld_v.2.2.1 tld_v.2.2.2.1
theorem CE.hF (h : CE S d w q) : ∃ h9, w 0 = nI h9 ∧ h9 ≤ 200 ∧ d.1 q.a 3 = nI h9 := by
  obtain ⟨-, -, -, ⟨hh, cy, lo, ln, h1, h2, -⟩, -⟩ := h.wf
  obtain ⟨-, -, ta, t0, t1, t2, -, -, -, -, -, -, -, -, v3, -⟩ := h
  exact ⟨hh, h1, h2, v3.trans h1⟩
/-- a run of both as told -/
theorem run1 (hN : RelN S d m q) (hF : WsFix S) (hb : ¬ mw m 7 ≤ 0) {p : Nat} (hp : p ≤ 200) : ∃ S' f1 f2 H r b, Ws_runs 0 (nI p) p2 S d = some ((), S', f1) ∧ Mo_runs 0 (nI p) MoS (tld m p2) = some ((), f2) ∧ Run S d (tld m p2) (mw m) q p2 H p r b S' f1 f2 ∧ r ≤ 2200 ∧ RE S' f1 f2 (mw m) q (opN (mw m)) (clN (mw m)) ∧ Kt S d m S' f1 f2 3 18 := by
  have h0 := hN.re0 hF (p2 := p2)
  obtain ⟨S', f1, f2, H, r, b, s1, s2, s3, s4⟩ := runs_eq h0 hb hp
  exact ⟨S', f1, f2, H, r, b, s1, s2, s3, s4, RT.re s3 h0, (tld_kt.tr (RT.kt s3 (Ws_len hF) rfl)).mono (by omega) (by omega)⟩
/-- all ticks -/
theorem all1 (hN : RelN S d m q) (hF : WsFix S) (hb : ¬ mw m 7 ≤ 0) : ∃ S' f1 f2 H r b h9, mw m 0 = nI h9 ∧ h9 ≤ 200 ∧ Ws_all 0 p2 S d = some (nI r, S', f1) ∧ Mo_runs 0 (mw m 0) MoS (tld m p2) = some ((), f2) ∧ f2.1 0 56 = nI r ∧ Run S d (tld m p2) (mw m) q p2 H h9 r b S' f1 f2 ∧ r ≤ 2200 ∧ RE S' f1 f2 (mw m) q (opN (mw m)) (clN (mw m)) ∧ Kt S d m S' f1 f2 3 18 := by
  have hC := hN.ce hF
  obtain ⟨h9, a1, a2, a3⟩ := hC.hF
  obtain ⟨S', f1, f2, H, r, b, s1, s2, s3, s4, s5, s6⟩ := run1 (p2 := p2) hN hF hb a2
  have hrc := RT.rcr s3
  refine ⟨S', f1, f2, H, r, b, h9, a1, a2, ?_, by rw [a1]; exact s2, hrc.2.1, s3, s4, s5, s6⟩
  unfold Ws_all
  rw [hC.K, Option.bind_some, hC.T, Option.bind_some, a3, s1, bind3_some, s5.C.K, Option.bind_some, hrc.1]
end
