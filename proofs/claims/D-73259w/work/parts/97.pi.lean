/-! THE RUN: a kick -/
set_option maxRecDepth 100000
def OutB (S0 : Sp) (d0 m0 : Dt) (w : Nat → Int32) (q : TdP) (W : Int32) (F0 : Int32 × (Nat → Int32)) (u k kh : Nat) (kj : Nat → Nat) (kg rm b : Nat) (S : Sp) (e1 e2 : Dt) (o : Option ((Unit ⊕ Nat) × Sp × Dt)) (p : Option (Unit × Dt)) : Prop := ∃ r, r ≤ rm ∧ Out S0 d0 m0 w q W F0 u k kh kj kg r b S e1 e2 o p
section
variable {w : Nat → Int32} {q : TdP} {u k kh kg r b t z : Nat} {kj : Nat → Nat} {S0 S S' : Sp} {d0 m0 d e f e1 e2 f1 f2 g1 g2 : Dt} {op cl : Nat → Nat} {W : Int32} {F0 : Int32 × (Nat → Int32)} {P V P' V' : Nat → Prop} {p1 p2 p3 : Int32}
theorem Out.up {o : Option ((Unit ⊕ Nat) × Sp × Dt)} {p : Option (Unit × Dt)} (h : Out S0 d0 m0 w q W F0 u k kh kj kg r b S e1 e2 o p) {kg' : Nat} (hg : kg ≤ kg') : Out S0 d0 m0 w q W F0 u k kh kj kg' r b S e1 e2 o p := by
  obtain ⟨f1, f2, x1, x2, x3, x4⟩ := h
  exact ⟨f1, f2, x1, x2, x3, x4.imp (fun ⟨y1, y2, y3⟩ => ⟨y1, y2.up (fun _ _ => Nat.le_refl _) hg, y3⟩) (fun ⟨z, T, y1, y2, y3⟩ => ⟨z, T, y1, y2.up (fun _ _ => Nat.le_refl _) hg, y3⟩)⟩
theorem RE.gpe (h : RE S e1 e2 w q op cl) {n : Nat} : gp (mw e2) t n = gp w t n := by
  funext k
  unfold gp
  rw [h.row (by omega)]
theorem RE.fol (h : RE S e1 e2 w q op cl) (ht : t < q.nt) {n : Nat} (hn : n < q.nd t) : Mo_followers 0 (nI t) (nI n) MoS e2 = some (nI (nxC w t (q.nd t) n)) := by
  have h5 := h.C.nt5
  have htf := h.C.tf ht
  rw [Mo_followers_eq (by omega) hn htf.2.1 ((h.row (by omega)).trans htf.2.2.1), h.gpe]
  rfl
theorem sees_eq {G : Int32} (hK : isK S 0 (some 0) = some 0) : ∃ d', Ws_sees 0 p1 G S d = some ((), d') ∧ (∀ v, v ≠ 0 → d'.1 v = d.1 v) ∧ (∀ f, f ≠ 30 → f ≠ 31 → d'.1 0 f = d.1 0 f) ∧ d'.2 = d.2 ∧ (p1 = d.1 0 29 → d'.1 0 30 = d.1 0 30 - 1 ∧ d'.1 0 31 = if d.1 0 30 = 0 then G else d.1 0 31) ∧ (¬ p1 = d.1 0 29 → d' = d) := by
  unfold Ws_sees Ws_sees_b21
  rw [hK, Option.bind_some]
  by_cases c : p1 = d.1 0 29
  · rw [if_pos c, Option.bind_some]
    by_cases c2 : d.1 0 30 = 0
    · rw [if_neg (fun y => y c2), Option.bind_some, Option.bind_some]
      refine ⟨_, rfl, fun v hv => ?_, fun f h1 h2 => ?_, rfl, fun _ => ⟨?_, ?_⟩, fun y => absurd c y⟩
      · rw [dI_ne hv, dI_ne hv]
      · rw [dI_nk (by omega), dI_nk (by omega)]
      · rw [dI_at, dI_nk (by omega)]
      · rw [dI_nk (by omega), dI_at, if_pos c2]
    · rw [if_pos c2, Option.bind_some]
      refine ⟨_, rfl, fun v hv => ?_, fun f h1 h2 => ?_, rfl, fun _ => ⟨?_, ?_⟩, fun y => absurd c y⟩
      · rw [dI_ne hv]
      · rw [dI_nk (by omega)]
      · rw [dI_at]
      · rw [dI_nk (by omega), if_neg c2]
  · rw [if_neg c]
    exact ⟨d, rfl, fun _ _ => rfl, fun _ _ _ => rfl, rfl, fun y => absurd y c, fun _ => rfl⟩
theorem mg_of {l : Nat} (hk : k < 200) (hl : l ≤ 260) {o c : Nat} (hoc : o < c) (hc : c ≤ 120) : fFi (FP.fdiv (FP.i2f (nI c - (nI k - (nI l - 1)))) (FP.i2f (nI c - nI o))) := by
  have e1 : nI c - (nI k - (nI l - 1)) = nI (c + l) - nI (k + 1) := by
    rw [← nI_add, ← nI_1]
    grind
  have e2 : nI c - nI o = nI (c - o) := nI_sub (by omega)
  have h1 := pk_sub_toInt (a := c + l) (b := k + 1) (by omega) (by omega)
  have h2 : (nI (c - o)).toInt = ((c - o : Nat) : Int) := nI_toInt (by omega)
  rw [e1, e2]
  refine mg_ok (by rw [h1]; omega) (by rw [h1]; omega) (by rw [h2]; omega) (by rw [h2]; omega) (nI_ne0 (by omega) (by omega))
theorem kick_eq (h : RT S0 d0 m0 w q W F0 99 k kh kj kg r b S e1 e2) (h0 : RE S0 d0 m0 w q op cl) (hk : k < 200) (hb : b < 3) (hr : r < 3000) (hkg : kg < 200) (ht : t < q.nt) {j n : Nat} (hgo : e1.1 (30 + t) 0 = 1) (hj : e1.1 (30 + t) 2 = nI j) (hj2 : e2.1 15 t = nI j) (hn : n < q.nd t) (hn2 : e2.1 17 t = nI n) : OutB S0 d0 m0 w q W F0 99 k kh kj (kg + 1) (r + 1) b S e1 e2 (Ws_kicks 0 (nI t) (some (30 + t)) (if nxC w t (q.nd t) n = 0 then 0 else 1) S (dI e1 (30 + t) 0 0)) (Mo_kickNow 0 (nI t) (nI k) MoS e2) := by
  have hR := h.re h0
  have hC := hR.C
  have h5 := hC.nt5
  have ht5 : t < 5 := by omega
  have htf := hC.tf ht
  obtain ⟨z, hz⟩ : ∃ z, z = 30 + t := ⟨_, rfl⟩
  have hl35 := Ws_len h0.C.F
  obtain ⟨q1, q2, q3, q4, q5, q6, q7, q8, q9, q10, q11⟩ := h
  have hlf := q4 t ht
  obtain ⟨-, l1, -, ⟨xl, l6, l6', l6''⟩, -, l8, -, -, -, ⟨gk, gk1, gk2, gk3⟩, -, -, ⟨xm, xm1, xm2, xm3, xm4⟩, ⟨hhE, hhO⟩, hsE, hsN⟩ := hlf
  have l6m : e2.1 20 t = nI xl - 1 := l6''
  have gk3' : e2.1 27 t = nI gk := gk3
  have hhE' : e1.2.1 (30 + t) 17 = e2.2.1 24 t := hhE
  have hsE' : e1.2.2 (30 + t) 19 = e2.2.2 30 t := hsE
  have l1' : (e1.1 (30 + t) 1 = 0 ∧ e2.1 21 t = 1) ∨ (e1.1 (30 + t) 1 = 1 ∧ e2.1 21 t = 0) := l1
  have xm3' : e2.1 31 t = nI xm := xm3
  have xm4' : xm ≠ 0 → e1.2.1 (30 + t) 18 = e2.2.1 29 t := xm4
  have l8' : e1.1 (30 + t) 8 = e2.1 19 t := l8
  obtain ⟨d3, hd3⟩ : ∃ d3, d3 = dI (dI e1 z 0 0) z 7 (nI k) := ⟨_, rfl⟩
  have v1 : ∀ v, v ≠ z → d3.1 v = e1.1 v := fun v hv => by rw [hd3, dI_ne hv, dI_ne hv]
  have v2 : ∀ f, f ≠ 0 → f ≠ 7 → d3.1 z f = e1.1 z f := fun f h1 h2 => by rw [hd3, dI_nk (by omega), dI_nk (by omega)]
  have v0 : d3.1 z 0 = 0 := by rw [hd3, dI_nk (by omega), dI_at]
  have v7 : d3.1 z 7 = nI k := by rw [hd3, dI_at]
  have vF : d3.2 = e1.2 := by rw [hd3]
  have hT3 : d3.1 0 25 = nI k := by rw [v1 0 (by omega)]; exact q3.1
  have kC3 : KrC S0 d0 d3 := q2.1.by (fun v h1 h2 => v1 v (by omega)) (fun f hf => by rw [v1 0 (by omega)])
  have hR3 : RE S d3 e2 w q op cl := h0.go q1.1 kC3 q2.2
  have hC3 := hR3.C
  have hzK : isK S 8 (some z) = some z := by rw [hz]; exact cl_K hC.F ht5
  have hgap : nI k - d3.1 z 6 = nI k - e2.1 20 t := by rw [v2 6 (by omega) (by omega), hz, l6', l6m]
  have hopn := hR3.2.2.2.2 t ht
  obtain ⟨ho1, ho2, -, -, ho5, ho6⟩ := hopn
  have hfol : Mo_followers 0 (nI t) (nI n) MoS e2 = some (nI (nxC w t (q.nd t) n)) := hR.fol ht hn
  have hcle : nxC w t (q.nd t) n ≤ 6 := Nat.le_trans (gc_le _ _) htf.2.1
  have hkd : ∃ K, (K = 0 ∨ K = 1 ∨ K = 3 ∨ K = 4) ∧ Ws_kicks 0 (nI t) (some z) (if nxC w t (q.nd t) n = 0 then 0 else 1) S (dI e1 z 0 0) = Ws_kicks_b62 0 (nI t) (some z) (if nxC w t (q.nd t) n = 0 then 0 else 1) (nI K) S d3 ∧ Mo_kickNow 0 (nI t) (nI k) MoS e2 = Mo_kickNow_b62 0 (nI t) (nI k) MoS (nI k - e2.1 20 t) (nI K) e2 := by
    unfold Ws_kicks Mo_kickNow
    rw [hC.K, Option.bind_some, hzK, Option.bind_some, show (dI e1 z 0 0).1 0 25 = nI k from (dI_nk (by omega)).trans q3.1, ← hd3, Option.bind_some, Mo_K, Option.bind_some, MoS_R0_34, ma20 ht5, Option.bind_some, Option.bind_some, MoS_R0_31, ma17 ht5, Option.bind_some, hn2, hfol, Option.bind_some]
    by_cases c : nxC w t (q.nd t) n = 0
    rotate_left
    · rw [if_neg c, if_neg (show ¬ (1 : Int32) = 0 by decide), if_neg (nI_nle (by omega) (by omega))]
      exact ⟨3, by omega, rfl, rfl⟩
    rw [if_pos c, if_pos rfl, c, if_pos (show nI 0 ≤ 0 by decide)]
    obtain ⟨x, x1, x2, x3⟩ := wrong_eq hR3 ht hj2
    rw [v2 2 (by omega) (by omega), hz, hj, ← hz, x1, x2, Option.bind_some, Option.bind_some]
    rcases x3 with rfl | rfl
    rotate_left
    · rw [if_neg (by decide), if_neg (by decide)]
      exact ⟨4, by omega, rfl, rfl⟩
    rw [if_pos rfl, if_pos rfl, MoS_R0_35, ma21 ht5, Option.bind_some, v2 1 (by omega) (by omega), hz, ← hz, (hR3.opn ht).1, Option.bind_some, cr21 hC.F, ca25 hC.F ht5, Option.bind_some, v1 25 (by omega), hT3, hgap]
    have ho1' : e1.1 25 t = nI (op t) := by rw [← v1 25 (by omega)]; exact ho1
    rw [ho1']
    unfold Ws_kicks_b61 Mo_kickNow_b61
    rcases l1' with ⟨y1, y2⟩ | ⟨y1, y2⟩
    · rw [hz, y1, y2, if_neg (fun y => y rfl), if_neg (show ¬ (1 : Int32) = 0 by decide)]
      by_cases c3 : nI (op t) ≤ nI k - e2.1 20 t
      · rw [if_pos c3, if_pos c3]
        exact ⟨0, by omega, rfl, rfl⟩
      · rw [if_neg c3, if_neg c3]
        exact ⟨1, by omega, rfl, rfl⟩
    · rw [hz, y1, y2, if_pos (show ¬ (1 : Int32) = 0 by decide), if_pos rfl]
      exact ⟨0, by omega, rfl, rfl⟩
  obtain ⟨K, hK, hkC, hkM⟩ := hkd
  rw [← hz, hkC, hkM]
  by_cases hK0 : K = 0
  rotate_left
  · -- a fault
    have hKn : ¬ (nI K : Int32) = 0 := nI_ne0 (by omega) (by omega)
    have hKl : ¬ (nI K : Int32) ≤ 0 := nI_nle (by omega) (by omega)
    have hrt : RT S0 d0 m0 w q W F0 t k kh kj kg r b S d3 (dI e2 15 t (-1)) := by
      refine RT.lives (u' := t) ⟨q1, q2, q3, q4, q5, q6, q7, q8, q9, q10, q11⟩ kC3 (q2.2.dI (by omega)) (fun s hs => ?_) (q6.go (v1 27 (by omega)) (dI_ne (by omega))) (fun f h1 h2 => by rw [v1 0 (by omega)]) (fun v h1 h2 h3 => v1 v (by omega)) (fun f h1 h2 h3 => by rw [dI_ne (by omega)]) (fun v h1 h2 h3 h4 h5 h6 => dI_ne (by omega))
      by_cases c9 : s = t
      · subst c9
        have g1 : Lf q 99 k (kj s) kg r b (dI e1 z 0 0) (dI e2 15 s (-1)) s := (q4 s hs).goes rfl rfl rfl (Or.inl ⟨by rw [hz, dI_at], dI_at⟩) (fun f h1 h2 h3 h4 h5 => dI_nk (by omega)) (dI_nk (by omega)) (fun p h1 h2 h3 h4 => dI_nk (by omega))
        exact g1.kick (by rw [hd3]) (by rw [hd3]) rfl (by rw [hd3, hz, dI_at]) (fun f hf => by rw [hd3]; exact dI_nk (by omega))
      · exact ((q4 s hs).same (v1 (30 + s) (by omega)) (by rw [vF]) (by rw [vF]) (fun p h1 h2 => dI_nk (by omega)) rfl rfl rfl).ex (by omega)
    have hf := faults_eq (kd := K) hrt h0 hk hb hr ht (by omega) (Or.inr rfl)
    have e1' : Ws_kicks_b62 0 (nI t) (some z) (if nxC w t (q.nd t) n = 0 then 0 else 1) (nI K) S d3 = Ws_faults 0 (nI K) (nI t) S d3 := by
      unfold Ws_kicks_b62
      rw [if_neg hKn, hC.K, Option.bind_some]
      cases hh : Ws_faults 0 (nI K) (nI t) S d3 with
      | none => rfl
      | some a =>
        obtain ⟨a1, a2, a3⟩ := a
        cases a1 <;> rfl
    have e2' : Mo_kickNow_b62 0 (nI t) (nI k) MoS (nI k - e2.1 20 t) (nI K) e2 = Mo_faultOf 0 (nI t) (nI K) (nI k) MoS (dI e2 15 t (-1)) := by
      unfold Mo_kickNow_b62
      rw [Mo_K, Option.bind_some, MoS_R0_29, ma15 ht5, Option.bind_some, Option.bind_some, if_neg hKl]
      cases hh : Mo_faultOf 0 (nI t) (nI K) (nI k) MoS (dI e2 15 t (-1)) with
      | none => rfl
      | some a =>
        obtain ⟨a1, a2⟩ := a
        rfl
    rw [e1', e2']
    obtain ⟨f1, f2, x1, x2, x3, x4⟩ := hf.up (kg' := kg + 1) (by omega)
    exact ⟨r + 1, Nat.le_refl _, f1, f2, x1, x2.trans (v1 20 (by omega)), x3.trans (dI_ne (by omega)), x4.imp (fun ⟨y1, y2, y3⟩ => ⟨y1, y2, y3.trans (by rw [dI_ne (by omega)])⟩) id⟩
  · subst hK0
    obtain ⟨d4, s1, s2, s3, s4, s5, s6⟩ := sees_eq (p1 := nI t) (G := nI k - e2.1 20 t) (d := d3) hC.K
    have u1 : ∀ v, v ≠ z → v ≠ 0 → d4.1 v = e1.1 v := fun v h1 h2 => (s2 v h2).trans (v1 v h1)
    have hz0 : z ≠ 0 := by omega
    have hz25 : z ≠ 25 ∧ z ≠ 26 := by omega
    have uz : d4.1 z = d3.1 z := s2 z hz0
    have uF : d4.2 = e1.2 := s4.trans vF
    have hT4 : d4.1 0 25 = nI k := (s3 25 (by omega) (by omega)).trans hT3
    have hx3 : nI k - e2.1 20 t = nI k - (nI xl - 1) := by rw [l6m]
    have hgf : fFi (FP.fdiv (FP.i2f (nI (cl t) - (nI k - e2.1 20 t))) (FP.i2f (nI (cl t) - nI (op t)))) := by
      rw [hx3]
      exact mg_of hk l6 ho5 ho6
    have hg4 : nI k - d4.1 z 6 = nI k - e2.1 20 t := by rw [uz]; exact hgap
    obtain ⟨f1, c1, c2, ⟨c12, c13, c14, c1', c6, c8, cf⟩, c17, cA, cB⟩ := good_C (S := S) (d := d4) (p1 := nI k) (p2 := nI (op t)) (p3 := nI (cl t)) hzK (by rw [uF, hz]; exact hhO) (by rw [uF, hz]; exact hsN) (by rw [hg4]; exact hgf)
    obtain ⟨f2, m1, m2, m3, ⟨m15, m19, m20, m21, m22, m27, m28⟩, m32, m24, mF, mA, mB⟩ := good_M (p2 := nI k) (x3 := nI k - e2.1 20 t) (gk := gk) hR3 ht gk3' (by omega) (hhE' ▸ hhO) (hsE' ▸ hsN) hgf
    rw [hg4] at cB
    have e1' : Ws_kicks_b62 0 (nI t) (some z) (if nxC w t (q.nd t) n = 0 then 0 else 1) (nI 0) S d3 = some (.inl (), S, f1) := by
      unfold Ws_kicks_b62
      rw [if_pos (show (nI 0 : Int32) = 0 by decide), hC.K, Option.bind_some, hzK, Option.bind_some, hT3, hgap, s1, bind2_some, cr21 hC.F, ca25 hC.F ht5, Option.bind_some, cr22 hC.F, ca26 hC.F ht5, Option.bind_some, hT4, s2 25 (by omega), s2 26 (by omega), ho1, ho2, c1, bind2_some]
    have w1 : ∀ v, v ≠ z → v ≠ 0 → f1.1 v = e1.1 v := fun v h1 h2 => (c2 v h1).1.trans (u1 v h1 h2)
    have w0 : ∀ f, f ≠ 30 → f ≠ 31 → f1.1 0 f = e1.1 0 f := fun f h1 h2 => by
      rw [(c2 0 (by omega)).1, s3 f h1 h2, v1 0 (by omega)]
    rw [e1', show nI 0 = (0 : Int32) from rfl, m1]
    refine ⟨r, by omega, f1, f2, rfl, w1 20 (by omega) (by omega), m2 36 (by omega) (by omega) (by omega) (by omega) (by omega) (by omega) (by omega) (by omega) (by omega), Or.inl ⟨rfl, ?_, by rw [m2 0 (by omega) (by omega) (by omega) (by omega) (by omega) (by omega) (by omega) (by omega) (by omega)]⟩⟩
    have mv : ∀ v, v < 14 ∨ 32 < v → f2.1 v = e2.1 v := fun v hv => m2 v (by omega) (by omega) (by omega) (by omega) (by omega) (by omega) (by omega) (by omega) (by omega)
    refine ⟨q1, ⟨q2.1.by (fun v h1 h2 => w1 v (by omega) (by omega)) (fun f hf => w0 f (by omega) (by omega)), q2.2.by (fun v h1 h2 => mv v (by omega)) (fun f hf => by rw [mv 0 (by omega)])⟩, ⟨(w0 25 (by omega) (by omega)).trans q3.1, q3.2⟩, fun s hs => ?_, q5.go (w1 18 (by omega) (by omega)) (mv 34 (by omega)), q6.go (w1 27 (by omega) (by omega)) (mv 33 (by omega)), q7.go (w0 24 (by omega) (by omega)) (w1 21 (by omega) (by omega)) (w1 22 (by omega) (by omega)) (w1 23 (by omega) (by omega)) (w1 24 (by omega) (by omega)) (by rw [mv 0 (by omega)]) (mv 38 (by omega)) (mv 39 (by omega)) (mv 40 (by omega)) (mv 41 (by omega)), q8.go (w1 19 (by omega) (by omega)) (mv 35 (by omega)), q9.go (w0 26 (by omega) (by omega)) (w0 27 (by omega) (by omega)) (by rw [mv 0 (by omega)]) (by rw [mv 0 (by omega)]), q10.go (w1 17 (by omega) (by omega)) (mv 37 (by omega)), fun s hs hg => ?_⟩
    · by_cases c9 : s = t
      · subst c9
        have g1 : Lf q 99 k (kj s) kg r b (dI e1 z 0 0) (dI e2 15 s (-1)) s := (q4 s hs).goes rfl rfl rfl (Or.inl ⟨by rw [hz, dI_at], dI_at⟩) (fun f h1 h2 h3 h4 h5 => dI_nk (by omega)) (dI_nk (by omega)) (fun p h1 h2 h3 h4 => dI_nk (by omega))
        have ez : ∀ f, f ≠ 7 → d4.1 z f = (dI e1 z 0 0).1 z f := fun f hf => by rw [uz, hd3, dI_nk (by omega)]
        have g0 : ∀ f, f ≠ 0 → (dI e1 z 0 0).1 z f = e1.1 z f := fun f hf => dI_nk (by omega)
        have m15' : ∀ p, p ≠ 15 → (dI e2 15 s (-1)).1 p s = e2.1 p s := fun p hp => dI_nk (by omega)
        refine g1.good (by omega) ?_ ?_ ?_ ?_ ?_ ?_ ?_ ?_ ?_ ?_ ?_ ?_ ?_ ?_ ?_ ?_ ?_
        · rw [← hz]
          rcases l1' with ⟨y1, y2⟩ | ⟨y1, y2⟩
          · right
            obtain ⟨t1, t2, t3⟩ := cB (by rw [ez 1 (by omega), g0 1 (by omega), hz]; exact y1)
            obtain ⟨t4, t5, t6⟩ := mB (by rw [y2]; decide)
            rw [t2, t3, t5, t6, t1, t4, uF, ez 15 (by omega), g0 15 (by omega), m15' 31 (by omega), hz, hsE', xm2, xm3']
            refine ⟨?_, rfl, dq_add (hsE' ▸ hsN) (f2d_fin hgf), rfl, rfl⟩
            unfold mgN
            by_cases c8 : xm = 0
            · rw [c8, if_pos (by decide), if_pos (by decide)]
            · rw [if_neg (nI_ne0 (by omega) (by omega)), if_neg (nI_ne0 (by omega) (by omega)), xm4' c8]
          · left
            obtain ⟨t1, t2, t3⟩ := cA (by rw [ez 1 (by omega), g0 1 (by omega), hz, y1]; decide)
            obtain ⟨t4, t5, t6⟩ := mA y2
            exact ⟨by rw [t2, uF], by rw [t3, uF], by rw [t1, ez 15 (by omega)], by rw [t5], by rw [t6], by rw [t4, m15' 31 (by omega)]⟩
        · rw [← hz, c17, uF]
        · rw [← hz, c17, m24, uF, hz, hhE']
        · rw [← hz]; exact c1'
        · rw [← hz]; exact c6
        · rw [← hz, cf 7 (by omega) (by omega) (by omega) (by omega) (by omega) (by omega) (by omega), uz]; exact v7
        · rw [← hz, c8, m19, ez 8 (by omega), g0 8 (by omega), hz, l8']
        · rw [← hz, c12, ez 12 (by omega)]
        · rw [← hz]; exact c13
        · rw [← hz, c14, ez 14 (by omega)]
        · intro f n1 n2 n3 n4 n5 n6 n7 n8
          rw [← hz, cf f n1 n2 n4 n5 n6 n7 n8, ez f n3]
        · exact m20
        · exact m21
        · rw [m22, m15' 22 (by omega)]
        · rw [m27, m15' 27 (by omega)]
        · exact m28
        · intro p n1 n2 n3 n4 n5 n6 n7 n8
          by_cases c15 : p = 15
          · subst c15
            rw [m15]
            exact dI_at.symm
          · rw [m15' p c15, m2 p c15 n1 n2 n3 n4 n5 n6 n7 (by omega)]
      · have := c2 (30 + s) (by omega)
        refine ((q4 s hs).same (w1 (30 + s) (by omega) (by omega)) (by rw [this.2.1, uF]) (by rw [this.2.2, uF]) (fun p h1 h2 => m3 p s c9 (by omega)) (mF 24 s c9).1 (mF 29 s c9).1 (mF 30 s c9).2).mono (Nat.le_refl _) (by omega) (Nat.le_refl _)
    · rw [w0 29 (by omega) (by omega)] at hg
      obtain ⟨g, y1, y2, y3, y4, y5⟩ := q11 s hs hg
      have e29 : d3.1 0 29 = nI s := by rw [v1 0 (by omega)]; exact hg
      have e30 : d3.1 0 30 = e1.1 0 30 := by rw [v1 0 (by omega)]
      have e31 : d3.1 0 31 = e1.1 0 31 := by rw [v1 0 (by omega)]
      have hF0 : f1.1 0 = d4.1 0 := (c2 0 (by omega)).1
      by_cases c9 : s = t
      · subst c9
        obtain ⟨t1, t2⟩ := s5 e29.symm
        have hgg : g = gk := (nI_eq (by omega) (by omega)).mp (y2.symm.trans gk3')
        subst hgg
        rw [e30] at t1 t2
        rw [e31] at t2
        have hWg : e1.1 0 30 = 0 ↔ W = nI g := by
          rw [y3]
          constructor
          · intro hh; grind
          · intro hh; grind
        refine ⟨g + 1, by omega, by rw [m27, gk3', nI_1], by rw [hF0, t1, y3, ← nI_1]; grind, fun j hj hW => ?_, fun hW => ?_⟩
        · rw [hF0, t2, m32]
          by_cases c8 : j = g
          · subst c8
            rw [if_pos (hWg.mpr hW), if_pos rfl]
          · rw [if_neg (fun y => c8 ((nI_eq (by omega) (by omega)).mp (hW.symm.trans (hWg.mp y)))), if_neg (by omega)]
            exact y4 j (by omega) hW
        · rw [hF0, t2, if_neg (fun y => hW g (by omega) (hWg.mp y))]
          exact y5 (fun j hj => hW j (by omega))
      · have hne : ¬ nI t = d3.1 0 29 := fun y => c9 ((nI_eq (by omega) (by omega)).mp (y.trans e29)).symm
        have hd4 := s6 hne
        refine ⟨g, y1, by rw [m3 27 s c9 (by omega)]; exact y2, by rw [hF0, hd4, e30]; exact y3, fun j hj hW => ?_, fun hW => ?_⟩
        · rw [hF0, hd4, e31, m32, if_neg (by omega)]
          exact y4 j hj hW
        · rw [hF0, hd4, e31]
          exact y5 hW
end
