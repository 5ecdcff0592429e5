/-! THE PLAIN LAW: other windows -/
set_option maxRecDepth 100000
/-- the model with another window of a task -/
def wth (m : Dt) (t a b : Nat) : Dt := dI (dI (dI (tld m (-1)) 0 24 (nI t)) 0 25 (nI a)) 0 26 (nI b)
section
variable {n r t a b : Nat} {S S1 S' T : Sp} {d d1 d2 m e1 e2 f1 f2 : Dt} {w : Nat → Int32} {q : TdP} {op cl : Nat → Nat} {p p1 p2 : Int32}
theorem wth_v : (∀ v, v ≠ 0 → (wth m t a b).1 v = m.1 v) ∧ (wth m t a b).1 0 23 = -1 ∧ (wth m t a b).1 0 24 = nI t ∧ (wth m t a b).1 0 25 = nI a ∧ (wth m t a b).1 0 26 = nI b ∧ (wth m t a b).1 0 27 = 0 := by
  unfold wth
  refine ⟨fun v hv => ?_, ?_, ?_, ?_, dI_at, ?_⟩
  · rw [dI_ne hv, dI_ne hv, dI_ne hv, tld_v.1 v hv]
  · rw [dI_nk (by omega), dI_nk (by omega), dI_nk (by omega)]; exact tld_v.2.1
  · rw [dI_nk (by omega), dI_nk (by omega), dI_at]
  · rw [dI_nk (by omega), dI_at]
  · rw [dI_nk (by omega), dI_nk (by omega), dI_nk (by omega)]; exact tld_v.2.2.2.1
theorem wth_kt : Kt S d m S d (wth m t a b) 0 0 := ((tld_kt.tr (Kt.dM (by omega))).tr (Kt.dM (by omega))).tr (Kt.dM (by omega))
theorem rwi_eq (h : Mo_runs 0 (mw m 0) MoS (wth m t a b) = some ((), f2)) : Mo_recordsWith 0 (nI t) (nI a) (nI b) MoS m = some (f2.1 0 56, f2) := by
  unfold Mo_recordsWith
  have e0 : aix MoS 50 (MoS.2.1 0 1) 0 = some (1, 0) := Mw 0 (by omega)
  have e : (wth m t a b).1 1 0 = mw m 0 := congrFun (wth_v.1 1 (by omega)) 0
  rw [Mo_K, Option.bind_some, asTold_eq, bind2_some, Option.bind_some, Option.bind_some, Option.bind_some, e0, Option.bind_some]
  show (bind2 (Mo_runs 0 ((wth m t a b).1 1 0) MoS (wth m t a b)) fun _ d7 => some (d7.1 0 56, d7)) = _
  rw [e, h, bind2_some]
/-- what a run with another window stands on -/
theorem RelN.reW (hN : RelN S d m q) (hF : WsFix S) (ht : t < q.nt) (hab : a < b) (hb : b ≤ 120) (he : Ext S T) (kp : Kp S d e1) (a25 : e1.1 25 t = nI a ∧ ∀ s, s ≠ t → e1.1 25 s = d.1 25 s) (a26 : e1.1 26 t = nI b ∧ ∀ s, s ≠ t → e1.1 26 s = d.1 26 s) (h28 : e1.1 0 28 = -1) : RE T e1 (wth m t a b) (mw m) q (fun s => if s = t then a else opN (mw m) s) (fun s => if s = t then b else clN (mw m) s) := by
  have hC := hN.ce hF
  have hC' : CE T e1 (mw m) q := hC.ext he kp
  have h5 := hC.nt5
  obtain ⟨-, hO⟩ := RelN_iff.mp hN
  obtain ⟨v1, v2, v3, v4, v5, v6⟩ := wth_v (m := m) (t := t) (a := a) (b := b)
  have em : mw (wth m t a b) = mw m := v1 1 (by omega)
  refine ⟨hC', fun i _ => by rw [em], ?_, h28.trans v2.symm, fun s hs => ?_⟩
  · rw [em, v6, hC.wf.many, Int32.add_zero]
  · obtain ⟨o1, o2⟩ := hO s hs
    obtain ⟨w1, w2, w3, w4, w5⟩ := hC.win hs
    rw [em, v3, v4, v5]
    by_cases c : s = t
    · subst c
      simp only [↓reduceIte, not_true_eq_false]
      exact ⟨a25.1, a26.1, trivial, trivial, hab, hb⟩
    · have c' : ¬ nI s = nI t := fun z => c ((nI_eq (by omega) (by omega)).mp z)
      simp only [c, c', ↓reduceIte, not_false_eq_true]
      exact ⟨(a25.2 s c).trans (o1.trans w1), (a26.2 s c).trans (o2.trans w2), w1, w2, w3, w4⟩
/-- the model's record count is the same from equal starts -/
theorem mo_det {m' : Dt} (h0 : RE S (dI d 0 28 p2) m w q op cl) (hx : RE S (dI d 0 28 p2) m' w q op cl) (hb : ¬ w 7 ≤ 0) {p : Nat} (hp : p ≤ 200) (a1 : Mo_runs 0 (nI p) MoS m = some ((), f1)) (a2 : Mo_runs 0 (nI p) MoS m' = some ((), f2)) : f1.1 0 56 = f2.1 0 56 := by
  obtain ⟨S1, g1, g2, H, r, b, s1, s2, s3, -⟩ := runs_eq h0 hb hp
  obtain ⟨S2, g3, g4, H2, r2, b2, t1, t2, t3, -⟩ := runs_eq hx hb hp
  have e1 : g1 = g3 := by
    have := s1.symm.trans t1
    simp only [Option.some.injEq, Prod.mk.injEq] at this
    exact this.2.2
  have e2 : f1 = g2 := by
    have := a1.symm.trans s2
    simp only [Option.some.injEq, Prod.mk.injEq] at this
    exact this.2
  have e3 : f2 = g4 := by
    have := a2.symm.trans t2
    simp only [Option.some.injEq, Prod.mk.injEq] at this
    exact this.2
  subst e1 e2 e3
  rw [(RT.rcr s3).2.1, (RT.rcr t3).2.1, ← (RT.rcr s3).1, ← (RT.rcr t3).1]
/-- a run with another window -/
theorem allWith_eq (hN : RelN S d m q) (hF : WsFix S) (ht : t < q.nt) (hab : a < b) (hb : b ≤ 120) : ∃ T f1 f2 r, Ws_allWith 0 (nI t) (nI a) (nI b) S d = some (nI r, T, f1) ∧ Mo_runs 0 (mw m 0) MoS (wth m t a b) = some ((), f2) ∧ f2.1 0 56 = nI r ∧ r ≤ 2200 ∧ Kt S d m T f1 f2 5 28 := by
  have hC := hN.ce hF
  have h5 := hC.nt5
  have hl := Ws_len hF
  have hbd := hC.brd (by omega)
  generalize hL : S.1.length = L at hl
  obtain ⟨S3, hS3⟩ : ∃ S3, S3 = mmNew S (50, 5) 5 := ⟨_, rfl⟩
  obtain ⟨d4, hd4⟩ : ∃ d4, d4 = mmCln S d 25 := ⟨_, rfl⟩
  obtain ⟨S8, hS8⟩ : ∃ S8, S8 = mmNew S3 (50, 5) 5 := ⟨_, rfl⟩
  obtain ⟨d9, hd9⟩ : ∃ d9, d9 = mmCln S3 d4 26 := ⟨_, rfl⟩
  obtain ⟨e, he⟩ : ∃ e, e = dI (dI d9 25 t (nI a)) 26 t (nI b) := ⟨_, rfl⟩
  have x1 : S3.1 = S.1 ++ [(50, 5)] := by rw [hS3]; rfl
  have x2 : S8.1 = S3.1 ++ [(50, 5)] := by rw [hS8]; rfl
  have l3 : S3.1.length = L + 1 := by rw [x1, List.length_append, hL]; rfl
  have l8 : S8.1.length = L + 2 := by rw [x2, List.length_append, l3]; rfl
  have E3 : Ext S S3 := by rw [hS3]; exact Ext.new
  have E8 : Ext S3 S8 := by rw [hS8]; exact Ext.new
  have E := E3.tr E8
  have F3 := hF.ext E3
  have F8 := hF.ext E
  have k3 : S3.2.2.1 = S.2.2.1 + 1 ∧ S3.2.2.2 = S.2.2.2 + 5 := by rw [hS3]; exact ⟨rfl, rfl⟩
  have k8 : S8.2.2.1 = S3.2.2.1 + 1 ∧ S8.2.2.2 = S3.2.2.2 + 5 := by rw [hS8]; exact ⟨rfl, rfl⟩
  have at3 : S8.1[L]? = some (50, 5) := by
    rw [E8.1 L (by omega), x1, List.getElem?_append_right (by omega), hL, Nat.sub_self]; rfl
  have at3' : S3.1[L]? = some (50, 5) := by
    rw [x1, List.getElem?_append_right (by omega), hL, Nat.sub_self]; rfl
  have at8 : S8.1[L + 1]? = some (50, 5) := by
    rw [x2, List.getElem?_append_right (by omega), l3, Nat.sub_self]; rfl
  have r4 : ∀ v, v ≠ L → d4.1 v = d.1 v := fun v hv => by
    rw [hd4]; funext j; show (if v = S.1.length then _ else _) = _; rw [hL, if_neg hv]
  have r4' : d4.1 L = d.1 25 := by
    rw [hd4]; funext j; show (if L = S.1.length then _ else _) = _; rw [hL, if_pos rfl]
  have r9 : ∀ v, v ≠ L + 1 → d9.1 v = d4.1 v := fun v hv => by
    rw [hd9]; funext j; show (if v = S3.1.length then _ else _) = _; rw [l3, if_neg hv]
  have r9' : d9.1 (L + 1) = d.1 26 := by
    rw [hd9]; funext j; show (if L + 1 = S3.1.length then _ else _) = _; rw [l3, if_pos rfl, r4 26 (by omega)]
  have re : ∀ v, v ≠ 25 → v ≠ 26 → e.1 v = d9.1 v := fun v h1 h2 => by rw [he, dI_ne h2, dI_ne h1]
  have e25 : e.1 25 t = nI a ∧ ∀ s, s ≠ t → e.1 25 s = d.1 25 s := by
    refine ⟨by rw [he, dI_ne (by omega), dI_at], fun s hs => ?_⟩
    rw [he, dI_ne (by omega), dI_nk (by omega), r9 25 (by omega), r4 25 (by omega)]
  have e26 : e.1 26 t = nI b ∧ ∀ s, s ≠ t → e.1 26 s = d.1 26 s := by
    refine ⟨by rw [he, dI_at], fun s hs => ?_⟩
    rw [he, dI_nk (by omega), dI_ne (by omega), r9 26 (by omega), r4 26 (by omega)]
  have ed : ∀ v, v < L → v ≠ 25 → v ≠ 26 → e.1 v = d.1 v := fun v h0 h1 h2 => by rw [re v h1 h2, r9 v (by omega), r4 v (by omega)]
  have eL : e.1 L = d.1 25 := by rw [re L (by omega) (by omega), r9 L (by omega), r4']
  have eL1 : e.1 (L + 1) = d.1 26 := by rw [re (L + 1) (by omega) (by omega), r9']
  have kp0 : Kp S d (dI e 0 28 (-1)) := fun v h1 h2 => by
    rw [dI_ne (by omega)]
    exact ed v (by omega) (by omega) (by omega)
  have h0 : RE S8 (dI e 0 28 (-1)) (wth m t a b) (mw m) q (fun s => if s = t then a else opN (mw m) s) (fun s => if s = t then b else clN (mw m) s) :=
    hN.reW hF ht hab hb E kp0 ⟨by rw [dI_ne (by omega)]; exact e25.1, fun s hs => by rw [dI_ne (by omega)]; exact e25.2 s hs⟩ ⟨by rw [dI_ne (by omega)]; exact e26.1, fun s hs => by rw [dI_ne (by omega)]; exact e26.2 s hs⟩ dI_at
  obtain ⟨h9, y1, y2, y3⟩ := hC.hF
  obtain ⟨S', g1, g2, H, r, b9, s1, s2, s3, s4⟩ := runs_eq h0 hbd y2
  have hrc := RT.rcr s3
  have hR' := RT.re s3 h0
  have hF' := hR'.C.F
  have hC8 : CE S8 e (mw m) q := hC.ext E (fun v h1 h2 => ed v (by omega) (by omega) (by omega))
  have hT3 : e.1 q.a 3 = nI h9 := by
    obtain ⟨h9', z1, z2, z3⟩ := hC8.hF
    rw [z3]
    have := (nI_eq (by omega) (by omega)).mp (z1.symm.trans y1)
    rw [this]
  have hall : Ws_all 0 (-1) S8 e = some (nI r, S', g1) := by
    unfold Ws_all
    rw [hC8.K, Option.bind_some, hC8.T, Option.bind_some, hT3, s1, bind3_some, hR'.C.K, Option.bind_some, hrc.1]
  obtain ⟨⟨q1, q2, q3, q4⟩, ⟨c1, cM⟩, -, -, -, -, -, -, ⟨hb9, -⟩, -, -⟩ := s3
  have at3S : S'.1[L]? = some (50, 5) := (q1.1 L (by omega)).trans at3
  have at8S : S'.1[L + 1]? = some (50, 5) := (q1.1 (L + 1) (by omega)).trans at8
  have g25 : g1.1 25 = e.1 25 := (c1.1 25 (by omega) (by omega)).trans (dI_ne (by omega))
  have g26 : g1.1 26 = e.1 26 := (c1.1 26 (by omega) (by omega)).trans (dI_ne (by omega))
  have gL : g1.1 L = d.1 25 := (c1.1 L (by omega) (by omega)).trans ((dI_ne (by omega)).trans eL)
  have gL1 : g1.1 (L + 1) = d.1 26 := (c1.1 (L + 1) (by omega) (by omega)).trans ((dI_ne (by omega)).trans eL1)
  have cp : ∀ (f g : Nat → Int32), (∀ s, 5 ≤ s → g s = f s) → va_cpy f g (Int32.toNatClampNeg 0) (Int32.toNatClampNeg 0) (Int32.toNatClampNeg 5) = f := by
    intro f g hfg
    funext j
    unfold va_cpy
    have z0 : Int32.toNatClampNeg 0 = 0 := by decide
    have z5 : Int32.toNatClampNeg 5 = 5 := by decide
    rw [z0, z5]
    split
    · congr 1
      omega
    · exact hfg j (by omega)
  obtain ⟨d21, hd21⟩ : ∃ d21 : Dt, d21 = (c2 g1.1 L 25 (Int32.toNatClampNeg 0) (Int32.toNatClampNeg 0) (Int32.toNatClampNeg 5), g1.2) := ⟨_, rfl⟩
  obtain ⟨d23, hd23⟩ : ∃ d23 : Dt, d23 = (c2 d21.1 (L + 1) 26 (Int32.toNatClampNeg 0) (Int32.toNatClampNeg 0) (Int32.toNatClampNeg 5), d21.2) := ⟨_, rfl⟩
  have n21 : ∀ v, v ≠ 25 → d21.1 v = g1.1 v := fun v hv => by rw [hd21]; exact c2_row hv
  have n25 : d21.1 25 = d.1 25 := by
    rw [hd21]
    show c2 g1.1 L 25 _ _ _ 25 = _
    rw [c2_at, gL]
    exact cp _ _ (fun s hs => by rw [g25]; exact e25.2 s (by omega))
  have n23 : ∀ v, v ≠ 26 → d23.1 v = d21.1 v := fun v hv => by rw [hd23]; exact c2_row hv
  have n26 : d23.1 26 = d.1 26 := by
    rw [hd23]
    show c2 d21.1 (L + 1) 26 _ _ _ 26 = _
    rw [c2_at, n21 (L + 1) (by omega), gL1]
    exact cp _ _ (fun s hs => by rw [n21 26 (by omega), g26]; exact e26.2 s (by omega))
  refine ⟨S', d23, g2, r, ?_, by rw [y1]; exact s2, hrc.2.1, s4, E.tr q1, by omega, fun v h1 h2 => ?_, ⟨?_, fun k h1 h2 => ?_⟩, ?_, (n23 25 (by omega)).trans n25, n26⟩
  · unfold Ws_allWith
    have a25 : arI S (some 25) = some (25, 5) := by
      unfold arI
      rw [Option.bind_some, Ws_at0 hF (a := 25) (sh := (50, 5)) (by omega) rfl]
      rfl
    have a26 : arI S3 (some 26) = some (26, 5) := by
      unfold arI
      rw [Option.bind_some, Ws_at0 F3 (a := 26) (sh := (50, 5)) (by omega) rfl]
      rfl
    rw [hC.K, Option.bind_some, cr21 hF, a25, Option.bind_some, bind2_some, ← hS3, ← hd4, hL, aln_ok at3', Option.bind_some, Ws_K F3, Option.bind_some, cr22 F3, a26, Option.bind_some, bind2_some, ← hS8, ← hd9, l3, aln_ok at8, Option.bind_some, Ws_K F8, Option.bind_some, cr21 F8, ca25 F8 (show t < 5 by omega), Option.bind_some, Option.bind_some, cr22 F8, ca26 F8 (show t < 5 by omega), Option.bind_some, Option.bind_some]
    show bind3 (Ws_all 0 (-1) S8 (dI (dI d9 25 t (nI a)) 26 t (nI b))) _ = _
    rw [← he, hall, bind3_some, Ws_K hF', Option.bind_some, cr21 hF', cr22 hF', show (5 : Int32) = nI 5 from rfl, gcp_ok at3S (Ws_at0 hF' (a := 25) (sh := (50, 5)) (by omega) rfl) (by omega) (by omega) (by omega), Option.bind_some, Option.bind_some, gcp_ok at8S (Ws_at0 hF' (a := 26) (sh := (50, 5)) (by omega) rfl) (by omega) (by omega) (by omega), Option.bind_some, Option.bind_some]
    rw [hd23, hd21]
    rfl
  · rw [n23 v (by omega), n21 v (by omega), c1.1 v (by omega) (by omega), dI_ne (by omega)]
    exact ed v (by omega) (by omega) (by omega)
  · rw [n23 8 (by omega), n21 8 (by omega), c1.1 8 (by omega) (by omega), dI_ne (by omega)]
    exact ed 8 (by omega) (by omega) (by omega)
  · rw [n23 0 (by omega), n21 0 (by omega), c1.2 k (by omega), dI_nk (by omega)]
    exact congrFun (ed 0 (by omega) (by omega) (by omega)) k
  · exact wth_kt (S := S) (d := d).2.2.2.2.1.tr cM.km
theorem PL_44_Rel : PL_44 Rel := by
  intro n S1 d1 S2 d2 p1 p2 p3 hn hR
  have hU := hR.up
  obtain ⟨rfl, q, hF, hN, hC⟩ := rel_at hR
  have h5 := hC.nt5
  unfold Ws_with Mo_with
  rw [hC.K, Option.bind_some, hC.isTask, Option.bind_some, Mo_K, Option.bind_some, Mo_isTask_eq, Option.bind_some, hC.wf.2.1.1, show (99 : Int64) = (99 : Int32).toInt64 from rfl, show (120 : Int64) = (120 : Int32).toInt64 from rfl]
  rcases inI_nI (x := p1) (n := q.nt) (by omega) with ⟨z, -⟩ | ⟨t, t1, rfl, z⟩
  · rw [z, if_pos rfl, if_pos rfl]
    exact ⟨_, _, _, _, rfl, rfl, hU⟩
  rw [z, if_neg (show ¬ (1 : Int32) = 0 by decide), if_neg (show ¬ (1 : Int32) = 0 by decide), Ws_in0, Mo_in0, Option.bind_some, Option.bind_some, Mo_in_eq, Option.bind_some]
  rcases inI_lit (x := p2) (n := 99) (by omega) with ⟨z2, -⟩ | ⟨a, a1, rfl, z2⟩
  · rw [show (99 : Int32) = nI 99 from rfl, z2, if_pos rfl, if_pos rfl]
    exact ⟨_, _, _, _, rfl, rfl, hU⟩
  rw [show (99 : Int32) = nI 99 from rfl, z2, if_neg (show ¬ (1 : Int32) = 0 by decide), if_neg (show ¬ (1 : Int32) = 0 by decide), nI_1]
  by_cases c1 : p3 ≤ nI a
  · have e : inI p3 (nI (a + 1)) 120 = 0 := if_neg (fun y => by
      have h1 := Int32.le_trans y.1 c1
      exact nI_ge (Nat.lt_succ_self a) (by omega) h1)
    rw [if_pos c1, e, if_pos rfl]
    exact ⟨_, _, _, _, rfl, rfl, hU⟩
  by_cases c2 : 120 < p3
  · have e : inI p3 (nI (a + 1)) 120 = 0 := if_neg (fun y => Int32.not_lt.mpr y.2 c2)
    rw [if_neg c1, if_pos c2, e, if_pos rfl]
    exact ⟨_, _, _, _, rfl, rfl, hU⟩
  have hp : ¬ p3 < 0 := fun y => c1 (Int32.le_trans (Int32.le_of_lt y) (nI_pos' (by omega)))
  obtain ⟨b, b1, rfl⟩ := nI_of2 (M := 120) (n := 120) (by decide) hp (Int32.not_lt.mp c2)
  have hab : a < b := by
    by_cases h : a < b
    · exact h
    · exact absurd (nI_le (show b ≤ a by omega) (by omega)) c1
  have e : inI (nI b) (nI (a + 1)) 120 = 1 := if_pos ⟨nI_le hab (by omega), Int32.not_lt.mp c2⟩
  obtain ⟨T, f1, f2, r, s1, s2, s3, s4, s5⟩ := allWith_eq hN hF t1 hab (by omega)
  rw [if_neg c1, if_neg c2, s1, bind3_some, e, if_neg (show ¬ (1 : Int32) = 0 by decide), rwi_eq s2, bind2_some, s3]
  exact ⟨_, _, _, _, rfl, rfl, s5.rel hR (by omega) (by omega)⟩
/-- as told, the count is that of the run as told -/
theorem most_eq {f0 : Dt} (hN : RelN S d m q) (hF : WsFix S) (hx : RelN S d e2 q) (he : mw e2 = mw m) (ht : t < q.nt) (h1 : Mo_runs 0 (mw m 0) MoS (tld m (-1)) = some ((), f0)) (h2 : Mo_runs 0 (mw m 0) MoS (wth e2 t (opN (mw m) t) (clN (mw m) t)) = some ((), f2)) : f2.1 0 56 = f0.1 0 56 := by
  have hC := hN.ce hF
  have hb := hC.brd (by omega)
  obtain ⟨h9, y1, y2, y3⟩ := hC.hF
  obtain ⟨w1, w2, w3, w4, w5⟩ := hC.win ht
  have r1 := hN.re0 hF (p2 := -1)
  have hkp : Kp S d (dI d 0 28 (-1)) := Kp.rf.dI (by omega)
  obtain ⟨-, hO⟩ := RelN_iff.mp hN
  obtain ⟨o1, o2⟩ := hO t ht
  have r2 := hx.reW hF ht w3 w4 Ext.rf hkp ⟨by rw [dI_ne (by omega), o1, w1], fun s _ => by rw [dI_ne (by omega)]⟩ ⟨by rw [dI_ne (by omega), o2, w2], fun s _ => by rw [dI_ne (by omega)]⟩ dI_at
  rw [he] at r2
  have e1 : (fun s => if s = t then opN (mw m) t else opN (mw m) s) = opN (mw m) := by
    funext s
    split
    · rename_i c; rw [c]
    · rfl
  have e3 : (fun s => if s = t then clN (mw m) t else clN (mw m) s) = clN (mw m) := by
    funext s
    split
    · rename_i c; rw [c]
    · rfl
  rw [e1, e3] at r2
  rw [y1] at h1 h2
  exact (mo_det r1 r2 hb y2 h1 h2).symm
end
