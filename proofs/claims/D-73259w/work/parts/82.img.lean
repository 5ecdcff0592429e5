/-! THE PLAIN LAW: image, back -/
set_option maxRecDepth 100000
theorem WF.cong {w w' : Nat → Int32} {nw nt ni na : Nat} {nd : Nat → Nat} (h : WF w nw nt ni na nd) (hw : ∀ i, i < 201 → w' i = w i) : WF w' nw nt ni na nd := by
  have h0 := h
  obtain ⟨-, -, ⟨c1, c2, c3, c4, c5⟩, -, -, -, hI⟩ := h0
  refine h.row (fun i h1 _ => hw i (by omega)) (by rw [hw 6 (by omega)]; exact c2) ⟨rfl, c3, c5⟩ (fun z => z) (fun i hi => ?_)
  rw [hw (106 + 5 * i) (by omega), hw (106 + 5 * i + 1) (by omega), hw (106 + 5 * i + 2) (by omega), hw (106 + 5 * i + 3) (by omega), hw (106 + 5 * i + 4) (by omega)]
  exact hI i hi
theorem TdOk.cong {S : Sp} {d : Dt} {w w' : Nat → Int32} {q : TdP} (h : TdOk S d w q) (hw : ∀ i, i < 201 → w' i = w i) : TdOk S d w' q := by
  obtain ⟨ta, t0, t1, t2, to, hl, hm, c1, c2, hT, hI, hO, v3, v4, v5, v6, v7, v8, hW⟩ := h
  have hw3 : q.nw ≤ 3 := hW.1.2
  have hn5 : q.nt ≤ 5 := hW.2.1.2
  have hni : q.ni ≤ 19 := by
    obtain ⟨-, -, ⟨-, -, x1, x2, x3⟩, -⟩ := hW
    have y1 : q.na ≤ q.ni := x1
    have y2 : q.ni - q.na ≤ 8 := x2
    have y3 : q.na ≤ 11 := x3
    omega
  refine ⟨ta, t0, t1, t2, to, hl, hm, c1, c2, fun t ht => ?_, fun i hi => ?_, fun v hv => ?_, by rw [hw _ (by omega)]; exact v3, by rw [hw _ (by omega)]; exact v4, by rw [hw _ (by omega)]; exact v5, by rw [hw _ (by omega)]; exact v6, by rw [hw _ (by omega)]; exact v7, by rw [hw _ (by omega)]; exact v8, hW.cong hw⟩
  · obtain ⟨s1, s2, s3, s4, s5, u, b, s6, s7, s8, s9, s10, s11⟩ := hT t ht
    have ht' : t < q.nt := ht
    have s5' : q.nd t ≤ 6 := s5
    exact ⟨s1, fun f hf => by rw [hw _ (by omega)]; exact s2 f hf, s3, by rw [hw _ (by omega)]; exact s4, s5, u, b, s6, s7, s8, s9, fun n hn => by have hn' : n < q.nd t := hn; rw [hw _ (by omega)]; exact s10 n hn, fun k hk9 => by rw [folN_cong (w := w) (fun m hm => by have hm' : m < q.nd t := hm; exact hw _ (by omega))]; exact s11 k hk9⟩
  · have hi' : i < q.ni := hi
    obtain ⟨s1, s2⟩ := hI i hi
    exact ⟨s1, fun f hf => by rw [hw _ (by omega)]; exact s2 f hf⟩
  · have hv' : v < q.nw := hv
    rw [hw _ (by omega)]
    exact hO v hv
theorem ix201 {k i : Nat} : (201 : Int32) * nI k + nI i = nI (201 * k + i) := by
  rw [← nI_add, ← nI_mul]
  rfl
theorem Mo_image_eq {d : Dt} {k : Nat} (hk : k < 3) : ∃ d', Mo_image_h17 0 (nI k) MoS FU 0 d = some (0, d') ∧ (∀ a, a ≠ 2 → a ≠ 3 → d'.1 a = d.1 a) ∧ (∀ i, i < 201 → d'.1 2 (201 * k + i) = d.1 1 i) ∧ (∀ j, (∀ i, i < 201 → j ≠ 201 * k + i) → d'.1 2 j = d.1 2 j) ∧ d'.1 3 k = 1 ∧ ∀ j, j ≠ k → d'.1 3 j = d.1 3 j := by
  refine loop_FU (X := fun F (x : Int32 × Dt) => Mo_image_h17 0 (nI k) MoS F x.1 x.2) (Inv := fun i x => x.1 = nI i ∧ (∀ a, a ≠ 2 → x.2.1 a = d.1 a) ∧ (∀ j, j < i → x.2.1 2 (201 * k + j) = d.1 1 j) ∧ (∀ j, (∀ i, i < 201 → j ≠ 201 * k + i) → x.2.1 2 j = d.1 2 j)) (P := fun o => ∃ d', o = some (0, d') ∧ (∀ a, a ≠ 2 → a ≠ 3 → d'.1 a = d.1 a) ∧ (∀ i, i < 201 → d'.1 2 (201 * k + i) = d.1 1 i) ∧ (∀ j, (∀ i, i < 201 → j ≠ 201 * k + i) → d'.1 2 j = d.1 2 j) ∧ d'.1 3 k = 1 ∧ ∀ j, j ≠ k → d'.1 3 j = d.1 3 j) (x := (0, d)) 201 (by omega) ⟨rfl, fun _ _ => rfl, fun j hj => absurd hj (Nat.not_lt_zero j), fun _ _ => rfl⟩ ?_ ?_
  · rintro i hi F ⟨x1, x2⟩ ⟨rfl, h1, h2, h3⟩
    refine ⟨(nI (i + 1), dI x2 2 (201 * k + i) (x2.1 1 i)), ?_, rfl, fun a ha => (dI_ne ha).trans (h1 a ha), fun j hj => ?_, fun j hj => (dI_nk (fun z => hj i hi z.2)).trans (h3 j hj)⟩
    · show Mo_image_h17 0 (nI k) MoS (F + 1) (nI i) x2 = Mo_image_h17 0 (nI k) MoS F (nI (i + 1)) (dI x2 2 (201 * k + i) (x2.1 1 i))
      simp only [Mo_image_h17, Mo_K, Option.bind_some]
      rw [if_neg (show ¬ (201 : Int32) ≤ nI i from nI_ge (b := 201) (by omega) (by omega)), Mw i hi, ix201, MoS_R0_2, ma2 (show 201 * k + i < 603 by omega)]
      simp only [Option.bind_some]
      rw [nI_1]
    · by_cases e : j = i
      · subst e
        exact dI_at.trans (congrFun (h1 1 (by omega)) j)
      · exact (dI_nk (fun z => e (by omega))).trans (h2 j (by omega))
  · rintro F ⟨x1, x2⟩ ⟨rfl, h1, h2, h3⟩
    refine ⟨dI x2 3 k (vp_nar .boolean 1), ?_, fun a ha hb => (dI_ne hb).trans (h1 a ha), fun i hi => (congrFun (dI_ne (by omega)) _).trans (h2 i hi), fun j hj => (congrFun (dI_ne (by omega)) _).trans (h3 j hj), dI_at.trans (by decide), fun j hj => (dI_nk (fun z => hj z.2)).trans (congrFun (h1 3 (by omega)) j)⟩
    show Mo_image_h17 0 (nI k) MoS (F + 1) (nI 201) x2 = _
    simp only [Mo_image_h17, Mo_K, Option.bind_some]
    rw [if_pos (show (201 : Int32) ≤ nI 201 by decide), MoS_R0_3, ma3 hk]
    simp only [Option.bind_some]
theorem Mo_back_eq {d : Dt} {k : Nat} (hk : k < 3) : ∃ d', Mo_back_h29 0 (nI k) MoS FU 0 d = some (0, d') ∧ (∀ a, a ≠ 1 → d'.1 a = d.1 a) ∧ (∀ i, i < 201 → d'.1 1 i = d.1 2 (201 * k + i)) := by
  refine loop_FU (X := fun F (x : Int32 × Dt) => Mo_back_h29 0 (nI k) MoS F x.1 x.2) (Inv := fun i x => x.1 = nI i ∧ (∀ a, a ≠ 1 → x.2.1 a = d.1 a) ∧ (∀ j, j < i → x.2.1 1 j = d.1 2 (201 * k + j))) (P := fun o => ∃ d', o = some (0, d') ∧ (∀ a, a ≠ 1 → d'.1 a = d.1 a) ∧ (∀ i, i < 201 → d'.1 1 i = d.1 2 (201 * k + i))) (x := (0, d)) 201 (by omega) ⟨rfl, fun _ _ => rfl, fun j hj => absurd hj (Nat.not_lt_zero j)⟩ ?_ ?_
  · rintro i hi F ⟨x1, x2⟩ ⟨rfl, h1, h2⟩
    refine ⟨(nI (i + 1), dI x2 1 i (x2.1 2 (201 * k + i))), ?_, rfl, fun a ha => (dI_ne ha).trans (h1 a ha), fun j hj => ?_⟩
    · show Mo_back_h29 0 (nI k) MoS (F + 1) (nI i) x2 = Mo_back_h29 0 (nI k) MoS F (nI (i + 1)) (dI x2 1 i (x2.1 2 (201 * k + i)))
      simp only [Mo_back_h29, Mo_K, Option.bind_some]
      rw [if_neg (show ¬ (201 : Int32) ≤ nI i from nI_ge (b := 201) (by omega) (by omega)), ix201, MoS_R0_2, ma2 (show 201 * k + i < 603 by omega), Mw i hi]
      simp only [Option.bind_some]
      rw [nI_1]
    · by_cases e : j = i
      · subst e
        exact dI_at.trans (congrFun (h1 2 (by omega)) _)
      · exact (dI_nk (fun z => e z.2)).trans (h2 j (by omega))
  · rintro F ⟨x1, x2⟩ ⟨rfl, h1, h2⟩
    refine ⟨x2, ?_, h1, h2⟩
    show Mo_back_h29 0 (nI k) MoS (F + 1) (nI 201) x2 = _
    simp only [Mo_back_h29]
    rw [if_pos (show (201 : Int32) ≤ nI 201 by decide)]
theorem CE.lays {S : Sp} {d : Dt} {w : Nat → Int32} {q : TdP} (h : CE S d w q) : ∃ d', Ws_lays 0 S d = some ((), d') ∧ (∀ a, a ≠ 25 → a ≠ 26 → d'.1 a = d.1 a) ∧ ∀ t, t < q.nt → d'.1 25 t = w (11 + 7 * t + 2) ∧ d'.1 26 t = w (11 + 7 * t + 3) := by
  have h5 := h.nt5
  unfold Ws_lays
  refine loop_FU (X := fun F (x : Int32 × Dt) => Ws_lays_h2 0 S F x.1 x.2) (Inv := fun i x => x.1 = nI i ∧ (∀ a, a ≠ 25 → a ≠ 26 → x.2.1 a = d.1 a) ∧ ∀ t, t < i → x.2.1 25 t = w (11 + 7 * t + 2) ∧ x.2.1 26 t = w (11 + 7 * t + 3)) (P := fun o => ∃ d', o = some ((), d') ∧ (∀ a, a ≠ 25 → a ≠ 26 → d'.1 a = d.1 a) ∧ ∀ t, t < q.nt → d'.1 25 t = w (11 + 7 * t + 2) ∧ d'.1 26 t = w (11 + 7 * t + 3)) (x := (0, d)) q.nt (by omega) ⟨rfl, fun _ _ _ => rfl, fun t ht => absurd ht (Nat.not_lt_zero t)⟩ ?_ ?_
  · rintro i hi F ⟨x1, x2⟩ ⟨rfl, h1, h2⟩
    have hk : Kp S d x2 := fun a _ hr => h1 a (by omega) (by omega)
    have hD : CE S x2 w q := h.go hk
    have hD2 : CE S (dI x2 25 i (x2.1 (q.tk i) 2)) w q := h.go (hk.dI (by omega))
    obtain ⟨g1, g2, -⟩ := hD.task hi
    have hr := adr_of h.F (by decide) g1
    refine ⟨(nI (i + 1), dI (dI x2 25 i (x2.1 (q.tk i) 2)) 26 i ((dI x2 25 i (x2.1 (q.tk i) 2)).1 (q.tk i) 3)), ?_, rfl, fun a ha hb => (dI_ne hb).trans ((dI_ne ha).trans (h1 a ha hb)), fun t ht => ?_⟩
    · show Ws_lays_h2 0 S (F + 1) (nI i) x2 = Ws_lays_h2 0 S F (nI (i + 1)) (dI (dI x2 25 i (x2.1 (q.tk i) 2)) 26 i ((dI x2 25 i (x2.1 (q.tk i) 2)).1 (q.tk i) 3))
      rw [Ws_lays_h2, hD.K, Option.bind_some, hD.tasks, Option.bind_some, if_neg (nI_ge hi (by omega)), hD.taskOf hi, Option.bind_some, hD.tK hi, Option.bind_some, cr21 hD.F, ca25 hD.F (show i < 5 by omega), Option.bind_some, Option.bind_some, hD2.taskOf hi, Option.bind_some, hD2.tK hi, Option.bind_some, cr22 hD.F, ca26 hD.F (show i < 5 by omega), Option.bind_some, Option.bind_some, nI_1]
    · have e3 : (dI x2 25 i (x2.1 (q.tk i) 2)).1 (q.tk i) 3 = x2.1 (q.tk i) 3 := congrFun (dI_ne (by omega)) 3
      by_cases e : t = i
      · subst e
        refine ⟨?_, ?_⟩
        · show (dI (dI x2 25 t (x2.1 (q.tk t) 2)) 26 t _).1 25 t = _
          rw [dI_ne (by omega), dI_at]
          exact g2 2 (by omega)
        · show (dI (dI x2 25 t (x2.1 (q.tk t) 2)) 26 t _).1 26 t = _
          rw [dI_at, e3]
          exact g2 3 (by omega)
      · obtain ⟨y1, y2⟩ := h2 t (by omega)
        refine ⟨?_, ?_⟩
        · show (dI (dI x2 25 i _) 26 i _).1 25 t = _
          rw [dI_ne (by omega), dI_nk (fun z => e z.2)]
          exact y1
        · show (dI (dI x2 25 i _) 26 i _).1 26 t = _
          rw [dI_nk (fun z => e z.2), dI_ne (by omega)]
          exact y2
  · rintro F ⟨x1, x2⟩ ⟨rfl, h1, h2⟩
    have hD : CE S x2 w q := h.go (fun a _ hr => h1 a (by omega) (by omega))
    refine ⟨x2, ?_, h1, h2⟩
    show Ws_lays_h2 0 S (F + 1) (nI q.nt) x2 = _
    rw [Ws_lays_h2, hD.K, Option.bind_some, hD.tasks, Option.bind_some, if_pos (nI_le (Nat.le_refl _) (by omega))]
/-- a row of references of the component's own changes -/
theorem TdOk.sR {S : Sp} {d : Dt} {w : Nat → Int32} {q : TdP} (h : TdOk S d w q) (hF : WsFix S) {v k : Nat} {o : Option Nat} (hv : v = 0 ∨ v = 7) : TdOk (sR S v k o) d w q := by
  obtain ⟨z1, z2, z3, z4, -⟩ := h.lt
  refine h.mv S.1.length S.1.length hF (by omega) (by omega) (by omega) (by omega) (fun a sh ha hr _ _ => ⟨ha, u2_row (by omega), rfl⟩)
theorem fix_s7 {S : Sp} (hF : WsFix S) {v k : Nat} {o : Option Nat} (hv : v = 7 ∨ (v = 0 ∧ k = 0)) : WsFix (sR S v k o) := by
  obtain ⟨h1, h2, h3, h4, h5⟩ := hF
  exact ⟨h1, fun j hj h0 => (u2_ne (by omega)).trans (h2 j hj h0), fun j hj => (u2_ne (by omega)).trans (h3 j hj), fun a ha j hj => (u2_ne (by omega)).trans (h4 a ha j hj), fun t ht => (u2_ne (by omega)).trans (h5 t ht)⟩
theorem PL_53_Rel : PL_53 Rel := by
  intro n S1 d1 S2 d2 p1 hn hR
  have hU := hR.up
  have hR0 := hR
  obtain ⟨rfl, q, hF, hN, hC⟩ := rel_at hR
  obtain ⟨-, -, ⟨c1, c2, c3⟩, -⟩ := hR0
  have hl := Ws_len hF
  unfold Ws_image Mo_image
  rw [show (2 : Int64) = (nI 2).toInt64 from by decide, Ws_in0, Mo_in0, Option.bind_some, Option.bind_some]
  rcases inI_lit (x := p1) (n := 2) (by omega) with ⟨e, -⟩ | ⟨k, hk, rfl, e⟩
  · simp only [e, i10, eq_self, not_true_eq_false, not_false_eq_true, ↓reduceIte, Option.bind_some]
    exact ⟨_, _, _, _, rfl, rfl, hU⟩
  rw [e, if_pos (show ¬ (1 : Int32) = 0 by decide), if_pos (show ¬ (1 : Int32) = 0 by decide), hC.K, Option.bind_some, hC.T, Option.bind_some]
  obtain ⟨S', d', g1, g2, g3, g4, g5, g6, g7⟩ := To_same_ok hC.2.2 hF hN.2.2.1.2.2
  obtain ⟨d2', y1, y2, y3, y4, y5, y6⟩ := Mo_image_eq (d := d2) (k := k) (by omega)
  have hF' := hF.ext g2
  rw [g1, bind3_some, cr1 hF, ca7 hF' (show k < 3 by omega), Option.bind_some, show isK S' 1 (some S1.1.length) = some S1.1.length from isK_of g7.1, Option.bind_some, Option.bind_some, y1]
  have hkp : Kp S1 d1 d' := fun a ha _ => g3 a ha
  obtain ⟨a1, a2, ⟨s1, s2⟩, a4, ⟨tp, b1, b2, b3⟩, a6, a7, a8, a9, a10⟩ := hN
  have zlt := a2.lt
  have e1 : mw d2' = mw d2 := y2 1 (by omega) (by omega)
  refine ⟨_, _, _, _, rfl, rfl, rfl, fix_s7 hF' (Or.inl rfl), ⟨?_, ?_, ?_⟩, q, ?_, ?_, ⟨s1, s2⟩, fun j hj => ?_, ⟨tp, b1, ?_, ?_⟩, fun i hi => ?_, ?_, ?_, ?_, fun t ht => ?_⟩
  · show S'.2.2.1 ≤ _
    omega
  · show S'.2.2.2 ≤ _
    omega
  · show S'.1.length ≤ S'.2.2.1
    omega
  · show u2 S'.2.1 7 k (some S1.1.length) 0 0 = some q.1.1
    rw [u2_ne (by omega), g2.2.1 0 (by omega)]
    exact a1
  · rw [e1]
    exact (a2.go hF g2 hkp).sR hF' (Or.inr rfl)
  · by_cases e : j = k
    · subst e
      right
      refine ⟨y5, _, u2_at, (g7.cong (fun i hi => y3 i hi)).sR hF' (Or.inr rfl), ?_, ?_, ?_, ?_, s2.2⟩
      · show q.li ≠ S1.1.length + 1
        have := zlt.2.1
        omega
      · show q.li ≠ S1.1.length + 3
        have := zlt.2.1
        omega
      · show q.ei ≠ S1.1.length + 2
        have := zlt.2.2.2.1
        omega
      · show q.ei ≠ S1.1.length + 4
        have := zlt.2.2.2.1
        omega
    · rw [y6 j e]
      have er : (sR S' 7 k (some S1.1.length)).2.1 7 j = S1.2.1 7 j := (u2_ne (fun z => e z.2)).trans (by rw [g2.2.1 7 (by omega)])
      rw [er]
      rcases a4 j hj with z | ⟨z1, r, z2, z3, z4⟩
      · exact Or.inl z
      · refine Or.inr ⟨z1, r, z2, ((z3.go hF g2 hkp).cong (fun i hi => y4 _ (fun i' hi' => ?_))).sR hF' (Or.inr rfl), z4⟩
        omega
  · rw [g3 0 (by omega)]
    exact b2
  · rw [y2 0 (by omega) (by omega)]
    exact b3
  · rw [g3 8 (by omega), y2 4 (by omega) (by omega)]
    exact a6 i hi
  · rw [g3 0 (by omega), y2 0 (by omega) (by omega)]
    exact a7
  · rw [g3 0 (by omega), y2 0 (by omega) (by omega)]
    exact a8
  · rw [g3 0 (by omega)]
    exact a9
  · rw [e1, g3 25 (by omega), g3 26 (by omega)]
    exact a10 t ht
theorem PL_54_Rel : PL_54 Rel := by
  intro n S1 d1 S2 d2 p1 hn hR
  have hU := hR.up
  have hR0 := hR
  obtain ⟨rfl, q, hF, hN, hC⟩ := rel_at hR
  obtain ⟨-, -, ⟨c1, c2, c3⟩, -⟩ := hR0
  have hl := Ws_len hF
  unfold Ws_back Mo_back
  rw [show (2 : Int64) = (nI 2).toInt64 from by decide, Ws_in0, Mo_in0, Option.bind_some, Option.bind_some]
  rcases inI_lit (x := p1) (n := 2) (by omega) with ⟨e, -⟩ | ⟨k, hk, rfl, e⟩
  · simp only [e, i10, eq_self, not_true_eq_false, not_false_eq_true, ↓reduceIte, Option.bind_some]
    exact ⟨_, _, _, _, rfl, rfl, hU⟩
  rw [e, if_pos (show ¬ (1 : Int32) = 0 by decide), if_pos (show ¬ (1 : Int32) = 0 by decide), hC.K, Option.bind_some, cr1 hF, ca7 hF (show k < 3 by omega), Option.bind_some, Mo_K, Option.bind_some, MoS_R0_3, ma3 (show k < 3 by omega), Option.bind_some]
  obtain ⟨a1, a2, ⟨s1, s2⟩, a4, ⟨tp, b1, b2, b3⟩, a6, a7, a8, a9, a10⟩ := hN
  rcases a4 k (by omega) with ⟨z1, z2⟩ | ⟨z1, r, z2, z3, z4⟩
  · rw [show d2.1 (3, k).1 (3, k).2 = 0 from z1, show S1.2.1 (7, k).1 (7, k).2 = none from z2, if_neg (fun z => z rfl), if_neg (fun z => z rfl)]
    exact ⟨_, _, _, _, rfl, rfl, hU⟩
  have zr := z3.lt
  rw [show d2.1 (3, k).1 (3, k).2 = 1 from z1, show S1.2.1 (7, k).1 (7, k).2 = some r.a from z2, if_pos (show ¬ some r.a = none from fun z => by cases z), if_pos (show ¬ (1 : Int32) = 0 by decide), isK_of z3.1, Option.bind_some]
  obtain ⟨S', d', g1, g2, g3, g4, g5, g6, g7⟩ := To_same_ok z3 hF z4.2.2.2.2
  obtain ⟨d2', y1, y2, y3⟩ := Mo_back_eq (d := d2) (k := k) (by omega)
  have hF' := hF.ext g2
  have hF'' : WsFix (sR S' 0 0 (some S1.1.length)) := fix_s7 hF' (Or.inr ⟨rfl, rfl⟩)
  have g8 := g7.sR hF' (v := 0) (k := 0) (o := some S1.1.length) (Or.inl rfl)
  have hC' : CE (sR S' 0 0 (some S1.1.length)) d' (fun i => d2.1 2 (201 * k + i)) ((S1.1.length, S1.1.length + 1, S1.1.length + 2, 5, S1.1.length + 3, S1.1.length + 4, 18, S1.1.length + 5), r.tk, r.ij, (r.nw, r.nt, r.ni, r.na), r.nd) := ⟨hF'', (u2_at : u2 S'.2.1 0 0 (some S1.1.length) 0 0 = some S1.1.length), g8⟩
  obtain ⟨d'', x1, x2, x3⟩ := hC'.lays
  rw [g1, bind3_some, Ws_K hF', Option.bind_some, Option.bind_some, Ws_K hF'', Option.bind_some, x1, bind2_some, y1]
  have hkp : Kp S1 d1 d'' := fun a ha hr => (x2 a (by omega) (by omega)).trans (g3 a ha)
  have hkp' : Kp (sR S' 0 0 (some S1.1.length)) d' d'' := fun a _ hr => x2 a (by omega) (by omega)
  have h0 : ∀ a, a < 35 → a ≠ 25 → a ≠ 26 → d''.1 a = d1.1 a := fun a h1 h2 h3 => (x2 a h2 h3).trans (g3 a (by omega))
  refine ⟨_, _, _, _, rfl, rfl, rfl, hF'', ⟨?_, ?_, ?_⟩, ((S1.1.length, S1.1.length + 1, S1.1.length + 2, 5, S1.1.length + 3, S1.1.length + 4, 18, S1.1.length + 5), r.tk, r.ij, (r.nw, r.nt, r.ni, r.na), r.nd), (u2_at : u2 S'.2.1 0 0 (some S1.1.length) 0 0 = some S1.1.length), (g8.go hF'' Ext.rf hkp').cong (fun i hi => y3 i hi), ⟨?_, ?_, z4.2.2.2.2⟩, fun j hj => ?_, ⟨tp, b1, ?_, ?_⟩, fun i hi => ?_, ?_, ?_, ?_, fun t ht => ?_⟩
  · show S'.2.2.1 ≤ _
    omega
  · show S'.2.2.2 ≤ _
    omega
  · show S'.1.length ≤ S'.2.2.1
    omega
  · show S1.1.length + 3 ≠ S1.1.length + 1
    omega
  · show S1.1.length + 4 ≠ S1.1.length + 2
    omega
  · have er : (sR S' 0 0 (some S1.1.length)).2.1 7 j = S1.2.1 7 j := by
      show u2 S'.2.1 0 0 (some S1.1.length) 7 j = _
      rw [u2_ne (by omega), g2.2.1 7 (by omega)]
    rw [y2 3 (by omega), y2 2 (by omega), er]
    rcases a4 j hj with w1 | ⟨w1, v, w2, w3, w4⟩
    · exact Or.inl w1
    · have zv := w3.lt
      refine Or.inr ⟨w1, v, w2, (w3.go hF g2 hkp).sR hF' (Or.inl rfl), ?_, ?_, ?_, ?_, w4.2.2.2.2⟩
      · show S1.1.length + 3 ≠ v.lt
        have := zv.1
        omega
      · show S1.1.length + 3 ≠ v.li
        have := zv.2.1
        omega
      · show S1.1.length + 4 ≠ v.et
        have := zv.2.2.1
        omega
      · show S1.1.length + 4 ≠ v.ei
        have := zv.2.2.2.1
        omega
  · rw [h0 0 (by omega) (by omega) (by omega)]
    exact b2
  · rw [y2 0 (by omega)]
    exact b3
  · rw [h0 8 (by omega) (by omega) (by omega), y2 4 (by omega)]
    exact a6 i hi
  · rw [h0 0 (by omega) (by omega) (by omega), y2 0 (by omega)]
    exact a7
  · rw [h0 0 (by omega) (by omega) (by omega), y2 0 (by omega)]
    exact a8
  · rw [h0 0 (by omega) (by omega) (by omega)]
    exact a9
  · have ht5 : t < 5 := Nat.lt_of_lt_of_le ht z3.2.2.2.2.2.2.2.2.2.2.2.2.2.2.2.2.2.2.2.1.2
    obtain ⟨w1, w2⟩ := x3 t ht
    show d''.1 25 t = d2'.1 1 _ ∧ d''.1 26 t = d2'.1 1 _
    rw [w1, w2, y3 _ (by omega), y3 _ (by omega)]
    exact ⟨rfl, rfl⟩
