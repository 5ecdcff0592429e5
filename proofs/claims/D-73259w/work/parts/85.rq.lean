/-! THE PLAIN LAW: queries of responses -/
set_option maxRecDepth 100000
/-- rows 7 to 10 of the model change -/
def Kg (d d' : Dt) : Prop := ∀ a, a < 7 ∨ 10 < a → d'.1 a = d.1 a
theorem Kg.rf {d : Dt} : Kg d d := fun _ _ => rfl
theorem Kg.tr {d d' d'' : Dt} (h : Kg d d') (g : Kg d' d'') : Kg d d'' := fun a ha => (g a ha).trans (h a ha)
theorem Kg.km {d d' : Dt} (h : Kg d d') : Km d d' := ⟨fun a x y => h a (by omega), by rw [h 0 (by omega)], by rw [h 0 (by omega)], by rw [h 0 (by omega)]⟩
theorem Ks.kg {d d' : Dt} (h : Ks 7 d d') : Kg d d' := fun a ha => h.1 a (by omega)
section
variable {S : Sp} {d d2 : Dt} {q : TdP} {t : Nat}
theorem lesser_eq {i : Nat} (hi : i < 5) : ((1 : Int32) <<< (nI i &&& 31)) - 1 = nI (2 ^ i - 1) := by
  have h : ∀ i, i < 5 → ((1 : Int32) <<< (nI i &&& 31)) - 1 = nI (2 ^ i - 1) := by decide +kernel
  exact h i hi
theorem pow31 {i : Nat} (hi : i < 5) : 2 ^ i - 1 < 32 := by
  have h : ∀ i, i < 5 → 2 ^ i - 1 < 32 := by decide
  exact h i hi
theorem lays_eq (h : CE S d (mw d2) q) : ∃ d2', Mo_laysCosts 0 MoS d2 = some ((), d2') ∧ Kg d2 d2' ∧ grM d2' q (fun _ => 0) (fun i => 2 ^ i - 1) := by
  have h5 := h.nt5
  unfold Mo_laysCosts
  refine loop_FU (X := fun F (x : Int32 × Dt) => Mo_laysCosts_h2 0 MoS F x.1 x.2) (Inv := fun i x => x.1 = nI i ∧ Kg d2 x.2 ∧ ∀ j, j < i → x.2.1 8 j = nI (lgN (mw d2) j (q.nd j)) ∧ x.2.1 9 j = nI (shN (mw d2) j (q.nd j)) ∧ x.2.1 10 j = nI (2 ^ j - 1)) (P := fun o => ∃ d2', o = some ((), d2') ∧ Kg d2 d2' ∧ grM d2' q (fun _ => 0) (fun i => 2 ^ i - 1)) (x := (0, d2)) q.nt (by omega) ⟨rfl, Kg.rf, fun j hj => absurd hj (Nat.not_lt_zero j)⟩ ?_ ?_
  · rintro i hi F ⟨x1, e⟩ ⟨rfl, h1, h2⟩
    have h1' : Kg d2 e := h1
    have ew : mw e = mw d2 := h1' 1 (by omega)
    obtain ⟨f1, f2, f3, f4⟩ := h.tf hi
    obtain ⟨e1, g1, k1⟩ := Mo_goes_eq (d := e) (t := i) (wh := 0) (by omega) f1 f2 (by omega) (by rw [ew]; exact f3) (by rw [ew]; exact f4)
    have ew1 : mw e1 = mw d2 := (k1.1 1 (by omega)).trans ew
    generalize hE2 : dI e1 9 i (gV (mw e) i (q.nd i) 0 0) = e2
    have ew2 : mw e2 = mw d2 := by rw [← hE2]; exact (dI_ne (by omega)).trans ew1
    obtain ⟨e3, g3, k3⟩ := Mo_goes_eq (d := e2) (t := i) (wh := 1) (by omega) f1 f2 (by omega) (by rw [ew2]; exact f3) (by rw [ew2]; exact f4)
    have hv0 : gV (mw e) i (q.nd i) 0 0 = nI (shN (mw d2) i (q.nd i)) := by rw [ew]; exact (h.sh hi).1
    have hv1 : gV (mw e2) i (q.nd i) 1 0 = nI (lgN (mw d2) i (q.nd i)) := by rw [ew2]; exact (h.lg hi).1
    have hw4 : e.1 1 4 = nI q.nt := by rw [show e.1 1 = mw d2 from ew]; exact h.wf.2.1.1
    refine ⟨(nI (i + 1), dI (dI e3 8 i (gV (mw e2) i (q.nd i) 1 0)) 10 i (nI (2 ^ i - 1))), ?_, rfl, ?_, fun j hj => ?_⟩
    · show Mo_laysCosts_h2 0 MoS (F + 1) (nI i) e = Mo_laysCosts_h2 0 MoS F (nI (i + 1)) (dI (dI e3 8 i (gV (mw e2) i (q.nd i) 1 0)) 10 i (nI (2 ^ i - 1)))
      rw [Mo_laysCosts_h2, Mo_K, Option.bind_some, show aix MoS 50 (MoS.2.1 0 1) 4 = some (1, 4) from Mw 4 (by omega), Option.bind_some, hw4, if_neg (nI_ge hi (by omega)), show Mo_goes 0 (nI i) 0 MoS e = _ from g1, bind2_some, MoS_R0_17, ma9 (show i < 5 by omega), Option.bind_some, Option.bind_some]
      show bind2 (Mo_goes 0 (nI i) 1 MoS (dI e1 9 i (gV (mw e) i (q.nd i) 0 0))) _ = _
      rw [hE2, show Mo_goes 0 (nI i) 1 MoS e2 = _ from g3, bind2_some, MoS_R0_16, ma8 (show i < 5 by omega), Option.bind_some, Option.bind_some, MoS_R0_18, ma10 (show i < 5 by omega), Option.bind_some, Option.bind_some, lesser_eq (by omega), nI_1]
    · intro a ha
      show (dI (dI e3 8 i _) 10 i _).1 a = _
      rw [dI_ne (by omega), dI_ne (by omega), k3.1 a (by omega), ← hE2, dI_ne (by omega), k1.1 a (by omega)]
      exact h1' a ha
    · have h2' : ∀ j, j < i → e.1 8 j = nI (lgN (mw d2) j (q.nd j)) ∧ e.1 9 j = nI (shN (mw d2) j (q.nd j)) ∧ e.1 10 j = nI (2 ^ j - 1) := h2
      show (dI (dI e3 8 i (gV (mw e2) i (q.nd i) 1 0)) 10 i (nI (2 ^ i - 1))).1 8 j = _ ∧ (dI (dI e3 8 i (gV (mw e2) i (q.nd i) 1 0)) 10 i (nI (2 ^ i - 1))).1 9 j = _ ∧ (dI (dI e3 8 i (gV (mw e2) i (q.nd i) 1 0)) 10 i (nI (2 ^ i - 1))).1 10 j = _
      by_cases ej : j = i
      · subst ej
        refine ⟨?_, ?_, dI_at⟩
        · rw [dI_ne (by omega), dI_at, hv1]
        · rw [dI_ne (by omega), dI_ne (by omega), k3.1 9 (by omega), ← hE2, dI_at, hv0]
      · obtain ⟨y1, y2, y3⟩ := h2' j (by omega)
        refine ⟨?_, ?_, ?_⟩
        · rw [dI_ne (by omega), dI_nk (fun z => ej z.2), k3.1 8 (by omega), ← hE2, dI_ne (by omega), k1.1 8 (by omega)]
          exact y1
        · rw [dI_ne (by omega), dI_ne (by omega), k3.1 9 (by omega), ← hE2, dI_nk (fun z => ej z.2), k1.1 9 (by omega)]
          exact y2
        · rw [dI_nk (fun z => ej z.2), dI_ne (by omega), k3.1 10 (by omega), ← hE2, dI_ne (by omega), k1.1 10 (by omega)]
          exact y3
  · rintro F ⟨x1, e⟩ ⟨rfl, h1, h2⟩
    have h1' : Kg d2 e := h1
    have ew : mw e = mw d2 := h1' 1 (by omega)
    have hw4 : e.1 1 4 = nI q.nt := by rw [show e.1 1 = mw d2 from ew]; exact h.wf.2.1.1
    refine ⟨e, ?_, h1', fun i hi => ?_⟩
    · show Mo_laysCosts_h2 0 MoS (F + 1) (nI q.nt) e = _
      rw [Mo_laysCosts_h2, Mo_K, Option.bind_some, show aix MoS 50 (MoS.2.1 0 1) 4 = some (1, 4) from Mw 4 (by omega), Option.bind_some, hw4, if_pos (nI_le (Nat.le_refl _) (by omega))]
    · obtain ⟨y1, y2, y3⟩ := h2 i hi
      rw [ew]
      exact ⟨y1, y2, y3, pow31 (by omega)⟩
/-- the tasks that are lawful by the order of their numbers -/
theorem lawfulNow_eq (h : CE S d (mw d2) q) {g : Nat → Nat} (hc : grC d q g) (hm : grM d2 q g (fun i => 2 ^ i - 1)) : ∃ A, A < 32 ∧ Ws_lawfulNow 0 S d = some (nI A) ∧ Mo_lawfulNow 0 MoS d2 = some (nI A) := by
  have h5 := h.nt5
  unfold Ws_lawfulNow Mo_lawfulNow
  have hw4 : d2.1 1 4 = nI q.nt := h.wf.2.1.1
  refine loop2_FU (X := fun F (x : Int32 × Int32) => Ws_lawfulNow_h4 0 S d F x.1 x.2) (Y := fun F (x : Int32 × Int32) => Mo_lawfulNow_h4 0 MoS d2 F x.1 x.2) (Inv := fun i x y => x = y ∧ x.2 = nI i ∧ ∃ A, x.1 = nI A ∧ A < 2 ^ i) (P := fun o p => ∃ A, A < 32 ∧ o = some (nI A) ∧ p = some (nI A)) (x := (0, 0)) (y := (0, 0)) q.nt (by omega) ⟨rfl, rfl, 0, rfl, by decide⟩ ?_ ?_
  · rintro i hi F G ⟨x1, x2⟩ ⟨y1, y2⟩ ⟨hxy, hx, A, hA, hA2⟩
    cases hxy
    have hx' : x2 = nI i := hx
    have hA' : x1 = nI A := hA
    subst hx' hA'
    left
    obtain ⟨b, b1, b2, b3⟩ := isLawful_eq h hc hm hi
    have b1' : Ws_isLawful 0 (nI i) (nI (2 ^ i - 1)) S d = some b := b1
    show ∃ x' y' : Int32 × Int32, Ws_lawfulNow_h4 0 S d (F + 1) (nI A) (nI i) = _ ∧ Mo_lawfulNow_h4 0 MoS d2 (G + 1) (nI A) (nI i) = _ ∧ _
    rw [Ws_lawfulNow_h4, Mo_lawfulNow_h4, h.K, Option.bind_some, h.tasks, Option.bind_some, if_neg (nI_ge hi (by omega)), Mo_K, Option.bind_some, show aix MoS 50 (MoS.2.1 0 1) 4 = some (1, 4) from Mw 4 (by omega), Option.bind_some, hw4, if_neg (nI_ge hi (by omega))]
    unfold Ws_lesser
    rw [lesser_eq (by omega), Option.bind_some, b1', Option.bind_some, b2, Option.bind_some]
    unfold Ws_lawfulNow_b32 Mo_lawfulNow_b30
    rw [Option.bind_some, Option.bind_some, nI_1, and31 (by omega)]
    refine ⟨(_, nI (i + 1)), (_, nI (i + 1)), rfl, rfl, rfl, rfl, ?_⟩
    rcases b3 with rfl | rfl
    · refine ⟨A, ?_, Nat.lt_of_lt_of_le hA2 (Nat.pow_le_pow_right (by omega) (by omega))⟩
      show nI A ||| (if (0 : Int32) = 0 then (0 : Int32) else (1 : Int32) <<< nI i) = nI A
      rw [if_pos rfl, Int32.or_zero]
    · refine ⟨A ||| 2 ^ i, ?_, ?_⟩
      · show nI A ||| (if (1 : Int32) = 0 then (0 : Int32) else (1 : Int32) <<< nI i) = nI (A ||| 2 ^ i)
        rw [if_neg (by decide), shl1 (by omega), nI_or]
      · exact Nat.or_lt_two_pow (Nat.lt_of_lt_of_le hA2 (Nat.pow_le_pow_right (by omega) (by omega))) (Nat.pow_lt_pow_right (by omega) (by omega))
  · rintro F G ⟨x1, x2⟩ ⟨y1, y2⟩ ⟨hxy, hx, A, hA, hA2⟩
    cases hxy
    have hx' : x2 = nI q.nt := hx
    have hA' : x1 = nI A := hA
    subst hx' hA'
    show ∃ A', A' < 32 ∧ Ws_lawfulNow_h4 0 S d (F + 1) (nI A) (nI q.nt) = _ ∧ Mo_lawfulNow_h4 0 MoS d2 (G + 1) (nI A) (nI q.nt) = _
    rw [Ws_lawfulNow_h4, Mo_lawfulNow_h4, h.K, Option.bind_some, h.tasks, Option.bind_some, if_pos (nI_le (Nat.le_refl _) (by omega)), Mo_K, Option.bind_some, show aix MoS 50 (MoS.2.1 0 1) 4 = some (1, 4) from Mw 4 (by omega), Option.bind_some, hw4, if_pos (nI_le (Nat.le_refl _) (by omega))]
    exact ⟨A, Nat.lt_of_lt_of_le hA2 (show 2 ^ q.nt ≤ 2 ^ 5 from Nat.pow_le_pow_right (by omega) h5), rfl, rfl⟩
theorem RelN.gr0 {S : Sp} {d1 d2 : Dt} {q : TdP} (h : RelN S d1 d2 q) (h5 : q.nt ≤ 5) : grC d1 q (fun _ => 0) := by
  obtain ⟨-, -, -, -, -, -, -, -, g, -⟩ := h
  intro i hi
  rw [g]
  exact ⟨if_pos (m1_pos (by omega)), Nat.zero_le _⟩
theorem Kg.ce {d2' : Dt} (h : CE S d (mw d2) q) (k : Kg d2 d2') : CE S d (mw d2') q := by
  rw [show mw d2' = mw d2 from k 1 (by omega)]
  exact h
end
theorem PL_10_Rel : PL_10 Rel := by
  intro n S1 d1 S2 d2 p1 hn hR
  have hU := hR.up
  obtain ⟨rfl, q, hF, hN, hC⟩ := rel_at hR
  have h5 := hC.nt5
  unfold Ws_response Mo_response
  rw [hC.K, Mo_K]
  simp only [Option.bind_some]
  rw [hC.isTask, Mo_isTask_eq, hC.wf.2.1.1]
  simp only [Option.bind_some]
  rcases inI_nI (x := p1) (n := q.nt) (by omega) with ⟨e, -⟩ | ⟨t, ht, rfl, e⟩
  · simp only [e, i10, eq_self, not_true_eq_false, not_false_eq_true, ↓reduceIte, Option.bind_some]
    exact ⟨_, _, rfl, rfl, hU⟩
  simp only [e, i10, eq_self, not_true_eq_false, not_false_eq_true, ↓reduceIte, Option.bind_some]
  obtain ⟨d2', g1, g2, g3⟩ := lays_eq hC
  have hC' := Kg.ce hC g2
  obtain ⟨x, x1, x2, -⟩ := resp_eq hC' (hN.gr0 h5) g3 ht
  unfold Ws_lesser
  rw [lesser_eq (by omega), Option.bind_some, show Ws_responseOf 0 (nI t) (nI (2 ^ t - 1)) S1 d1 = _ from x1, Option.bind_some, g1, bind2_some, x2, Option.bind_some]
  exact ⟨_, _, rfl, rfl, hR.m g2.km⟩
theorem PL_11_Rel : PL_11 Rel := by
  intro n S1 d1 S2 d2 p1 p2 hn hR
  have hU := hR.up
  obtain ⟨rfl, q, hF, hN, hC⟩ := rel_at hR
  have h5 := hC.nt5
  unfold Ws_least Mo_least
  rw [hC.K, Mo_K]
  simp only [Option.bind_some]
  rw [hC.isTask, Mo_isTask_eq, hC.wf.2.1.1]
  simp only [Option.bind_some]
  rcases inI_nI (x := p1) (n := q.nt) (by omega) with ⟨e, -⟩ | ⟨t, ht, rfl, e⟩
  · simp only [e, i10, eq_self, not_true_eq_false, not_false_eq_true, ↓reduceIte, Option.bind_some]
    exact ⟨_, _, rfl, rfl, hU⟩
  simp only [e, i10, eq_self, not_true_eq_false, not_false_eq_true, ↓reduceIte, Option.bind_some]
  rw [show (3 : Int64) = (nI 3).toInt64 from by decide, Ws_in0, Mo_in0]
  simp only [Option.bind_some]
  rcases inI_lit (x := p2) (n := 3) (by omega) with ⟨e1, -⟩ | ⟨k, hk, rfl, e1⟩
  · simp only [e1, i10, eq_self, not_true_eq_false, not_false_eq_true, ↓reduceIte, Option.bind_some]
    exact ⟨_, _, rfl, rfl, hU⟩
  simp only [e1, i10, eq_self, not_true_eq_false, not_false_eq_true, ↓reduceIte, Option.bind_some]
  obtain ⟨d2', g1, g2, g3⟩ := lays_eq hC
  have hC' := Kg.ce hC g2
  obtain ⟨x, x1, x2, x3⟩ := resp_eq hC' (hN.gr0 h5) g3 ht
  unfold Ws_lesser
  rw [lesser_eq (by omega), Option.bind_some, show Ws_responseOf 0 (nI t) (nI (2 ^ t - 1)) S1 d1 = _ from x1, Option.bind_some, g1, bind2_some, x2, Option.bind_some]
  rcases x3 with rfl | ⟨r, rfl, hr⟩
  · rw [if_neg (fun z => z rfl), if_neg (fun z => z rfl)]
    exact ⟨_, _, rfl, rfl, hR.m g2.km⟩
  · obtain ⟨y, y1, y2⟩ := bound_eq hC' (hN.gr0 h5) g3 ht hk hr x2
    rw [if_pos (m1_pos (by omega)), if_pos (m1_pos (by omega)), y1, y2, Option.bind_some, Option.bind_some]
    exact ⟨_, _, rfl, rfl, hR.m g2.km⟩
theorem PL_18_Rel : PL_18 Rel := by
  intro n S1 d1 S2 d2 hn hR
  have hU := hR.up
  obtain ⟨rfl, q, hF, hN, hC⟩ := rel_at hR
  have h5 := hC.nt5
  unfold Ws_lawful Mo_lawful
  rw [hC.K, Mo_K, Option.bind_some, Option.bind_some, hC.T, Mo_isBoard_eq, Option.bind_some, Option.bind_some, hC.is, Option.bind_some]
  by_cases hb : mw d2 7 ≤ 0
  · simp only [if_pos hb, i10, eq_self, not_true_eq_false, not_false_eq_true, ↓reduceIte, Option.bind_some]
    exact ⟨_, _, rfl, rfl, hU⟩
  simp only [if_neg hb, i10, eq_self, not_true_eq_false, not_false_eq_true, ↓reduceIte, Option.bind_some]
  obtain ⟨d2', g1, g2, g3⟩ := lays_eq hC
  obtain ⟨A, -, y1, y2⟩ := lawfulNow_eq (Kg.ce hC g2) (hN.gr0 h5) g3
  rw [y1, Option.bind_some, g1, bind2_some, y2, Option.bind_some]
  exact ⟨_, _, rfl, rfl, hR.m g2.km⟩
