/-! THE PLAIN LAW: tight, loose, ledger -/
set_option maxRecDepth 100000
theorem nI_dn (m : Nat) : nI (m + 1) + (-1) = nI m := by
  rw [← nI_1, Int32.add_assoc, show (1 + -1 : Int32) = 0 by decide, Int32.add_zero]
theorem PL_45_Rel : PL_45 Rel := by
  intro n S1 d1 S2 d2 p1 hn hR
  have hU := hR.up
  obtain ⟨rfl, q, hF, hN, hC⟩ := rel_at hR
  have h5 := hC.nt5
  unfold Ws_tight Mo_tight
  rw [hC.K, Option.bind_some, hC.isTask, Option.bind_some, Mo_K, Option.bind_some, Mo_isTask_eq, Option.bind_some, hC.wf.2.1.1]
  rcases inI_nI (x := p1) (n := q.nt) (by omega) with ⟨z, -⟩ | ⟨t, t1, rfl, z⟩
  · rw [z, if_neg (show ¬ ¬ (0 : Int32) = 0 from fun z => z rfl), if_pos rfl]
    exact ⟨_, _, _, _, rfl, rfl, hU⟩
  have hb := hC.brd (by omega)
  obtain ⟨w1, w2, w3, w4, w5⟩ := hC.win t1
  obtain ⟨S', f1, f2, H, r, b, h9, s1, s2, s3, s4, s5, s6, s7, s8, s9⟩ := all1 (p2 := -1) hN hF hb
  have hO : ∀ {T : Sp} {e g : Dt}, RelN T e g q → mw g = mw d2 → e.1 25 t = nI (opN (mw d2) t) := by
    intro T e g hx hg
    have := ((RelN_iff.mp hx).2 t t1).1
    rw [hg] at this
    exact this.trans w1
  have hT2 : ∀ g : Dt, mw g = mw d2 → Mo_toldOf 0 (nI t) 2 MoS g = some (nI (opN (mw d2) t)) := by
    intro g hg
    rw [show Mo_toldOf 0 (nI t) 2 MoS g = _ from Mo_toldOf_eq (w := 2) (by omega) (by omega), hg, w1]
  have hF' := s9.fix hF
  rw [z, if_pos (show ¬ (1 : Int32) = 0 by decide), if_neg (show ¬ (1 : Int32) = 0 by decide), s3, bind3_some, Ws_K hF', Option.bind_some, cr21 hF', ca25 hF' (show t < 5 by omega), Option.bind_some, hO (s9.relN hN hF) s9.row, Option.bind_some, asks_yes hb s4 s9.row, bind2_some, if_pos (show ¬ (1 : Int32) = 0 by decide), Option.bind_some, s5, hT2 f2 s9.row, Option.bind_some, Option.bind_some, nI_1]
  generalize hop : opN (mw d2) t = o9 at *
  generalize hcl : clN (mw d2) t = c9 at *
  refine loop2_FU (X := fun F (x : Int32 × Sp × Dt) => Ws_tight_h26 0 (nI t) F (nI r) x.1 x.2.1 x.2.2) (Y := fun F (y : Int32 × Dt) => Mo_tight_h32 0 (nI t) MoS F (nI r) y.1 y.2) (Inv := fun i x y => x.1 = nI (o9 + 1 + i) ∧ y.1 = nI (o9 + 1 + i) ∧ Kt S1 d1 d2 x.2.1 x.2.2 y.2 (3 + 5 * i) (18 + 28 * i)) (P := fun o p => ∃ (a : Int32) (T1 : Sp) (b1 b2 : Dt), o = some (a, T1, b1) ∧ p = some (a, b2) ∧ Rel (n + 1) T1 b1 MoS b2) (x := (nI (o9 + 1), S', f1)) (y := (nI (o9 + 1), f2)) (c9 - o9 - 1) (by omega) ⟨rfl, rfl, s9⟩ ?_ ?_
  · rintro i hi F G ⟨x, T, e⟩ ⟨y, g⟩ ⟨h1, h2, hK⟩
    have h1' : x = nI (o9 + 1 + i) := h1
    have h2' : y = nI (o9 + 1 + i) := h2
    have hK' : Kt S1 d1 d2 T e g (3 + 5 * i) (18 + 28 * i) := hK
    subst h1' h2'
    have hFT := hK'.fix hF
    have hNT := hK'.relN hN hF
    obtain ⟨T2, g1, g2, r2, u1, u2, u3, u4, u5⟩ := allWith_eq (a := o9) (b := o9 + 1 + i) hNT hFT t1 (by omega) (by omega)
    have hX : Ws_tight_h26 0 (nI t) (F + 1) (nI r) (nI (o9 + 1 + i)) T e = if nI r2 ≤ nI r then some (nI (o9 + 1 + i), T2, g1) else Ws_tight_h26 0 (nI t) F (nI r) (nI (o9 + 1 + (i + 1))) T2 g1 := by
      rw [Ws_tight_h26, Ws_K hFT, Option.bind_some, cr21 hFT, ca25 hFT (show t < 5 by omega), Option.bind_some, hO hNT hK'.row, u1, bind3_some, nI_1]
      rfl
    have hY : Mo_tight_h32 0 (nI t) MoS (G + 1) (nI r) (nI (o9 + 1 + i)) g = if nI r2 ≤ nI r then some (nI (o9 + 1 + i), g2) else Mo_tight_h32 0 (nI t) MoS G (nI r) (nI (o9 + 1 + (i + 1))) g2 := by
      rw [Mo_tight_h32, Mo_K, Option.bind_some, hT2 g hK'.row, Option.bind_some, rwi_eq u2, bind2_some, u3, nI_1]
      rfl
    by_cases c : nI r2 ≤ nI r
    · refine Or.inr ⟨nI (o9 + 1 + i), T2, g1, g2, hX.trans (if_pos c), hY.trans (if_pos c), (hK'.tr u5).rel hR (by omega) (by omega)⟩
    · exact Or.inl ⟨(nI (o9 + 1 + (i + 1)), T2, g1), (nI (o9 + 1 + (i + 1)), g2), hX.trans (if_neg c), hY.trans (if_neg c), rfl, rfl, (hK'.tr u5).mono (by omega) (by omega)⟩
  · rintro F G ⟨x, T, e⟩ ⟨y, g⟩ ⟨h1, h2, hK⟩
    have h1' : x = nI (o9 + 1 + (c9 - o9 - 1)) := h1
    have h2' : y = nI (o9 + 1 + (c9 - o9 - 1)) := h2
    have hK' : Kt S1 d1 d2 T e g (3 + 5 * (c9 - o9 - 1)) (18 + 28 * (c9 - o9 - 1)) := hK
    have hbc : o9 + 1 + (c9 - o9 - 1) = c9 := by omega
    rw [hbc] at h1' h2'
    subst h1' h2'
    have hFT := hK'.fix hF
    have hNT := hK'.relN hN hF
    obtain ⟨T2, g1, g2, r2, u1, u2, u3, u4, u5⟩ := allWith_eq (a := o9) (b := c9) hNT hFT t1 (by omega) (by omega)
    have hrr : nI r2 = nI r := by
      have u2' := u2
      rw [hK'.row, ← hop, ← hcl] at u2'
      have := most_eq hN hF (hK'.m.relN hN hF) hK'.row t1 s4 u2'
      rw [u3, s5] at this
      exact this
    refine ⟨nI c9, T2, g1, g2, ?_, ?_, (hK'.tr u5).rel hR (by omega) (by omega)⟩
    · show Ws_tight_h26 0 (nI t) (F + 1) (nI r) (nI c9) T e = _
      rw [Ws_tight_h26, Ws_K hFT, Option.bind_some, cr21 hFT, ca25 hFT (show t < 5 by omega), Option.bind_some, hO hNT hK'.row, u1, bind3_some, hrr, if_pos (nI_le (Nat.le_refl _) (by omega))]
    · show Mo_tight_h32 0 (nI t) MoS (G + 1) (nI r) (nI c9) g = _
      rw [Mo_tight_h32, Mo_K, Option.bind_some, hT2 g hK'.row, Option.bind_some, rwi_eq u2, bind2_some, u3, hrr, if_pos (nI_le (Nat.le_refl _) (by omega))]
theorem PL_46_Rel : PL_46 Rel := by
  intro n S1 d1 S2 d2 p1 hn hR
  have hU := hR.up
  obtain ⟨rfl, q, hF, hN, hC⟩ := rel_at hR
  have h5 := hC.nt5
  unfold Ws_loose Mo_loose
  rw [hC.K, Option.bind_some, hC.isTask, Option.bind_some, Mo_K, Option.bind_some, Mo_isTask_eq, Option.bind_some, hC.wf.2.1.1]
  rcases inI_nI (x := p1) (n := q.nt) (by omega) with ⟨z, -⟩ | ⟨t, t1, rfl, z⟩
  · rw [z, if_neg (show ¬ ¬ (0 : Int32) = 0 from fun z => z rfl), if_pos rfl]
    exact ⟨_, _, _, _, rfl, rfl, hU⟩
  have hb := hC.brd (by omega)
  obtain ⟨w1, w2, w3, w4, w5⟩ := hC.win t1
  obtain ⟨S', f1, f2, H, r, b, h9, s1, s2, s3, s4, s5, s6, s7, s8, s9⟩ := all1 (p2 := -1) hN hF hb
  have hO : ∀ {T : Sp} {e g : Dt}, RelN T e g q → mw g = mw d2 → e.1 26 t = nI (clN (mw d2) t) := by
    intro T e g hx hg
    have := ((RelN_iff.mp hx).2 t t1).2
    rw [hg] at this
    exact this.trans w2
  have hT2 : ∀ g : Dt, mw g = mw d2 → Mo_toldOf 0 (nI t) 3 MoS g = some (nI (clN (mw d2) t)) := by
    intro g hg
    rw [show Mo_toldOf 0 (nI t) 3 MoS g = _ from Mo_toldOf_eq (w := 3) (by omega) (by omega), hg, w2]
  have hF' := s9.fix hF
  obtain ⟨A, hA1, hA2, hA3⟩ : ∃ A, imin 99 (nI (clN (mw d2) t) - 1) = nI A ∧ opN (mw d2) t ≤ A ∧ A < clN (mw d2) t := by
    rw [show (1 : Int32) = nI 1 from rfl, nI_sub (by omega)]
    unfold imin
    by_cases c : clN (mw d2) t - 1 < 99
    · rw [if_pos (show nI (clN (mw d2) t - 1) < 99 from nI_lt (b := 99) c (by omega))]
      exact ⟨_, rfl, by omega, by omega⟩
    · rw [if_neg (show ¬ nI (clN (mw d2) t - 1) < 99 from nI_nlt (b := 99) (by omega) (by omega))]
      exact ⟨99, rfl, by omega, by omega⟩
  rw [z, if_pos (show ¬ (1 : Int32) = 0 by decide), if_neg (show ¬ (1 : Int32) = 0 by decide), s3, bind3_some, Ws_K hF', Option.bind_some, cr22 hF', ca26 hF' (show t < 5 by omega), Option.bind_some, hO (s9.relN hN hF) s9.row, Option.bind_some, asks_yes hb s4 s9.row, bind2_some, if_pos (show ¬ (1 : Int32) = 0 by decide), Option.bind_some, s5, hT2 f2 s9.row, Option.bind_some, Option.bind_some, hA1]
  generalize hop : opN (mw d2) t = o9 at *
  generalize hcl : clN (mw d2) t = c9 at *
  refine loop2_FU (X := fun F (x : Int32 × Sp × Dt) => Ws_loose_h31 0 (nI t) F (nI r) x.1 x.2.1 x.2.2) (Y := fun F (y : Int32 × Dt) => Mo_loose_h37 0 (nI t) MoS F (nI r) y.1 y.2) (Inv := fun i x y => x.1 = nI (A - i) ∧ y.1 = nI (A - i) ∧ Kt S1 d1 d2 x.2.1 x.2.2 y.2 (3 + 5 * i) (18 + 28 * i)) (P := fun o p => ∃ (a : Int32) (T1 : Sp) (b1 b2 : Dt), o = some (a, T1, b1) ∧ p = some (a, b2) ∧ Rel (n + 1) T1 b1 MoS b2) (x := (nI A, S', f1)) (y := (nI A, f2)) (A - o9) (by omega) ⟨rfl, rfl, s9⟩ ?_ ?_
  · rintro i hi F G ⟨x, T, e⟩ ⟨y, g⟩ ⟨h1, h2, hK⟩
    have h1' : x = nI (A - i) := h1
    have h2' : y = nI (A - i) := h2
    have hK' : Kt S1 d1 d2 T e g (3 + 5 * i) (18 + 28 * i) := hK
    subst h1' h2'
    have hFT := hK'.fix hF
    have hNT := hK'.relN hN hF
    have hdn : nI (A - i) + (-1) = nI (A - (i + 1)) := by
      rw [show A - i = (A - (i + 1)) + 1 by omega]
      exact nI_dn _
    obtain ⟨T2, g1, g2, r2, u1, u2, u3, u4, u5⟩ := allWith_eq (a := A - i) (b := c9) hNT hFT t1 (by omega) (by omega)
    have hX : Ws_loose_h31 0 (nI t) (F + 1) (nI r) (nI (A - i)) T e = if nI r2 ≤ nI r then some (nI (A - i), T2, g1) else Ws_loose_h31 0 (nI t) F (nI r) (nI (A - (i + 1))) T2 g1 := by
      rw [Ws_loose_h31, Ws_K hFT, Option.bind_some, cr22 hFT, ca26 hFT (show t < 5 by omega), Option.bind_some, hO hNT hK'.row, u1, bind3_some, hdn]
    have hY : Mo_loose_h37 0 (nI t) MoS (G + 1) (nI r) (nI (A - i)) g = if nI r2 ≤ nI r then some (nI (A - i), g2) else Mo_loose_h37 0 (nI t) MoS G (nI r) (nI (A - (i + 1))) g2 := by
      rw [Mo_loose_h37, Mo_K, Option.bind_some, hT2 g hK'.row, Option.bind_some, rwi_eq u2, bind2_some, u3, hdn]
    by_cases c : nI r2 ≤ nI r
    · refine Or.inr ⟨nI (A - i), T2, g1, g2, hX.trans (if_pos c), hY.trans (if_pos c), (hK'.tr u5).rel hR (by omega) (by omega)⟩
    · exact Or.inl ⟨(nI (A - (i + 1)), T2, g1), (nI (A - (i + 1)), g2), hX.trans (if_neg c), hY.trans (if_neg c), rfl, rfl, (hK'.tr u5).mono (by omega) (by omega)⟩
  · rintro F G ⟨x, T, e⟩ ⟨y, g⟩ ⟨h1, h2, hK⟩
    have h1' : x = nI (A - (A - o9)) := h1
    have h2' : y = nI (A - (A - o9)) := h2
    have hK' : Kt S1 d1 d2 T e g (3 + 5 * (A - o9)) (18 + 28 * (A - o9)) := hK
    rw [show A - (A - o9) = o9 by omega] at h1' h2'
    subst h1' h2'
    have hFT := hK'.fix hF
    have hNT := hK'.relN hN hF
    obtain ⟨T2, g1, g2, r2, u1, u2, u3, u4, u5⟩ := allWith_eq (a := o9) (b := c9) hNT hFT t1 (by omega) (by omega)
    have hrr : nI r2 = nI r := by
      have u2' := u2
      rw [hK'.row, ← hop, ← hcl] at u2'
      have := most_eq hN hF (hK'.m.relN hN hF) hK'.row t1 s4 u2'
      rw [u3, s5] at this
      exact this
    refine ⟨nI o9, T2, g1, g2, ?_, ?_, (hK'.tr u5).rel hR (by omega) (by omega)⟩
    · show Ws_loose_h31 0 (nI t) (F + 1) (nI r) (nI o9) T e = _
      rw [Ws_loose_h31, Ws_K hFT, Option.bind_some, cr22 hFT, ca26 hFT (show t < 5 by omega), Option.bind_some, hO hNT hK'.row, u1, bind3_some, hrr, if_pos (nI_le (Nat.le_refl _) (by omega))]
    · show Mo_loose_h37 0 (nI t) MoS (G + 1) (nI r) (nI o9) g = _
      rw [Mo_loose_h37, Mo_K, Option.bind_some, hT2 g hK'.row, Option.bind_some, rwi_eq u2, bind2_some, u3, hrr, if_pos (nI_le (Nat.le_refl _) (by omega))]
theorem WsFix.rows {S T : Sp} (hF : WsFix S) (h1 : T.1 = S.1) (h2 : ∀ a, a < 35 → T.2.1 a = S.2.1 a) : WsFix T := by
  obtain ⟨g1, g2, g3, g4, g5⟩ := hF
  exact ⟨fun i hi => by rw [h1]; exact g1 i hi, fun k hk h0 => by rw [h2 0 (by omega)]; exact g2 k hk h0, fun j hj => by rw [h2 11 (by omega)]; exact g3 j hj, fun a ha k hk => by rw [h2 (12 + a) (by omega)]; exact g4 a ha k hk, fun t ht => by rw [h2 16 (by omega)]; exact g5 t ht⟩
/-- a new ledger -/
theorem led_new {S : Sp} {d m : Dt} {t : Nat} (hF : WsFix S) (ht : t ≤ 1) : ∃ S7 d8, (bind2 (some (mmNew S (15, 0) 2, mmNewD S d)) fun S5 d6 => Le_init S.1.length (nI t) S5 d6) = some ((), S7, d8) ∧ Kt S d m S7 d8 m 2 3 ∧ S7.1 = S.1 ++ [(15, 0), (60 + t, 1)] ∧ S7.2.1 S.1.length 0 = some (S.1.length + 1) ∧ d8.1 S.1.length 1 = 0 := by
  have hl := Ws_len hF
  have k1 : Kt S d m (mmNew S (15, 0) 2) (mmNewD S d) m 1 2 := ⟨Ext.new, ⟨Nat.le_refl _, Nat.le_refl _, by show (S.1 ++ [_]).length + _ ≤ S.2.2.1 + 1 + _; rw [List.length_append]; simp only [List.length_cons, List.length_nil]; omega⟩, Kp.rf.new (Nat.le_refl _), Kc.rf.new (by omega), Km.rf, z2_row (by omega), z2_row (by omega)⟩
  obtain ⟨S5, hS5⟩ : ∃ S5, S5 = mmNew S (15, 0) 2 := ⟨_, rfl⟩
  obtain ⟨d6, hd6⟩ : ∃ d6, d6 = mmNewD S d := ⟨_, rfl⟩
  rw [← hS5, ← hd6] at k1
  have x1 : S5.1 = S.1 ++ [(15, 0)] := by rw [hS5]; rfl
  have l5 : S5.1.length = S.1.length + 1 := by rw [x1, List.length_append]; rfl
  have at5 : ∀ sh, (mmNew S5 sh 1).1[S.1.length]? = some (15, 0) := by
    intro sh
    show (S5.1 ++ [sh])[S.1.length]? = _
    rw [List.getElem?_append_left (by omega), x1, List.getElem?_append_right (Nat.le_refl _), Nat.sub_self]; rfl
  have hinit : Le_init S.1.length (nI t) S5 d6 = some ((), sR (mmNew S5 (60 + t, 1) 1) S.1.length 0 (some (S.1.length + 1)), mmNewD S5 d6) := by
    unfold Le_init Le_init_b20
    have g1 : gn 1 = some 1 := gn_ok (n := 1) (by omega)
    obtain rfl | rfl : t = 0 ∨ t = 1 := by omega
    · rw [if_neg (show ¬ ¬ nI 0 = 0 from fun z => z rfl), g1, Option.bind_some, bind2_some, isK_of (at5 _), Option.bind_some, Option.bind_some, l5]
    · rw [if_pos (show ¬ nI 1 = 0 by decide), g1, Option.bind_some, bind2_some, isK_of (at5 _), Option.bind_some, Option.bind_some, l5]
  refine ⟨sR (mmNew S5 (60 + t, 1) 1) S.1.length 0 (some (S.1.length + 1)), mmNewD S5 d6, ?_, ?_, ?_, u2_at, ?_⟩
  · rw [bind2_some, ← hS5, ← hd6]
    exact hinit
  · obtain ⟨a1, a2, a3, a4, a5, a6, a7⟩ := k1
    have hL6 : (mmNew S5 (60 + t, 1) 1).1.length = S.1.length + 2 := by
      show (S5.1 ++ [_]).length = _
      rw [List.length_append, l5]; rfl
    refine ⟨(a1.tr Ext.new).sR (Nat.le_refl _), ⟨?_, ?_, ?_⟩, a3.new (by omega), a4.new (by omega), a5, (z2_row (by omega)).trans a6, (z2_row (by omega)).trans a7⟩
    · show S5.2.2.1 + 1 ≤ _
      omega
    · show S5.2.2.2 + 1 ≤ _
      omega
    · show (mmNew S5 (60 + t, 1) 1).1.length + _ ≤ S5.2.2.1 + 1 + _
      have h5 : S5.2.2.1 = S.2.2.1 + 1 := by rw [hS5]; rfl
      rw [hL6]
      omega
  · show S5.1 ++ [(60 + t, 1)] = _
    rw [x1, List.append_assoc]; rfl
  · show z2 d6.1 S5.1.length 0 S.1.length 1 = 0
    rw [z2_row (by omega), hd6]
    show z2 d.1 S.1.length 0 S.1.length 1 = 0
    exact if_pos rfl
theorem PL_36_Rel : PL_36 Rel := by
  intro n S1 d1 S2 d2 p1 hn hR
  have hU := hR.up
  obtain ⟨rfl, q, hF, hN, hC⟩ := rel_at hR
  have hl := Ws_len hF
  unfold Ws_ledger Mo_ledger
  rw [hC.K, Option.bind_some, hC.T, Option.bind_some, hC.is, Option.bind_some, show (1 : Int64) = (1 : Int32).toInt64 from rfl, Mo_in0, Option.bind_some, Mo_K, Option.bind_some]
  by_cases hb : mw d2 7 ≤ 0
  · rw [if_pos hb, if_pos rfl]
    rcases inI_01 p1 0 1 with e | e
    · rw [e, if_pos rfl]
      exact ⟨_, _, _, _, rfl, rfl, hU⟩
    · rw [e, if_neg (show ¬ (1 : Int32) = 0 by decide), asks_no hb, bind2_some, if_neg (show ¬ ¬ (0 : Int32) = 0 from fun z => z rfl)]
      exact ⟨_, _, _, _, rfl, rfl, tld_kt.rel hR (by omega) (by omega)⟩
  rw [if_neg hb, if_neg (show ¬ (1 : Int32) = 0 by decide), Ws_in0, Option.bind_some]
  rcases inI_lit (x := p1) (n := 1) (by omega) with ⟨z, -⟩ | ⟨t, t1, rfl, z⟩
  · rw [show (1 : Int32) = nI 1 from rfl, z, if_pos rfl, if_neg (show ¬ ¬ (0 : Int32) = 0 from fun z => z rfl)]
    exact ⟨_, _, _, _, rfl, rfl, hU⟩
  rw [show inI (nI t) 0 1 = 1 from z, if_pos (show ¬ (1 : Int32) = 0 by decide), if_neg (show ¬ (1 : Int32) = 0 by decide)]
  obtain ⟨S7, d8, j1, j2, j3, j4, j5⟩ := led_new (d := d1) (m := d2) hF t1
  obtain ⟨L, hL⟩ : ∃ L, L = S1.1.length := ⟨_, rfl⟩
  rw [← hL] at j1 j4 j5 hl
  have hF7 := j2.fix hF
  have hN7 := j2.relN hN hF
  obtain ⟨S', f1, f2, H, r, b, h9, s1, s2, s3, s4, s5, s6, s7, s8, s9⟩ := all1 (p2 := -1) hN7 hF7 hb
  have hK' : Kt S1 d1 d2 S' f1 f2 5 21 := (j2.tr s9).mono (by omega) (by omega)
  have l7 : S7.1.length = L + 2 := by rw [j3, List.length_append, hL]; rfl
  have at7 : S7.1[L]? = some (15, 0) ∧ S7.1[L + 1]? = some (60 + t, 1) := by
    rw [j3, hL, List.getElem?_append_right (Nat.le_refl _), List.getElem?_append_right (by omega), Nat.sub_self, Nat.add_sub_cancel_left]
    exact ⟨rfl, rfl⟩
  have hF' := hK'.fix hF
  have atS : S'.1[L]? = some (15, 0) ∧ S'.1[L + 1]? = some (60 + t, 1) ∧ S'.2.1 L 0 = some (L + 1) := by
    obtain ⟨x1, x2, x3⟩ := s9.1
    exact ⟨(x1 L (by omega)).trans at7.1, (x1 (L + 1) (by omega)).trans at7.2, by rw [x2 L (by omega)]; exact j4⟩
  have hf1L : f1.1 L 1 = 0 := by
    have := s9.2.2.1 L (by omega) (by omega)
    rw [this]; exact j5
  have hrc := RT.rcr s6
  have hstart : (bind2 (some (mmNew S1 (15, 0) 2, mmNewD S1 d1)) fun S5 d6 => bind3 (Le_init S1.1.length (nI t) S5 d6) fun _ S7 d8 => (isK S7 0 (some 0)).bind fun z9 => bind3 (Ws_all 0 (-1) S7 d8) fun r10 S11 d12 => Ws_ledger_h41 0 (nI t) FU (some S1.1.length) r10 0 S11 d12) = Ws_ledger_h41 0 (nI t) FU (some L) (nI r) 0 S' f1 := by
    rw [bind2_some, ← hL]
    rw [bind2_some] at j1
    rw [j1, bind3_some, Ws_K hF7, Option.bind_some, s3, bind3_some]
  rw [hstart, asks_yes hb s4 (hK'.row), bind2_some, if_pos (show ¬ (1 : Int32) = 0 by decide)]
  refine loop2_FU (X := fun F (x : Int32 × Sp × Dt) => Ws_ledger_h41 0 (nI t) F (some L) (nI r) x.1 x.2.1 x.2.2) (Y := fun F (y : Int32 × Int32) => Mo_ledger_h24 0 (nI t) MoS F y.1 y.2 f2) (Inv := fun i x y => x.1 = nI i ∧ y.2 = nI i ∧ x.2.1.1 = S'.1 ∧ (∀ a, a ≠ L + 1 → x.2.1.2.1 a = S'.2.1 a) ∧ (S'.2.2.1 ≤ x.2.1.2.2.1 ∧ x.2.1.2.2.1 ≤ S'.2.2.1 + 3 * i ∧ x.2.1.2.2.2 ≤ S'.2.2.2 + 32 * i) ∧ x.2.2.1 L 1 = y.1 ∧ ∀ a, a ≠ L → x.2.2.1 a = f1.1 a) (P := fun o p => ∃ (a : Int32) (T1 : Sp) (b1 b2 : Dt), o = some (a, T1, b1) ∧ p = some (a, b2) ∧ Rel (n + 1) T1 b1 MoS b2) (x := (0, S', f1)) (y := (0, 0)) r (by omega) ⟨rfl, rfl, rfl, fun _ _ => rfl, ⟨Nat.le_refl _, Nat.le_refl _, Nat.le_refl _⟩, hf1L, fun _ _ => rfl⟩ ?_ ?_
  · rintro i hi F G ⟨x, T, e⟩ ⟨y, c⟩ ⟨h1, h2, h3, h4, h5, h6, h7⟩
    have h1' : x = nI i := h1
    have h2' : c = nI i := h2
    have h3' : T.1 = S'.1 := h3
    have h4' : ∀ a, a ≠ L + 1 → T.2.1 a = S'.2.1 a := h4
    have h5' : S'.2.2.1 ≤ T.2.2.1 ∧ T.2.2.1 ≤ S'.2.2.1 + 3 * i ∧ T.2.2.2 ≤ S'.2.2.2 + 32 * i := h5
    have h6' : e.1 L 1 = y := h6
    have h7' : ∀ a, a ≠ L → e.1 a = f1.1 a := h7
    subst h1' h2'
    have hFT : WsFix T := hF'.rows h3' (fun a ha => h4' a (by omega))
    obtain ⟨⟨v1, v2, v3, v4⟩, kd, kd1, kd2, kd3⟩ := hrc.2.2 i hi
    have e22 : e.1 22 i = nI kd := by rw [h7' 22 (by omega)]; exact kd2
    have m39 : f2.1 39 i = nI kd := v2.symm.trans kd2
    have tL : isK T 15 (some L) = some L := isK_of (by rw [h3']; exact atS.1)
    have tR : T.2.1 L 0 = some (L + 1) := by rw [h4' L (by omega)]; exact atS.2.2
    have aT : T.1[L + 1]? = some (60 + t, 1) := by rw [h3']; exact atS.2.1
    have a28 : T.1[28]? = some (6, 0) := Ws_at0 hFT (by omega) rfl
    have a29 : T.1[29]? = some (7, 0) := Ws_at0 hFT (by omega) rfl
    have hX : Ws_ledger_h41 0 (nI t) (F + 1) (some L) (nI r) (nI i) T e = bind3 (Le_isOffered L (if 6 ≤ kd then some 29 else some 28) T e) fun _ S21 d22 => Ws_ledger_h41 0 (nI t) F (some L) (nI r) (nI (i + 1)) S21 d22 := by
      rw [Ws_ledger_h41, if_neg (nI_ge hi (by omega)), Ws_K hFT, Option.bind_some, cr18 hFT, ca22 hFT (show i < 3000 by omega), Option.bind_some, e22, cr32 hFT, cr33 hFT]
      unfold Ws_ledger_b71
      rw [tL, Option.bind_some, nI_1]
      by_cases c6 : 6 ≤ kd
      · rw [if_pos (show 6 ≤ nI kd from nI_le (a := 6) c6 (by omega)), if_pos c6]
      · rw [if_neg (show ¬ 6 ≤ nI kd from nI_ge (b := 6) (by omega) (by omega)), if_neg c6]
    have hO : Le_isOffered L (if 6 ≤ kd then some 29 else some 28) T e = if (6 ≤ kd ↔ t = 1) then some ((), sR T (L + 1) 0 (if 6 ≤ kd then some 29 else some 28), dI e L 1 (e.1 L 1 + 1)) else some ((), sR (T.1, T.2.1, T.2.2.1 + 3, T.2.2.2 + 32) (L + 1) 0 none, e) := by
      unfold Le_isOffered ntK
      rw [tL, Option.bind_some, tR]
      by_cases c6 : 6 ≤ kd
      · simp only [if_pos c6, Option.bind_some, aT, a29]
        obtain rfl | rfl : t = 0 ∨ t = 1 := by omega
        · simp [c6]
        · simp [c6]
      · simp only [if_neg c6, Option.bind_some, aT, a28]
        obtain rfl | rfl : t = 0 ∨ t = 1 := by omega
        · simp [c6]
        · simp [c6]
    have hY : Mo_ledger_h24 0 (nI t) MoS (G + 1) y (nI i) f2 = Mo_ledger_h24 0 (nI t) MoS G (y + if (6 ≤ kd ↔ t = 1) then 1 else 0) (nI (i + 1)) f2 := by
      rw [Mo_ledger_h24, Mo_K, Option.bind_some, hrc.2.1, if_neg (nI_ge hi (by omega)), MoS_R0_53, ma39 (show i < 4000 by omega), Option.bind_some, m39]
      unfold Mo_ledger_b48 Mo_ledger_b58 Mo_ledger_b66
      rw [Option.bind_some, nI_1]
      have e5 : (nI kd ≤ 5) ↔ ¬ 6 ≤ kd := by
        by_cases c6 : 6 ≤ kd
        · exact ⟨fun z => absurd z (nI_ge (a := 5) (by omega) (by omega)), fun z => absurd c6 z⟩
        · exact ⟨fun _ => c6, fun _ => nI_le (b := 5) (by omega) (by omega)⟩
      by_cases c6 : 6 ≤ kd
      · rw [if_neg (fun z => (e5.mp z) c6)]
        obtain rfl | rfl : t = 0 ∨ t = 1 := by omega
        · rw [if_pos (show ¬ nI 0 = 1 by decide), if_pos (show ¬ (1 : Int32) = 0 by decide), if_neg (fun z => absurd (z.mp c6) (by omega))]
        · rw [if_neg (show ¬ ¬ nI 1 = 1 from fun z => z rfl), if_neg (fun z => z rfl), if_pos ⟨fun _ => rfl, fun _ => c6⟩]
      · rw [if_pos (e5.mpr c6)]
        obtain rfl | rfl : t = 0 ∨ t = 1 := by omega
        · rw [if_pos (show ¬ nI 0 = 1 by decide), if_neg (fun z => z rfl), if_pos ⟨fun z => absurd z c6, fun z => absurd z (by omega)⟩]
        · rw [if_neg (show ¬ ¬ nI 1 = 1 from fun z => z rfl), if_pos (show ¬ (0 : Int32) = 1 by decide), if_neg (fun z => c6 (z.mpr rfl))]
    left
    by_cases c : (6 ≤ kd ↔ t = 1)
    · rw [if_pos c] at hO hY
      rw [hO, bind3_some] at hX
      refine ⟨(nI (i + 1), sR T (L + 1) 0 (if 6 ≤ kd then some 29 else some 28), dI e L 1 (e.1 L 1 + 1)), (y + 1, nI (i + 1)), hX, hY, rfl, rfl, h3', fun a ha => (u2_row ha).trans (h4' a ha), ⟨h5'.1, ?_, ?_⟩, ?_, fun a ha => (dI_ne ha).trans (h7' a ha)⟩
      · show T.2.2.1 ≤ _
        omega
      · show T.2.2.2 ≤ _
        omega
      · show (dI e L 1 (e.1 L 1 + 1)).1 L 1 = y + 1
        rw [dI_at, h6']
    · rw [if_neg c] at hO hY
      rw [hO, bind3_some] at hX
      rw [Int32.add_zero] at hY
      refine ⟨(nI (i + 1), sR (T.1, T.2.1, T.2.2.1 + 3, T.2.2.2 + 32) (L + 1) 0 none, e), (y, nI (i + 1)), hX, hY, rfl, rfl, h3', fun a ha => (u2_row ha).trans (h4' a ha), ⟨?_, ?_, ?_⟩, h6', h7'⟩
      · show _ ≤ T.2.2.1 + 3
        omega
      · show T.2.2.1 + 3 ≤ _
        omega
      · show T.2.2.2 + 32 ≤ _
        omega
  · rintro F G ⟨x, T, e⟩ ⟨y, c⟩ ⟨h1, h2, h3, h4, h5, h6, h7⟩
    have h1' : x = nI r := h1
    have h2' : c = nI r := h2
    have h3' : T.1 = S'.1 := h3
    have h4' : ∀ a, a ≠ L + 1 → T.2.1 a = S'.2.1 a := h4
    have h5' : S'.2.2.1 ≤ T.2.2.1 ∧ T.2.2.1 ≤ S'.2.2.1 + 3 * r ∧ T.2.2.2 ≤ S'.2.2.2 + 32 * r := h5
    have h6' : e.1 L 1 = y := h6
    have h7' : ∀ a, a ≠ L → e.1 a = f1.1 a := h7
    subst h1' h2'
    refine ⟨y, T, e, f2, ?_, ?_, ?_⟩
    · show Ws_ledger_h41 0 (nI t) (F + 1) (some L) (nI r) (nI r) T e = _
      rw [Ws_ledger_h41, if_pos (nI_le (Nat.le_refl _) (by omega)), isK_of (by rw [h3']; exact atS.1), Option.bind_some, h6']
    · show Mo_ledger_h24 0 (nI t) MoS (G + 1) y (nI r) f2 = _
      rw [Mo_ledger_h24, Mo_K, Option.bind_some, hrc.2.1, if_pos (nI_le (Nat.le_refl _) (by omega))]
    · obtain ⟨⟨g1, g2, g3⟩, g4, g5, g6, g7, g8, g9⟩ := hK'
      have hKe : Kt S1 d1 d2 T e f2 (5 + 3 * r) (21 + 32 * r) := by
        refine ⟨⟨fun a ha => by rw [h3']; exact g1 a ha, fun a ha => by rw [h4' a (by omega)]; exact g2 a ha, by rw [h3']; exact g3⟩, ⟨by omega, by omega, by rw [h3']; omega⟩, fun a ha hr => (h7' a (by omega)).trans (g5 a ha hr), ⟨(h7' 8 (by omega)).trans g6.1, fun k y1 y2 => (congrFun (h7' 0 (by omega)) k).trans (g6.2 k y1 y2)⟩, g7, (h7' 25 (by omega)).trans g8, (h7' 26 (by omega)).trans g9⟩
      exact hKe.rel hR (by omega) (by omega)
