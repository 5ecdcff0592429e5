/-! READING: the end of a line, the whole of it -/
set_option maxRecDepth 100000
section
variable {S0 S S' T : Sp} {d0 m0 d m d' m' d'' m'' x y : Dt} {rd sz ap tk a c c0 k9 z nw nt ni ln : Nat} {nd tks ij : Nat → Nat} {w w' : Nat → Int32} {lo hi v : Int32}
theorem WP.cong7 (h : WP w nw nt ni nd) (hw : ∀ j, j ≠ 7 → w' j = w j) : WP w' nw nt ni nd := by
  obtain ⟨x1, x2, x3, x4, x5, x6, x7⟩ := h
  refine ⟨⟨(hw 3 (by omega)).trans x1.1, x1.2⟩, ⟨(hw 4 (by omega)).trans x2.1, x2.2⟩, ⟨(hw 5 (by omega)).trans x3.1, x3.2.1, (hw 6 (by omega)).trans x3.2.2⟩, fun v hv => ?_, fun t ht => ?_, fun i hi => (x6 i hi).cong (fun f hf => hw _ (by omega)), fun t h1 h2 => (hw _ (by omega)).trans (x7 t h1 h2)⟩
  · rcases x4 v hv with ⟨h1, h2⟩ | ⟨u, h1, h2⟩
    · exact Or.inl ⟨h1, (hw 8 (by omega)).trans h2⟩
    · exact Or.inr ⟨u, h1, (hw _ (by omega)).trans h2⟩
  · obtain ⟨g1, ⟨a, p, o, c9, le, mo, g2, g3, g4⟩, g5⟩ := x5 t ht
    refine ⟨⟨g1.1, (hw _ (by omega)).trans g1.2⟩, ⟨a, p, o, c9, le, mo, (hw _ (by omega)).trans g2, g3, ?_⟩, fun n hn => ?_⟩
    · rw [hw (11 + 7 * t + 1) (by omega), hw (11 + 7 * t + 2) (by omega), hw (11 + 7 * t + 3) (by omega), hw (11 + 7 * t + 4) (by omega), hw (11 + 7 * t + 5) (by omega)]
      exact g4
    · rw [hw (46 + 2 * (6 * t + n)) (by omega), hw (46 + 2 * (6 * t + n) + 1) (by omega)]
      exact g5 n hn
/-- the end of a line -/
theorem PT.eol (h : PT S d w rd nw nt ni nd tks ij) (hr : S.1[rd]? = some (10, 0)) (hw : ∀ j, j ≠ 7 → w' j = w j) (h7 : w' 7 = v) : PT S (dI d (rd + 2) 8 v) w' rd nw nt ni nd tks ij := by
  have dr : ∀ b, b ≠ rd + 2 → (dI d (rd + 2) 8 v).1 b = d.1 b := fun b hb => dI_ne hb
  have d2 : ∀ f, f ≠ 8 → (dI d (rd + 2) 8 v).1 (rd + 2) f = d.1 (rd + 2) f := fun f hf => dI_nk (by omega)
  have hp := h
  obtain ⟨z1, ⟨l1, l2, l3, l4, l5, l6, l7⟩, ⟨k1, k2, k3, k4, k5, k6, k7⟩, hT, hI, ⟨y1, y2, y3, y4, y5, y6, y7⟩, hW⟩ := h
  have h5 := hW.2.1.2
  refine ⟨z1, ⟨l1, l2, l3, (congrFun (dr _ (by omega)) 2).trans l4, l5, l6, l7⟩, ⟨k1, k2, k3, (congrFun (dr _ (by omega)) 2).trans k4, k5, k6, k7⟩, hT.lst rfl (fun _ _ => rfl) (fun b hb _ => dr b (by omega)) (fun j h1 h2 => hw j (by omega)) h5, hI.lst rfl (fun b hb => dr b (hp.nd13 hr hb).2.1) (fun j h1 h2 => hw j (by omega)), ⟨fun v hv => ?_, ?_, ?_, ?_, ?_, ?_, ?_⟩, hW.cong7 hw⟩
  · rw [dr _ (by omega), hw _ (by omega)]; exact y1 v hv
  · rw [d2 3 (by omega), hw 0 (by omega)]; exact y2
  · rw [d2 4 (by omega), hw 1 (by omega)]; exact y3
  · rw [d2 5 (by omega), hw 2 (by omega)]; exact y4
  · rw [d2 6 (by omega), hw 3 (by omega)]; exact y5
  · rw [d2 7 (by omega), hw 5 (by omega)]; exact y6
  · rw [dI_at, h7]
theorem b91_3 (hg : m.1 0 12 = 0) (ht : m.1 0 10 = 3) (hn : Mo_advance 0 MoS m = some ((), m')) (h7 : m'.1 6 7 = nI ln) : Mo_readText_b91 0 MoS m = some ((), dI m' 6 7 (nI (ln + 1))) := by
  unfold Mo_readText_b91
  rw [Mo_K, Option.bind_some, good_1 hg, Option.bind_some, if_neg (show ¬ (1 : Int32) = 0 by decide), if_pos ht]
  unfold Mo_readText_b111
  rw [Mo_K, Option.bind_some, good_1 hg, Option.bind_some, if_neg (show ¬ (1 : Int32) = 0 by decide), hn, bind2_some]
  unfold Mo_readText_b122
  rw [Mo_K, Option.bind_some, show aix MoS 50 (MoS.2.1 0 14) 7 = some (6, 7) from Mf 7 (by omega), Option.bind_some, h7, nI_1, Option.bind_some]
theorem b91_n (hg : m.1 0 12 = 0) (ht : ¬ m.1 0 10 = 3) (he : Mo_errs 0 1 MoS m = some ((), m')) (hb : ¬ m'.1 0 12 = 0) : ∃ m2, Mo_readText_b91 0 MoS m = some ((), m2) ∧ ∀ a, a ≠ 6 → m2.1 a = m'.1 a := by
  obtain ⟨m2, h1, h2⟩ := b111_bad hb
  refine ⟨m2, ?_, h2⟩
  unfold Mo_readText_b91
  rw [Mo_K, Option.bind_some, good_1 hg, Option.bind_some, if_neg (show ¬ (1 : Int32) = 0 by decide), if_neg ht, he, bind2_some]
  exact h1
theorem b131_bad (hb : ¬ m.1 0 12 = 0) : Mo_board_b131 0 MoS m = some (-4, m) := by
  unfold Mo_board_b131
  rw [Mo_K, Option.bind_some, good_0 hb, Option.bind_some, if_neg (show ¬ ¬ (0 : Int32) = 0 from fun q => q rfl)]
theorem h77_bad (hb : ¬ m.1 0 12 = 0) {g : Nat} : Mo_board_h77 0 MoS (g + 1) v m = some (-4, m) := by
  rw [Mo_board_h77, Mo_K, Option.bind_some, show aix MoS 50 (MoS.2.1 0 14) 4 = some (6, 4) from Mf 4 (by omega), Option.bind_some, good_0 hb, Option.bind_some, if_pos rfl, b131_bad hb]
  split
  · rfl
  · rfl
theorem h54_bad (hb : ¬ m.1 0 12 = 0) {g : Nat} : Mo_board_h54 0 MoS (g + 1) m = some (-4, m) := by
  rw [Mo_board_h54, Mo_K, Option.bind_some, good_0 hb, Option.bind_some, if_pos rfl]
  unfold Mo_board_b75
  exact h77_bad hb (g := 9999)
/-- a task without nodes -/
theorem fault4 (h : Rs S0 d0 m0 rd sz c ap tk S d m) {k : Int32} : ∃ z S' d', (bind2 (some (mmNew S (11, 0) 8, mmNewD S d)) fun S20 d21 => bind3 (Fa_init S.1.length 4 k S20 d21) fun _ S22 d23 => (isK S22 11 (some S.1.length)).bind fun z24 => (some (.inr z24, S22, d23) : Option (((Option Nat) ⊕ Nat) × Sp × Dt))) = some (.inr z, S', d') ∧ Flt S0 d0 m0 (c + 1) z S' d' (dI (dI m 0 12 4) 0 13 k) := by
  obtain ⟨hS, ⟨⟨x1, x2, x3, x4, x5, x6, x7⟩, ⟨bg, g1, g2, g3⟩, -⟩, hg, hg2, ⟨b1, b2, b3, b4, b5⟩, hrd⟩ := h
  have hlr := (List.getElem?_eq_some_iff.mp hS.2.2.1).1
  obtain ⟨S1, hS1⟩ : ∃ S1, S1 = mmNew S (11, 0) 8 := ⟨_, rfl⟩
  obtain ⟨e1, he1⟩ : ∃ e1, e1 = mmNewD S d := ⟨_, rfl⟩
  have xl : S1.1 = S.1 ++ [(11, 0)] := by rw [hS1]; rfl
  have atL : S1.1[S.1.length]? = some (11, 0) := by rw [xl, List.getElem?_append_right (Nat.le_refl _), Nat.sub_self]; rfl
  have hE : Ext S S1 := by rw [hS1]; exact Ext.new
  have hr : ∀ a, a ≠ S.1.length → e1.1 a = d.1 a := fun a ha => by rw [he1]; exact z2_row ha
  have hE2 : Ext S (thS S1 S.1.length) := by
    refine ⟨hE.1, fun a ha => ?_, hE.2.2⟩
    rw [← hE.2.1 a ha]
    funext j
    exact if_neg (fun z => by omega)
  refine ⟨S.1.length, thS S1 S.1.length, dI (dI e1 S.1.length 6 4) S.1.length 7 k, ?_, ⟨⟨b1.tr hE2, ?_, fun a ha => ?_, fun a h1 h2 => ?_, fun j hj => ?_⟩, atL, by have := b1.2.2; omega, ?_, ?_, ?_⟩⟩
  · unfold Fa_init Th_RF thI
    rw [bind2_some, ← hS1, ← he1, if_pos ⟨⟨rfl, rfl⟩, rfl, rfl⟩, isK_of atL, Option.bind_some, bind3_some, show isK (thS S1 S.1.length) 11 (some S.1.length) = some S.1.length from isK_of atL, Option.bind_some, Option.bind_some, Option.bind_some, bind3_some, show isK (thS S1 S.1.length) 11 (some S.1.length) = some S.1.length from isK_of atL, Option.bind_some]
  · have k1 : S1.2.2.1 = S.2.2.1 + 1 ∧ S1.2.2.2 = S.2.2.2 + 8 := by rw [hS1]; exact ⟨rfl, rfl⟩
    have k2 : S1.1.length = S.1.length + 1 := by rw [xl, List.length_append]; rfl
    show S1.2.2.1 ≤ _ ∧ S1.2.2.2 ≤ _ ∧ S1.1.length + _ ≤ S1.2.2.1 + _
    omega
  · have := b1.2.2
    rw [dI_ne (by omega), dI_ne (by omega), hr a (by omega)]
    exact b3 a ha
  · rw [dI_ne h1, dI_ne h1]
    exact b4 a h1 h2
  · rw [dI_nk (by omega), dI_nk (by omega)]
    exact b5 j hj
  · rw [dI_nk (by omega), dI_at, dI_nk (by omega), dI_at]
  · rw [dI_at, dI_at]
  · rw [dI_nk (by omega), dI_at]
    decide
/-- no task without nodes -/
theorem ends_eq (h : Rs S0 d0 m0 rd sz (c0 + (3 * nt + ni)) ap tk S d m) (hp : PT S d (m.1 6) rd nw nt ni nd tks ij) (hh : HD (m.1 6) ln nw nt ni) (hl : ln ≤ 1000) : RdE S0 d0 m0 rd sz c0 (Re_reads_h47 rd FU 0 S d) (Mo_board_b75 0 MoS m) := by
  have hx := hp.wp
  have hk23 : 3 * nt + ni ≤ 23 := by
    have := hx.2.1.2
    have := hx.2.2.1.2.1
    omega
  have h5 := hx.2.1.2
  have e4 : m.1 6 4 = nI nt := hx.2.1.1
  unfold Mo_board_b75
  refine loop2p_FU (X := fun F (x : Int32) => Re_reads_h47 rd F x S d) (Y := fun F (x : Int32) => Mo_board_h77 0 MoS F x m) (Inv := fun k x y => (x = nI k ∧ y = nI k) ∧ ∀ t, t < k → 1 ≤ nd t) (P := fun o p => RdE S0 d0 m0 rd sz c0 o p) (x := 0) (y := 0) nt (by omega) ⟨⟨rfl, rfl⟩, fun t ht => absurd ht (by omega)⟩ ?_ ?_
  · rintro k hk F G x y ⟨⟨rfl, rfl⟩, hn⟩
    obtain ⟨⟨o1, o2, o3, o4, o5, -⟩, -⟩ := hp.2.2.2.1 k hk
    have e2 : (11 : Int32) + 7 * nI k + 6 = nI (11 + 7 * k + 6) := by rw [nlit, nlit, nlit, nI_mul, nI_add, nI_add]
    obtain ⟨o, ho⟩ : ∃ o, o = Re_reads_h47 rd (F + 2) (nI k) S d := ⟨_, rfl⟩
    obtain ⟨p, hq⟩ : ∃ p, p = Mo_board_h77 0 MoS (G + 2) (nI k) m := ⟨_, rfl⟩
    have ho' := ho
    have hq' := hq
    rw [Re_reads_h47, h.1.K, Option.bind_some, hp.K h.1, Option.bind_some, hp.kT, Option.bind_some, list_sz hp.2.1, Option.bind_some, if_neg (nI_ge hk (by omega)), list_get hp.2.1 hk (by omega), Option.bind_some, isK_of o1, Option.bind_some, o3] at ho
    rw [Mo_board_h77, Mo_K, Option.bind_some, show aix MoS 50 (MoS.2.1 0 14) 4 = some (6, 4) from Mf 4 (by omega), Option.bind_some, e4, if_neg (nI_ge hk (by omega)), good_1 h.2.2.1, Option.bind_some, if_neg (show ¬ (1 : Int32) = 0 by decide), e2, Mf (11 + 7 * k + 6) (by omega), Option.bind_some, o4] at hq
    by_cases cn : nd k = 0
    · rw [cn] at ho hq
      rw [if_neg (show ¬ ¬ nI 0 = 0 from fun q => q rfl)] at ho
      rw [if_pos (show nI 0 ≤ 0 by decide), Option.bind_some, Option.bind_some] at hq
      obtain ⟨z, S', d', f1, f2⟩ := fault4 h (k := nI k)
      refine Or.inr (Or.inl ⟨z, S', d', _, ho'.symm.trans (ho.trans f1), hq'.symm.trans (hq.trans (h77_bad f2.2.2.2.2.2)), f2.mono (by omega)⟩)
    · rw [if_pos (nI_ne0 (by omega) (by omega)), nI_1] at ho
      rw [if_neg (nI_nle (by omega) (by omega)), nI_1] at hq
      refine Or.inl ⟨_, _, ho'.symm.trans ho, hq'.symm.trans hq, ⟨rfl, rfl⟩, fun t ht => ?_⟩
      by_cases e : t = k
      · subst e
        omega
      · exact hn t (by omega)
  · rintro F G x y ⟨⟨rfl, rfl⟩, hn⟩
    refine Or.inr ⟨S, d, m, ap, tk, nw, nt, ni, nd, tks, ij, ln, ?_, ?_, h, hp, hh, hl, hn⟩
    · show Re_reads_h47 rd (F + 1) (nI nt) S d = _
      rw [Re_reads_h47, h.1.K, Option.bind_some, hp.K h.1, Option.bind_some, hp.kT, Option.bind_some, list_sz hp.2.1, Option.bind_some, if_pos (nI_le (Nat.le_refl _) (by omega)), h.1.2.2.2.2.2.1]
    · show Mo_board_h77 0 MoS (G + 1) (nI nt) m = _
      rw [Mo_board_h77, Mo_K, Option.bind_some, show aix MoS 50 (MoS.2.1 0 14) 4 = some (6, 4) from Mf 4 (by omega), Option.bind_some, e4, if_pos (nI_le (Nat.le_refl _) (by omega))]
/-- all lines -/
theorem reads_eq : ∀ (n : Nat) (S : Sp) (d m : Dt) (ap tk nw nt ni ln : Nat) (nd tks ij : Nat → Nat) (f g : Nat), Rs S0 d0 m0 rd sz (c0 + (3 * nt + ni)) ap tk S d m → PT S d (m.1 6) rd nw nt ni nd tks ij → HD (m.1 6) ln nw nt ni → ln ≤ ap → sz - ap ≤ n → n + 2 ≤ f → n + 2 ≤ g → RdE S0 d0 m0 rd sz c0 (Re_reads_h0 rd f S d) (Mo_board_h54 0 MoS g m) := by
  intro n
  induction n using Nat.strongRecOn with
  | ind n ih =>
    intro S d m ap tk nw nt ni ln nd tks ij f g h hp hh hla hn hf hg
    obtain ⟨F, rfl⟩ : ∃ F, f = F + 1 := ⟨f - 1, by omega⟩
    obtain ⟨G, rfl⟩ : ∃ G, g = G + 1 + 1 := ⟨g - 2, by omega⟩
    have hsz := h.2.1.1.1
    have hap := h.2.1.1.2.1
    have htk := h.2.1.2.2.1
    obtain ⟨o, ho⟩ : ∃ o, o = Re_reads_h0 rd (F + 1) S d := ⟨_, rfl⟩
    obtain ⟨p, hq⟩ : ∃ p, p = Mo_board_h54 0 MoS (G + 1 + 1) m := ⟨_, rfl⟩
    rw [← ho, ← hq]
    rw [Re_reads_h0, h.1.K, Option.bind_some, h.2.1.2.2.2.1] at ho
    rw [Mo_board_h54, Mo_K, Option.bind_some, good_1 h.2.2.1, Option.bind_some, if_neg (show ¬ (1 : Int32) = 0 by decide), h.2.1.2.2.2.2.1] at hq
    by_cases ct : tk = 0
    · subst ct
      rw [if_pos (show nI 0 = 0 from rfl)] at ho hq
      rw [ho, hq]
      exact ends_eq h hp hh (by omega)
    have ct' : ¬ nI tk = 0 := nI_ne0 (by omega) (by omega)
    rw [if_neg ct'] at ho hq
    rcases line_eq h hp hh (by omega) with ⟨z, S', d', m', f1, f2, f3⟩ | ⟨S', d', m', a, tk', nw', nt', ni', nd', tks', ij', g1, g2, g3, g4, g5, g6, ⟨h9, cy, lo9, y1, y2, y3, y4, y5, y6, y7, y8⟩, g8⟩
    · rw [f1, bindE_r] at ho
      rw [f2, bind2_some, h54_bad f3.2.2.2.2.2] at hq
      exact Or.inl ⟨z, S', d', m', ho, hq, f3⟩
    rw [g1, bindE_l, g3.1.K, Option.bind_some, g3.2.1.2.2.2.1] at ho
    rw [g2] at hq
    have htk' := g3.2.1.2.2.1
    have haz := g3.2.1.1.2.1
    have hk23 : 3 * nt' + ni' ≤ 23 := by
      have := g6.wp.2.1.2
      have := g6.wp.2.2.1.2.1
      omega
    by_cases c3 : tk' = 3
    · subst c3
      obtain ⟨d2, m2, a2, t2, n1, n2, n3, n4, n5, n6⟩ := next_rs g3
      have p2 := g6.nx g3.1.2.2.1 n6
      have r6 : ∀ j, m2.1 6 j = m'.1 6 j := fun j => congrFun (n6.2.2.1 6 (by omega)) j
      have e7 : m2.1 6 7 = nI ln := (r6 7).trans (g8.trans hh.1)
      have e8 : d2.1 (rd + 2) 8 = nI ln := p2.pf.2.2.2.2.2.2.trans e7
      have hlt := g5 (by omega)
      rw [if_pos (show nI 3 = 3 from rfl), n1, bind2_some, g6.K g3.1, Option.bind_some, e8, nI_1, Option.bind_some] at ho
      rw [b91_3 g3.2.2.1 g3.2.1.2.2.2.2.1 n2 e7, bind2_some] at hq
      rw [ho, hq]
      exact ih (sz - a2) (by omega) _ _ _ a2 t2 nw' nt' ni' (ln + 1) nd' tks' ij' _ _ (n3.wr (fun b hb => dI_ne (by omega)) (fun b hb => dI_ne hb)) (p2.eol n3.1.2.2.1 (fun j hj => dI_nk (by omega)) dI_at) ⟨dI_at, ⟨h9, cy, lo9, (dI_nk (by omega)).trans ((r6 0).trans y1), y2, (dI_nk (by omega)).trans ((r6 1).trans y3), y4, (dI_nk (by omega)).trans ((r6 2).trans y5), y6, fun _ => ⟨y7, y8⟩⟩, fun q => absurd q (by omega)⟩ (by omega) (Nat.le_refl _) (by omega) (by omega)
    · have c3' : ¬ nI tk' = 3 := fun q => c3 ((nI_eq (b := 3) (by omega) (by omega)).mp q)
      obtain ⟨z, S2, d2, m2, f1, f2, f3, -⟩ := fault_eq (γ := Option Nat) g3 (k := 1) (by omega) (by omega)
      rw [if_neg c3'] at ho
      obtain ⟨m3, h1, h2⟩ := b91_n g3.2.2.1 (by rw [g3.2.1.2.2.2.2.1]; exact c3') f2 f3.2.2.2.2.2
      have f4 := f3.m6 h2
      rw [h1, bind2_some, h54_bad f4.2.2.2.2.2] at hq
      exact Or.inl ⟨z, S2, d2, m3, ho.trans f1, hq, f4.mono (by omega)⟩
end
