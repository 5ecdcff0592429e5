/-! READING: all lines -/
set_option maxRecDepth 100000
/-- the first line's facts, the number of lines -/
def HD (w : Nat → Int32) (ln nw nt ni : Nat) : Prop := w 7 = nI ln ∧ (∃ h9 cy lo9, w 0 = nI h9 ∧ h9 ≤ 200 ∧ w 1 = nI cy ∧ cy ≤ 50 ∧ w 2 = nI lo9 ∧ lo9 ≤ 9 ∧ (0 < ln → 20 ≤ h9 ∧ 5 ≤ cy)) ∧ (ln = 0 → nw = 0 ∧ nt = 0 ∧ ni = 0)
/-- a line, before its end -/
def LnB (S0 : Sp) (d0 m0 : Dt) (rd sz c0 ap : Nat) (m : Dt) (o : Option ((Unit ⊕ Nat) × Sp × Dt)) (p : Option (Unit × Dt)) : Prop := ∃ S' d' m' a tk' nw nt ni nd tks ij, o = some (.inl (), S', d') ∧ p = Mo_readText_b91 0 MoS m' ∧ Rs S0 d0 m0 rd sz (c0 + (3 * nt + ni)) a tk' S' d' m' ∧ ap ≤ a ∧ (tk' ≠ 0 → ap < a) ∧ PT S' d' (m'.1 6) rd nw nt ni nd tks ij ∧ (∃ h9 cy lo9, m'.1 6 0 = nI h9 ∧ h9 ≤ 200 ∧ m'.1 6 1 = nI cy ∧ cy ≤ 50 ∧ m'.1 6 2 = nI lo9 ∧ lo9 ≤ 9 ∧ 20 ≤ h9 ∧ 5 ≤ cy) ∧ m'.1 6 7 = m.1 6 7
/-- what reading ends in -/
def RdE (S0 : Sp) (d0 m0 : Dt) (rd sz c0 : Nat) (o : Option (((Option Nat) ⊕ Nat) × Sp × Dt)) (p : Option (Int32 × Dt)) : Prop := (∃ z S' d' m', o = some (.inr z, S', d') ∧ p = some (-4, m') ∧ Flt S0 d0 m0 (c0 + 40) z S' d' m') ∨ ∃ S' d' m' a tk' nw nt ni nd tks ij ln, o = some (.inl (some (rd + 2)), S', d') ∧ p = Mo_board_b131 0 MoS m' ∧ Rs S0 d0 m0 rd sz (c0 + (3 * nt + ni)) a tk' S' d' m' ∧ PT S' d' (m'.1 6) rd nw nt ni nd tks ij ∧ HD (m'.1 6) ln nw nt ni ∧ ln ≤ 1000 ∧ ∀ t, t < nt → 1 ≤ nd t
section
variable {S0 S S' T : Sp} {d0 m0 d m d' m' d'' m'' x y : Dt} {rd sz ap tk a c c0 k9 z nw nt ni ln : Nat} {nd tks ij : Nat → Nat} {w w' : Nat → Int32} {lo hi : Int32}
theorem wordOf_eq {k : Nat} (hk : k ≤ 5) : Mo_wordOf (nI k) MoS m = some (some (OPQ + k)) := by
  obtain rfl | rfl | rfl | rfl | rfl | rfl : k = 0 ∨ k = 1 ∨ k = 2 ∨ k = 3 ∨ k = 4 ∨ k = 5 := by omega
  · rfl
  · rfl
  · rfl
  · rfl
  · rfl
  · rfl
/-- which injection -/
theorem kind_eq (h : Rs S0 d0 m0 rd sz c ap tk S d m) : (∃ z S' d' m', Re_kind rd S d = some (.inr z, S', d') ∧ Mo_kindRead 0 MoS m = some (-1) ∧ Mo_errs 0 1 MoS m = some ((), m') ∧ Flt S0 d0 m0 (c + 1) z S' d' m') ∨ ∃ k, k ≤ 5 ∧ Re_kind rd S d = some (.inl (nI k), S, d) ∧ Mo_kindRead 0 MoS m = some (nI k) := by
  unfold Re_kind Mo_kindRead
  have hS := h.1
  refine loop2p_FU (X := fun F (x : Int32) => Re_kind_h2 rd F x S d) (Y := fun F (x : Int32) => Mo_kindRead_h2 0 MoS m F x) (Inv := fun k x y => x = nI k ∧ y = nI k) (P := fun o p => (∃ z S' d' m', o = some (.inr z, S', d') ∧ p = some (-1) ∧ Mo_errs 0 1 MoS m = some ((), m') ∧ Flt S0 d0 m0 (c + 1) z S' d' m') ∨ ∃ k, k ≤ 5 ∧ o = some (.inl (nI k), S, d) ∧ p = some (nI k)) (x := 0) (y := 0) 6 (by omega) ⟨rfl, rfl⟩ ?_ ?_
  · rintro k hk F G x y ⟨rfl, rfl⟩
    obtain ⟨b, b1, b2, b3⟩ := is_eq hS h.2.1 h.2.2.1 (i := k) (by omega)
    have hX : Re_kind_h2 rd (F + 2) (nI k) S d = if b = 0 then Re_kind_h2 rd (F + 1) (nI k + 1) S d else some (.inl (nI k), S, d) := by
      rw [Re_kind_h2, hS.K, Option.bind_some, hS.2.2.2.1, aln_ok hS.2.2.2.2.2.2.1, Option.bind_some, if_neg (nI_ge hk (by omega)), aix_nI hS.2.2.2.2.2.2.1 hk (by omega), Option.bind_some, hS.2.2.2.2.2.2.2 k hk, b1, Option.bind_some]
    have hY : Mo_kindRead_h2 0 MoS m (G + 2) (nI k) = if b = 0 then Mo_kindRead_h2 0 MoS m (G + 1) (nI k + 1) else some (nI k) := by
      rw [Mo_kindRead_h2, if_neg (show ¬ (5 : Int32) < nI k from nI_nlt (a := 5) (by omega) (by omega)), wordOf_eq (by omega), Option.bind_some, Mo_K, Option.bind_some, b2, Option.bind_some]
    rcases b3 with rfl | rfl
    · rw [if_pos rfl, nI_1] at hX hY
      exact Or.inl ⟨_, _, hX, hY, rfl, rfl⟩
    · rw [if_neg (show ¬ (1 : Int32) = 0 by decide)] at hX hY
      exact Or.inr (Or.inr ⟨k, by omega, hX, hY⟩)
  · rintro F G x y ⟨rfl, rfl⟩
    obtain ⟨z, S', d', m', f1, f2, f3, -⟩ := fault_eq (γ := Int32) h (k := 1) (by omega) (by omega)
    refine Or.inl ⟨z, S', d', m', ?_, ?_, f2, f3⟩
    · show Re_kind_h2 rd (F + 1) (nI 6) S d = _
      rw [Re_kind_h2, hS.K, Option.bind_some, hS.2.2.2.1, aln_ok hS.2.2.2.2.2.2.1, Option.bind_some, if_pos (nI_le (Nat.le_refl _) (by omega))]
      exact f1
    · show Mo_kindRead_h2 0 MoS m (G + 1) (nI 6) = _
      rw [Mo_kindRead_h2, if_pos (show (5 : Int32) < nI 6 from nI_lt (a := 5) (by omega) (by omega))]
theorem b122_bad : Safe m (Mo_readText_b122 0 MoS m) := by
  unfold Mo_readText_b122
  rw [Mo_K, Option.bind_some]
  exact bs_ix (show aix MoS 50 (MoS.2.1 0 14) 7 = some (6, 7) from Mf 7 (by omega)) (bs_some bs_end)
theorem b111_bad : Safe m (Mo_readText_b111 0 MoS m) := by
  intro hb
  unfold Mo_readText_b111
  rw [Mo_K, Option.bind_some, good_0 hb, Option.bind_some, if_pos rfl]
  exact b122_bad hb
theorem b91_bad : Safe m (Mo_readText_b91 0 MoS m) := by
  intro hb
  unfold Mo_readText_b91
  rw [Mo_K, Option.bind_some, good_0 hb, Option.bind_some, if_pos rfl]
  exact b111_bad hb
theorem OF.line {c' : Nat} {o1 o : Option ((Unit ⊕ Nat) × Sp × Dt)} {q1 p : Option (Unit × Dt)} (g : OF S0 d0 m0 c () o1 q1) (hc : c ≤ c') (ho : o = bindE o1 (fun v9 S9 d9 => some (.inr v9, S9, d9)) fun _ S2 d3 => some (.inl (), S2, d3)) (hq : p = bind2 q1 fun _ d7 => Mo_readText_b91 0 MoS d7) : OF S0 d0 m0 c' () o p := by
  obtain ⟨z, S', d', m', f1, f2, f3⟩ := g
  rw [f1, bindE_r] at ho
  rw [f2, bind2_some] at hq
  refine (OF.of ho f3 ?_).mono hc
  rw [hq]
  exact b91_bad
theorem LOk.line {o1 o : Option ((Unit ⊕ Nat) × Sp × Dt)} {q1 p : Option (Unit × Dt)} (g : LOk S0 d0 m0 rd sz c ap k9 m o1 q1) (hc : c = c0 + k9) (hh : ∃ h9 cy lo9, m.1 6 0 = nI h9 ∧ h9 ≤ 200 ∧ m.1 6 1 = nI cy ∧ cy ≤ 50 ∧ m.1 6 2 = nI lo9 ∧ lo9 ≤ 9 ∧ 20 ≤ h9 ∧ 5 ≤ cy) (ho : o = bindE o1 (fun v9 S9 d9 => some (.inr v9, S9, d9)) fun _ S2 d3 => some (.inl (), S2, d3)) (hq : p = bind2 q1 fun _ d7 => Mo_readText_b91 0 MoS d7) : LnB S0 d0 m0 rd sz c0 ap m o p := by
  obtain ⟨S', d', m', a, tk', nw, nt, ni, nd, tks, ij, e, f1, f2, f3, f4, f5, f6, f7, f8⟩ := g
  rw [f1, bindE_l] at ho
  rw [f2, bind2_some] at hq
  subst hc
  subst e
  refine ⟨S', d', m', a, tk', nw, nt, ni, nd, tks, ij, ho, hq, f3, f4, f5, f6, ?_, f8⟩
  rw [f7 0 (by omega), f7 1 (by omega), f7 2 (by omega)]
  exact hh
/-- one line -/
theorem line_eq (h : Rs S0 d0 m0 rd sz (c0 + (3 * nt + ni)) ap tk S d m) (hp : PT S d (m.1 6) rd nw nt ni nd tks ij) (hh : HD (m.1 6) ln nw nt ni) (hl : ln ≤ 1000) : OF S0 d0 m0 (c0 + 40) () (Re_line rd S d) (Mo_readText 0 MoS m) ∨ LnB S0 d0 m0 rd sz c0 ap m (Re_line rd S d) (Mo_readText 0 MoS m) := by
  have hx := hp.wp
  have hk23 : 3 * nt + ni ≤ 23 := by
    have := hx.2.1.2
    have := hx.2.2.1.2.1
    omega
  have e8 : d.1 (rd + 2) 8 = nI ln := hp.pf.2.2.2.2.2.2.trans hh.1
  have e7 : m.1 6 7 = nI ln := hh.1
  obtain ⟨o, ho⟩ : ∃ o, o = Re_line rd S d := ⟨_, rfl⟩
  obtain ⟨p, hq⟩ : ∃ p, p = Mo_readText 0 MoS m := ⟨_, rfl⟩
  rw [← ho, ← hq]
  obtain ⟨kk, hkk⟩ : ∃ kk, Mo_kindRead 0 MoS m = some kk := by
    rcases kind_eq h with ⟨_, _, _, _, _, g, _⟩ | ⟨_, _, _, g⟩
    · exact ⟨_, g⟩
    · exact ⟨_, g⟩
  unfold Re_line at ho
  rw [h.1.K, Option.bind_some, hp.K h.1, Option.bind_some, e8] at ho
  unfold Mo_readText at hq
  rw [Mo_K, Option.bind_some, hkk, Option.bind_some, show aix MoS 50 (MoS.2.1 0 14) 7 = some (6, 7) from Mf 7 (by omega), Option.bind_some, e7] at hq
  by_cases cl : ln = 0
  · subst cl
    rw [if_neg (show ¬ ¬ nI 0 = 0 from fun q => q rfl)] at ho hq
    obtain ⟨rfl, rfl, rfl⟩ := hh.2.2 rfl
    rcases board_eq h hp with g | ⟨d', m', a, tk', g1, g2, g3, g4, g5, g6, ⟨h9, cy, lo9, y1, y2, y3, y4, y5, y6, y7, y8⟩, g8⟩
    · exact Or.inl (g.line (by omega) ho hq)
    · rw [g1, bindE_l] at ho
      rw [g2, bind2_some] at hq
      exact Or.inr ⟨S, d', m', a, tk', 0, 0, 0, nd, tks, ij, ho, hq, g3, g4, g5, g6, ⟨h9, cy, lo9, y1, y3, y4, y6, y7, y8, y2, y5⟩, g8⟩
  have cl' : ¬ nI ln = 0 := nI_ne0 (by omega) (by omega)
  have h3 : ∃ h9 cy lo9, m.1 6 0 = nI h9 ∧ h9 ≤ 200 ∧ m.1 6 1 = nI cy ∧ cy ≤ 50 ∧ m.1 6 2 = nI lo9 ∧ lo9 ≤ 9 ∧ 20 ≤ h9 ∧ 5 ≤ cy := by
    obtain ⟨-, ⟨h9, cy, lo9, y1, y2, y3, y4, y5, y6, y7⟩, -⟩ := hh
    exact ⟨h9, cy, lo9, y1, y2, y3, y4, y5, y6, y7 (by omega)⟩
  rw [if_pos cl'] at ho hq
  obtain ⟨b1, x1, x2, x3⟩ := is_eq h.1 h.2.1 h.2.2.1 (i := 10) (by omega)
  rw [x1, Option.bind_some] at ho
  rw [x2, Option.bind_some] at hq
  rcases x3.symm with rfl | rfl
  · rw [if_neg (show ¬ (1 : Int32) = 0 by decide)] at ho hq
    rcases watcher_eq h hp with g | g
    · exact Or.inl (g.line (by omega) ho hq)
    · exact Or.inr (g.line rfl h3 ho hq)
  rw [if_pos rfl] at ho hq
  obtain ⟨b2, x1, x2, x3⟩ := is_eq h.1 h.2.1 h.2.2.1 (i := 13) (by omega)
  rw [x1, Option.bind_some] at ho
  rw [x2, Option.bind_some] at hq
  rcases x3.symm with rfl | rfl
  · rw [if_neg (show ¬ (1 : Int32) = 0 by decide)] at ho hq
    rcases task_eq h hp with g | g
    · exact Or.inl (g.line (by omega) ho hq)
    · exact Or.inr (g.line rfl h3 ho hq)
  rw [if_pos rfl] at ho hq
  obtain ⟨b3, x1, x2, x3⟩ := is_eq h.1 h.2.1 h.2.2.1 (i := 19) (by omega)
  rw [x1, Option.bind_some] at ho
  rw [x2, Option.bind_some] at hq
  rcases x3.symm with rfl | rfl
  · rw [if_neg (show ¬ (1 : Int32) = 0 by decide)] at ho hq
    rcases node_eq h hp with g | g
    · exact Or.inl (g.line (by omega) ho hq)
    · exact Or.inr (g.line rfl h3 ho hq)
  rw [if_pos rfl] at ho hq
  rcases kind_eq h with ⟨z, S', d', m', k1, k2, k3, k4⟩ | ⟨k, hk, k1, k2⟩
  · have ek : kk = -1 := Option.some.inj (hkk.symm.trans k2)
    subst ek
    rw [k1, bindE_r] at ho
    rw [if_pos rfl, k3, bind2_some] at hq
    refine Or.inl ((OF.of ho k4 ?_).mono (by omega))
    rw [hq]
    exact b91_bad
  · have ek : kk = nI k := Option.some.inj (hkk.symm.trans k2)
    subst ek
    rw [k1, bindE_l, h.1.K, Option.bind_some] at ho
    rw [if_neg (show ¬ nI k = -1 from fun q => nI_pos (n := k) (by omega) (by rw [q]; decide))] at hq
    rcases inj_eq h hp hk with g | g
    · exact Or.inl (g.line (by omega) ho hq)
    · exact Or.inr (g.line rfl h3 ho hq)
end
