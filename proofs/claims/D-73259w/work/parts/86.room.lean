/-! THE PLAIN LAW: room -/
set_option maxRecDepth 100000
theorem not_tab : ∀ a, a < 32 → ∀ b, b < 32 → ((nI a &&& (nI b ^^^ (-1))) = 0 ↔ (nI b &&& nI a) = nI a) := by decide +kernel
section
variable {S : Sp} {d d2 : Dt} {q : TdP} {t : Nat}
theorem CE.dI0 {w : Nat → Int32} (h : CE S d w q) {k : Nat} {x : Int32} : CE S (dI d 0 k x) w q := h.go (Kp.rf.dI (Or.inl rfl))
/-- what is lawful where task t is longer by x -/
theorem law_x (h : CE S d (mw d2) q) (ht : t < q.nt) {x : Nat} (hx : x ≤ 50) (h6 : d.1 0 6 = nI t) (h7 : d.1 0 7 = nI x) {e e1 : Dt} (hw : mw e = mw d2) (hl : Mo_laysCosts 0 MoS e = some ((), e1)) (hk : Kg e e1) (hm : grM e1 q (fun _ => 0) (fun i => 2 ^ i - 1)) : ∃ A, A < 32 ∧ Ws_lawfulNow 0 S d = some (nI A) ∧ Mo_lawfulNow 0 MoS (dI (dI e1 8 t (e1.1 8 t + nI x)) 9 t ((dI e1 8 t (e1.1 8 t + nI x)).1 9 t + nI x)) = some (nI A) := by
  have h5 := h.nt5
  generalize hE : dI (dI e1 8 t (e1.1 8 t + nI x)) 9 t ((dI e1 8 t (e1.1 8 t + nI x)).1 9 t + nI x) = E
  have ew1 : mw e1 = mw d2 := (hk 1 (by omega)).trans hw
  have ew : mw E = mw d2 := by rw [← hE]; exact ((dI_ne (by omega)).trans (dI_ne (by omega))).trans ew1
  have hC : CE S d (mw E) q := by rw [ew]; exact h
  refine lawfulNow_eq hC (g := fun i => if i = t then x else 0) (fun i hi => ?_) (fun i hi => ?_)
  · rw [h6, h7]
    by_cases e : i = t
    · subst e
      rw [if_neg (fun z => z rfl)]
      show nI x = nI (if i = i then x else 0) ∧ (if i = i then x else 0) ≤ 50
      rw [if_pos rfl]
      exact ⟨rfl, hx⟩
    · rw [if_pos (fun z => e ((nI_eq (by omega) (by omega)).mp z))]
      show (0 : Int32) = nI (if i = t then x else 0) ∧ (if i = t then x else 0) ≤ 50
      rw [if_neg e]
      exact ⟨rfl, by omega⟩
  · obtain ⟨y1, y2, y3, y4⟩ := hm i hi
    rw [ew1] at y1 y2
    rw [ew, ← hE]
    show _ = nI (lgN (mw d2) i (q.nd i) + if i = t then x else 0) ∧ _ = nI (shN (mw d2) i (q.nd i) + if i = t then x else 0) ∧ _
    by_cases e : i = t
    · subst e
      rw [if_pos rfl]
      refine ⟨?_, ?_, ?_, y4⟩
      · rw [dI_ne (by omega), dI_at, y1, nI_add]
        rfl
      · rw [dI_at, dI_ne (by omega), y2, nI_add]
        rfl
      · rw [dI_ne (by omega), dI_ne (by omega)]
        exact y3
    · rw [if_neg e]
      refine ⟨?_, ?_, ?_, y4⟩
      · rw [dI_ne (by omega), dI_nk (fun z => e z.2)]
        exact y1
      · rw [dI_nk (fun z => e z.2), dI_ne (by omega)]
        exact y2
      · rw [dI_ne (by omega), dI_ne (by omega)]
        exact y3
end
/-- the greatest x <= n that has p; 0 if none -/
def mxP (p : Nat → Bool) : Nat → Nat
  | 0 => 0
  | n + 1 => if p (n + 1) then n + 1 else mxP p n
theorem mxP_le (p : Nat → Bool) : ∀ n, mxP p n ≤ n := by
  intro n
  induction n with
  | zero => exact Nat.le_refl 0
  | succ n ih =>
    show (if p (n + 1) then n + 1 else mxP p n) ≤ n + 1
    split <;> omega
theorem PL_12_Rel : PL_12 Rel := by
  intro n S1 d1 S2 d2 p1 hn hR
  have hU := hR.up
  obtain ⟨rfl, q, hF, hN, hC⟩ := rel_at hR
  have h5 := hC.nt5
  have hfree : ∀ d1' d2', Kp S1 d1 d1' → d1'.1 8 = d1.1 8 → (∀ k, k ≠ 6 → k ≠ 7 → d1'.1 0 k = d1.1 0 k) → d1'.1 0 6 = -1 → d1'.1 25 = d1.1 25 → d1'.1 26 = d1.1 26 → Kg d2 d2' → Rel (n + 1) S1 d1' MoS d2' := by
    intro d1' d2' k1 k8 k0 k6 k25 k26 kg
    refine hR.go Ext.rf ⟨by omega, by omega, by omega⟩ k1 ⟨k8, fun k ha hb => ?_⟩ kg.km k25 k26
    by_cases e : k = 6
    · rw [e, k6]
      obtain ⟨-, -, -, -, -, -, -, -, g, -⟩ := hN
      exact g.symm
    · exact k0 k e (by omega)
  unfold Ws_room Mo_room
  rw [hC.K, Mo_K]
  simp only [Option.bind_some]
  rw [hC.isTask, Mo_isTask_eq, hC.wf.2.1.1]
  simp only [Option.bind_some]
  rcases inI_nI (x := p1) (n := q.nt) (by omega) with ⟨e, -⟩ | ⟨t, ht, rfl, e⟩
  · rw [e, if_neg (fun z => z rfl), if_neg (fun z => z rfl)]
    exact ⟨_, _, _, rfl, rfl, hU⟩
  rw [e, if_pos (show ¬ (1 : Int32) = 0 by decide), if_pos (show ¬ (1 : Int32) = 0 by decide)]
  obtain ⟨e0, g1, g2, g3⟩ := lays_eq hC
  obtain ⟨A, hA, y1, y2⟩ := lawfulNow_eq (Kg.ce hC g2) (hN.gr0 h5) g3
  rw [y1, Option.bind_some, g1, bind2_some, y2, Option.bind_some]
  -- what is lawful at each x
  have hx : ∀ x, x ≤ 50 → ∃ B, B < 32 ∧ (∀ d, Kp S1 d1 d → d.1 0 6 = nI t → d.1 0 7 = nI x → Ws_lawfulNow 0 S1 d = some (nI B)) ∧ ∀ e, Kg d2 e → ∃ e', Mo_laysCosts 0 MoS e = some ((), e') ∧ Kg d2 e' ∧ Mo_lawfulNow 0 MoS (dI (dI e' 8 t (e'.1 8 t + nI x)) 9 t ((dI e' 8 t (e'.1 8 t + nI x)).1 9 t + nI x)) = some (nI B) := by
    intro x hx
    have hd0 : CE S1 (dI (dI d1 0 6 (nI t)) 0 7 (nI x)) (mw d2) q := hC.dI0.dI0
    obtain ⟨B, hB, b1, b2⟩ := law_x hd0 ht hx (by rw [dI_nk (by omega), dI_at]) dI_at rfl g1 g2 g3
    refine ⟨B, hB, fun d hk h6 h7 => ?_, fun e he => ?_⟩
    · obtain ⟨B', -, c1, c2⟩ := law_x (hC.go hk) ht hx h6 h7 rfl g1 g2 g3
      rw [c1, ← c2, b2]
    · have hCe : CE S1 d1 (mw e) q := Kg.ce hC he
      obtain ⟨e', z1, z2, z3⟩ := lays_eq hCe
      obtain ⟨B', -, c1, c2⟩ := law_x hd0 ht hx (by rw [dI_nk (by omega), dI_at]) dI_at (he 1 (by omega)) z1 z2 z3
      refine ⟨e', z1, he.tr z2, ?_⟩
      rw [c2, ← c1, b1]
  have hB0 : ∃ B : Nat → Nat, ∀ x, x ≤ 50 → B x < 32 ∧ (∀ d, Kp S1 d1 d → d.1 0 6 = nI t → d.1 0 7 = nI x → Ws_lawfulNow 0 S1 d = some (nI (B x))) ∧ ∀ e, Kg d2 e → ∃ e', Mo_laysCosts 0 MoS e = some ((), e') ∧ Kg d2 e' ∧ Mo_lawfulNow 0 MoS (dI (dI e' 8 t (e'.1 8 t + nI x)) 9 t ((dI e' 8 t (e'.1 8 t + nI x)).1 9 t + nI x)) = some (nI (B x)) :=
    ⟨fun x => if h : x ≤ 50 then Classical.choose (hx x h) else 0, fun x h => by
      have := Classical.choose_spec (hx x h)
      simpa only [dif_pos h] using this⟩
  obtain ⟨B, hB⟩ := hB0
  generalize hp : (fun x => decide ((nI (B x) &&& nI A) = nI A)) = p
  have hpx : ∀ x, p x = true ↔ (nI (B x) &&& nI A) = nI A := fun x => by rw [← hp]; exact decide_eq_true_iff
  -- the component goes down
  have hc : ∃ d1', Ws_room_h27 0 (nI t) S1 FU (nI A) (dI (dI d1 0 6 (nI t)) 0 7 50) = some (nI (mxP p 50), d1') ∧ Kp S1 d1 d1' ∧ d1'.1 8 = d1.1 8 ∧ (∀ k, k ≠ 6 → k ≠ 7 → d1'.1 0 k = d1.1 0 k) ∧ d1'.1 0 6 = -1 ∧ d1'.1 25 = d1.1 25 ∧ d1'.1 26 = d1.1 26 := by
    refine loop_mu (X := fun F (d : Dt) => Ws_room_h27 0 (nI t) S1 F (nI A) d) (Inv := fun d => ∃ x, x ≤ 50 ∧ d.1 0 7 = nI x ∧ d.1 0 6 = nI t ∧ mxP p 50 = mxP p x ∧ Kp S1 d1 d ∧ d.1 8 = d1.1 8 ∧ (∀ k, k ≠ 6 → k ≠ 7 → d.1 0 k = d1.1 0 k) ∧ d.1 25 = d1.1 25 ∧ d.1 26 = d1.1 26) (μ := fun d => (d.1 0 7).toNatClampNeg) (P := fun o => ∃ d1', o = some (nI (mxP p 50), d1') ∧ Kp S1 d1 d1' ∧ d1'.1 8 = d1.1 8 ∧ (∀ k, k ≠ 6 → k ≠ 7 → d1'.1 0 k = d1.1 0 k) ∧ d1'.1 0 6 = -1 ∧ d1'.1 25 = d1.1 25 ∧ d1'.1 26 = d1.1 26) ?_ 50 _ FU ⟨50, Nat.le_refl _, dI_at, by rw [dI_nk (by omega), dI_at], rfl, (Kp.rf.dI (Or.inl rfl)).dI (Or.inl rfl), by rw [dI_ne (by omega), dI_ne (by omega)], fun k z1 z2 => by rw [dI_nk (fun z => z2 z.2), dI_nk (fun z => z1 z.2)], by rw [dI_ne (by omega), dI_ne (by omega)], by rw [dI_ne (by omega), dI_ne (by omega)]⟩ (by rw [dI_at]; decide) (show 50 < 10000 by decide)
    rintro F d ⟨x, x1, x2, x3, x4, x5, x6, x7, x8, x9⟩
    have hD : CE S1 d (mw d2) q := hC.go x5
    show (∃ d', Ws_room_h27 0 (nI t) S1 (F + 1) (nI A) d = Ws_room_h27 0 (nI t) S1 F (nI A) d' ∧ _) ∨ ∃ d1', Ws_room_h27 0 (nI t) S1 (F + 1) (nI A) d = _ ∧ _
    rw [Ws_room_h27, hD.K, Option.bind_some, x2]
    have hend : ∀ v, Kp S1 d1 (dI d 0 6 v) ∧ (dI d 0 6 v).1 8 = d1.1 8 ∧ (∀ k, k ≠ 6 → k ≠ 7 → (dI d 0 6 v).1 0 k = d1.1 0 k) ∧ (dI d 0 6 v).1 0 6 = v ∧ (dI d 0 6 v).1 25 = d1.1 25 ∧ (dI d 0 6 v).1 26 = d1.1 26 := fun v => ⟨x5.dI (Or.inl rfl), by rw [dI_ne (by omega)]; exact x6, fun k z1 z2 => by rw [dI_nk (fun z => z1 z.2)]; exact x7 k z1 z2, dI_at, by rw [dI_ne (by omega)]; exact x8, by rw [dI_ne (by omega)]; exact x9⟩
    by_cases h0 : x = 0
    · subst h0
      right
      rw [if_pos (by decide), Option.bind_some]
      exact ⟨_, by rw [x4]; rfl, hend (-1)⟩
    obtain ⟨m, rfl⟩ : ∃ m, x = m + 1 := ⟨x - 1, by omega⟩
    rw [if_neg (nI_nle (by omega) (by omega)), (hB (m + 1) x1).2.1 d x5 x3 x2, Option.bind_some]
    by_cases hpm : (nI (B (m + 1)) &&& nI A) = nI A
    · right
      rw [if_neg (fun z => z hpm), Option.bind_some, Option.bind_some]
      refine ⟨_, ?_, hend (-1)⟩
      rw [x4]
      show _ = some (nI (if p (m + 1) then m + 1 else mxP p m), _)
      rw [if_pos ((hpx (m + 1)).mpr hpm)]
    · left
      rw [if_pos hpm, Option.bind_some, nI_pred]
      refine ⟨_, rfl, ⟨m, by omega, dI_at, by rw [dI_nk (by omega)]; exact x3, ?_, x5.dI (Or.inl rfl), by rw [dI_ne (by omega)]; exact x6, fun k z1 z2 => by rw [dI_nk (fun z => z2 z.2)]; exact x7 k z1 z2, by rw [dI_ne (by omega)]; exact x8, by rw [dI_ne (by omega)]; exact x9⟩, ?_⟩
      · rw [x4]
        show (if p (m + 1) then m + 1 else mxP p m) = mxP p m
        rw [if_neg (fun z => hpm ((hpx (m + 1)).mp z))]
      · show ((dI d 0 7 (nI m)).1 0 7).toNatClampNeg < (nI (m + 1)).toNatClampNeg
        rw [dI_at, nI_clamp (by omega), nI_clamp (by omega)]
        omega
  -- the model goes up
  have hm : ∃ d2', Mo_room_h25 0 (nI t) MoS FU (nI A) 0 1 e0 = some (nI (mxP p 50), d2') ∧ Kg d2 d2' := by
    refine loop_FU (X := fun F (x : Int32 × Int32 × Dt) => Mo_room_h25 0 (nI t) MoS F (nI A) x.1 x.2.1 x.2.2) (Inv := fun i x => x.1 = nI (mxP p i) ∧ x.2.1 = nI (i + 1) ∧ Kg d2 x.2.2) (P := fun o => ∃ d2', o = some (nI (mxP p 50), d2') ∧ Kg d2 d2') (x := (0, 1, e0)) 50 (by omega) ⟨rfl, rfl, g2⟩ ?_ ?_
    · rintro i hi F ⟨v3, v4, e⟩ ⟨rfl, rfl, hk⟩
      have hk' : Kg d2 e := hk
      obtain ⟨e', z1, z2, z3⟩ := (hB (i + 1) (by omega)).2.2 e hk'
      refine ⟨(nI (mxP p (i + 1)), nI (i + 1 + 1), dI (dI e' 8 t (e'.1 8 t + nI (i + 1))) 9 t ((dI e' 8 t (e'.1 8 t + nI (i + 1))).1 9 t + nI (i + 1))), ?_, rfl, rfl, fun a ha => ?_⟩
      · show Mo_room_h25 0 (nI t) MoS (F + 1) (nI A) (nI (mxP p i)) (nI (i + 1)) e = Mo_room_h25 0 (nI t) MoS F (nI A) (nI (mxP p (i + 1))) (nI (i + 1 + 1)) _
        rw [Mo_room_h25, if_neg (show ¬ (50 : Int32) < nI (i + 1) from nI_nlt (a := 50) (by omega) (by omega)), Mo_K, Option.bind_some, z1, bind2_some, MoS_R0_16, ma8 (show t < 5 by omega), Option.bind_some, Option.bind_some, MoS_R0_17, ma9 (show t < 5 by omega), Option.bind_some, Option.bind_some]
        show (Mo_lawfulNow 0 MoS (dI (dI e' 8 t (e'.1 8 t + nI (i + 1))) 9 t ((dI e' 8 t (e'.1 8 t + nI (i + 1))).1 9 t + nI (i + 1)))).bind _ = _
        rw [z3, Option.bind_some, nI_1]
        have hnt := not_tab A hA (B (i + 1)) (hB (i + 1) (by omega)).1
        have e9 : (if ¬ (nI A &&& (nI (B (i + 1)) ^^^ (-1))) = 0 then nI (mxP p i) else nI (i + 1)) = nI (mxP p (i + 1)) := by
          show _ = nI (if p (i + 1) then i + 1 else mxP p i)
          by_cases hpm : (nI (B (i + 1)) &&& nI A) = nI A
          · rw [if_neg (fun z => z (hnt.mpr hpm)), if_pos ((hpx (i + 1)).mpr hpm)]
          · rw [if_pos (fun z => hpm (hnt.mp z)), if_neg (fun z => hpm ((hpx (i + 1)).mp z))]
        rw [e9]
      · show (dI (dI e' 8 t _) 9 t _).1 a = _
        rw [dI_ne (by omega), dI_ne (by omega)]
        exact z2 a ha
    · rintro F ⟨v3, v4, e⟩ ⟨rfl, rfl, hk⟩
      refine ⟨e, ?_, hk⟩
      show Mo_room_h25 0 (nI t) MoS (F + 1) (nI A) (nI (mxP p 50)) (nI (50 + 1)) e = _
      rw [Mo_room_h25, if_pos (show (50 : Int32) < nI (50 + 1) by decide)]
  obtain ⟨d1', c1, c2, c3, c4, c5, c6, c7⟩ := hc
  obtain ⟨d2', m1, m2⟩ := hm
  exact ⟨_, _, _, c1, m1, hfree d1' d2' c2 c3 c4 c5 c6 c7 m2⟩
