/-! THE RUN: the component's rungs -/
set_option maxRecDepth 100000
section
variable {w : Nat → Int32} {q : TdP} {u k kh kg r b t : Nat} {kj : Nat → Nat} {S0 S S' : Sp} {d0 m0 d e f e1 e2 f1 f2 : Dt} {op cl : Nat → Nat} {W : Int32} {F0 : Int32 × (Nat → Int32)} {P V P' V' : Nat → Prop}
theorem gr_eq (h : CE S d w q) (hT : d.1 0 25 = nI k) (hk : k < 200) {a v : Nat} (ha : a < 4) (ha1 : 1 ≤ a) (hv : v < 3) {p1 : Int32} : ∃ e, Gr_acts (12 + a) p1 (nI v) S d = some ((), e) ∧ RsC w q k (fun s => w (11 + 7 * s) = nI v) (fun _ => False) d e := by
  have h5 := h.nt5
  unfold Gr_acts
  refine loop_FU (X := fun F (x : Int32 × Dt) => Gr_acts_h2 (12 + a) p1 (nI v) S F x.1 x.2) (Inv := fun i x => x.1 = nI i ∧ RsC w q k (fun s => s < i ∧ w (11 + 7 * s) = nI v) (fun _ => False) d x.2) (P := fun o => ∃ e, o = some ((), e) ∧ RsC w q k (fun s => w (11 + 7 * s) = nI v) (fun _ => False) d e) (x := (0, d)) q.nt (by omega) ⟨rfl, RsC.rf.iff (fun t ht => ⟨fun z => z.elim, fun z => absurd z.1 (by omega)⟩) (fun _ => Iff.rfl)⟩ ?_ ?_
  · rintro i hi F ⟨x, y⟩ ⟨hx, g⟩
    have hx' : x = nI i := hx
    subst hx'
    have g' : RsC w q k (fun s => s < i ∧ w (11 + 7 * s) = nI v) (fun _ => False) d y := g
    have hC := g'.ce h
    obtain ⟨c, c1, c2, c3⟩ := hC.wat hi
    show ∃ x' : Int32 × Dt, Gr_acts_h2 (12 + a) p1 (nI v) S (F + 1) (nI i) y = _ ∧ _
    rw [Gr_acts_h2, hC.rgK ha (by omega), Option.bind_some, hC.rgO ha (by omega), Option.bind_some, hC.tasks, Option.bind_some, if_neg (nI_ge hi (by omega)), hC.taskOf hi, Option.bind_some, hC.tK hi, Option.bind_some, c3, nI_1]
    by_cases c4 : nI c = nI v
    · rw [if_neg (fun z => z c4)]
      obtain ⟨e, r1, r2⟩ := ru_eq hC ((congrFun (g'.2.2.2.2.1 0 (by omega) (by omega)) 25).trans hT) hk hi ha (p2 := nI v)
      rw [r1, bind2_some]
      refine ⟨(nI (i + 1), e), rfl, rfl, (g'.tr r2).iff (fun s hs => ?_) (fun _ => ⟨fun z => z.elim id id, fun z => Or.inl z⟩)⟩
      constructor
      · rintro (⟨z1, z2⟩ | z1)
        · exact ⟨by omega, z2⟩
        · subst z1
          exact ⟨by omega, c2.trans c4⟩
      · rintro ⟨z1, z2⟩
        by_cases z3 : s = i
        · exact Or.inr z3
        · exact Or.inl ⟨by omega, z2⟩
    · rw [if_pos c4]
      refine ⟨(nI (i + 1), y), rfl, rfl, g'.iff (fun s hs => ?_) (fun _ => Iff.rfl)⟩
      constructor
      · rintro ⟨z1, z2⟩
        exact ⟨by omega, z2⟩
      · rintro ⟨z1, z2⟩
        refine ⟨?_, z2⟩
        by_cases z3 : s = i
        · subst z3
          exact absurd (c2.symm.trans z2) c4
        · omega
  · rintro F ⟨x, y⟩ ⟨hx, g⟩
    have hx' : x = nI q.nt := hx
    subst hx'
    have g' : RsC w q k (fun s => s < q.nt ∧ w (11 + 7 * s) = nI v) (fun _ => False) d y := g
    have hC := g'.ce h
    show ∃ e, Gr_acts_h2 (12 + a) p1 (nI v) S (F + 1) (nI q.nt) y = _ ∧ _
    rw [Gr_acts_h2, hC.rgK ha (by omega), Option.bind_some, hC.rgO ha (by omega), Option.bind_some, hC.tasks, Option.bind_some, if_pos (nI_le (Nat.le_refl _) (by omega))]
    exact ⟨y, rfl, g'.iff (fun s hs => ⟨fun z => z.2, fun z => ⟨hs, z⟩⟩) (fun _ => Iff.rfl)⟩
theorem wa_eq (h : CE S d w q) (hT : d.1 0 25 = nI k) (hk : k < 200) {a c : Nat} (ha : a < 4) (ha1 : 2 ≤ a) (hc : c < 3) {p1 : Int32} : ∃ e, Wa_acts (12 + a) p1 (nI c) S d = some ((), e) ∧ RsC w q k (fun s => ∃ v, v < q.nw ∧ U w c v = true ∧ w (11 + 7 * s) = nI v) (fun v => v < q.nw ∧ U w c v = true) d e := by
  have h3 := h.nw3
  have h5 := h.nt5
  unfold Wa_acts
  refine loop_FU (X := fun F (x : Int32 × Dt) => Wa_acts_h2 (12 + a) p1 (nI c) S F x.1 x.2) (Inv := fun i x => x.1 = nI i ∧ RsC w q k (fun s => ∃ v, v < i ∧ U w c v = true ∧ w (11 + 7 * s) = nI v) (fun v => v < i ∧ U w c v = true) d x.2) (P := fun o => ∃ e, o = some ((), e) ∧ RsC w q k (fun s => ∃ v, v < q.nw ∧ U w c v = true ∧ w (11 + 7 * s) = nI v) (fun v => v < q.nw ∧ U w c v = true) d e) (x := (0, d)) q.nw (by omega) ⟨rfl, RsC.rf.iff (fun t ht => ⟨fun z => z.elim, fun ⟨v, z, _⟩ => absurd z (by omega)⟩) (fun _ => ⟨fun z => z.elim, fun z => absurd z.1 (by omega)⟩)⟩ ?_ ?_
  · rintro i hi F ⟨x, y⟩ ⟨hx, g⟩
    have hx' : x = nI i := hx
    subst hx'
    have g' : RsC w q k (fun s => ∃ v, v < i ∧ U w c v = true ∧ w (11 + 7 * s) = nI v) (fun v => v < i ∧ U w c v = true) d y := g
    have hC := g'.ce h
    have hT' : y.1 0 25 = nI k := (congrFun (g'.2.2.2.2.1 0 (by omega) (by omega)) 25).trans hT
    show ∃ x' : Int32 × Dt, Wa_acts_h2 (12 + a) p1 (nI c) S (F + 1) (nI i) y = _ ∧ _
    rw [Wa_acts_h2, hC.rgK ha (by omega), Option.bind_some, hC.rgO ha (by omega), Option.bind_some, hC.T, Option.bind_some, hC.nwF, if_neg (nI_ge hi (by omega)), hC.under hc hi, Option.bind_some, nI_1]
    by_cases c4 : U w c i = true
    · rw [if_pos c4, if_pos (show ¬ (1 : Int32) = 0 by decide)]
      obtain ⟨e, r1, r2⟩ := gr_eq hC hT' hk ha (by omega) (v := i) (by omega) (p1 := p1)
      have hC2 := r2.ce hC
      have hT2 : e.1 0 25 = nI k := (congrFun (r2.2.2.2.2.1 0 (by omega) (by omega)) 25).trans hT'
      rw [r1, bind2_some, cr14 hC.F, ca18 hC.F (show i < 3 by omega), Option.bind_some, Option.bind_some, hT2]
      have r3 : RsC w q k (fun _ => False) (fun v => v = i) e (dI e 18 i (nI k)) := ⟨fun _ _ z => z.elim, fun t ht _ => u2_row (by omega), fun v z => by subst z; exact u2_at, fun v z => u2_ne (fun y => z y.2), fun a h1 _ => u2_row h1, rfl⟩
      refine ⟨(nI (i + 1), _), rfl, rfl, ((g'.tr r2).tr r3).iff (fun s hs => ?_) (fun v => ?_)⟩
      · constructor
        · rintro ((⟨v, z1, z2⟩ | z1) | z)
          · exact ⟨v, by omega, z2⟩
          · exact ⟨i, by omega, c4, z1⟩
          · exact z.elim
        · rintro ⟨v, z1, z2, z3⟩
          by_cases z4 : v = i
          · subst z4
            exact Or.inl (Or.inr z3)
          · exact Or.inl (Or.inl ⟨v, by omega, z2, z3⟩)
      · constructor
        · rintro ((⟨z1, z2⟩ | z1) | z)
          · exact ⟨by omega, z2⟩
          · exact z1.elim
          · subst z
            exact ⟨by omega, c4⟩
        · rintro ⟨z1, z2⟩
          by_cases z4 : v = i
          · exact Or.inr z4
          · exact Or.inl (Or.inl ⟨by omega, z2⟩)
    · rw [if_neg c4, if_neg (fun z => z rfl)]
      refine ⟨(nI (i + 1), y), rfl, rfl, g'.iff (fun s hs => ?_) (fun v => ?_)⟩
      · constructor
        · rintro ⟨v, z1, z2⟩
          exact ⟨v, by omega, z2⟩
        · rintro ⟨v, z1, z2, z3⟩
          by_cases z4 : v = i
          · subst z4
            exact absurd z2 c4
          · exact ⟨v, by omega, z2, z3⟩
      · constructor
        · rintro ⟨z1, z2⟩
          exact ⟨by omega, z2⟩
        · rintro ⟨z1, z2⟩
          by_cases z4 : v = i
          · subst z4
            exact absurd z2 c4
          · exact ⟨by omega, z2⟩
  · rintro F ⟨x, y⟩ ⟨hx, g⟩
    have hx' : x = nI q.nw := hx
    subst hx'
    have g' : RsC w q k (fun s => ∃ v, v < q.nw ∧ U w c v = true ∧ w (11 + 7 * s) = nI v) (fun v => v < q.nw ∧ U w c v = true) d y := g
    have hC := g'.ce h
    show ∃ e, Wa_acts_h2 (12 + a) p1 (nI c) S (F + 1) (nI q.nw) y = _ ∧ _
    rw [Wa_acts_h2, hC.rgK ha (by omega), Option.bind_some, hC.rgO ha (by omega), Option.bind_some, hC.T, Option.bind_some, hC.nwF, if_pos (nI_le (Nat.le_refl _) (by omega))]
    exact ⟨y, rfl, g'⟩
theorem bo_eq (h : CE S d w q) (hT : d.1 0 25 = nI k) (hk : k < 200) (hb : d.1 0 26 = nI b) (hb3 : b < 3) {p1 p2 : Int32} : ∃ S' e z, Bo_acts 15 p1 p2 S d = some (.inr z, S', e) ∧ (Ext S S' ∧ S'.2.2.1 = S.2.2.1 + 1 ∧ S'.2.2.2 = S.2.2.2 + 6 ∧ S'.1.length = S.1.length + 1) ∧
    ∃ d2, RsC w q k (fun _ => True) (fun v => v < q.nw) d d2 ∧ (∀ v, v < S.1.length → v ≠ 0 → e.1 v = d2.1 v) ∧ (∀ f, f ≠ 26 → f ≠ 27 → e.1 0 f = d2.1 0 f) ∧ e.1 0 26 = nI (b + 1) ∧ e.1 0 27 = (if b + 1 = 3 then nI k else d.1 0 27) ∧ ∀ v, v < S.1.length → e.2.1 v = d2.2.1 v ∧ e.2.2 v = d2.2.2 v := by
  have hl := Ws_len h.F
  have h3 := h.nw3
  obtain ⟨d2, r1, r2⟩ := wa_eq h hT hk (a := 3) (c := 0) (by omega) (by omega) (by omega) (p1 := p1)
  have r3 : RsC w q k (fun _ => True) (fun v => v < q.nw) d d2 := r2.iff (fun s hs => ⟨fun _ => trivial, fun _ => by
    obtain ⟨c, c1, c2, -⟩ := h.wat hs
    exact ⟨c, c1, und_root h 4 c (by omega) c1, c2⟩⟩) (fun v => ⟨fun z => z.1, fun z => ⟨z, und_root h 4 v (by omega) z⟩⟩)
  have hC2 := r2.ce h
  have e0 : d2.1 0 = d.1 0 := r2.2.2.2.2.1 0 (by omega) (by omega)
  have hI : isK (mmNew S (14, 0) 6) 14 (some S.1.length) = some S.1.length := isK_of (n := 0) (by show (S.1 ++ [(14, 0)])[S.1.length]? = some (14, 0); simp)
  have h44 : ∀ d4 : Dt, Bo_acts_b44 15 p1 p2 S d4 = some (.inr S.1.length, thS (mmNew S (14, 0) 6) S.1.length, mmNewD S d4) := by
    intro d4
    unfold Bo_acts_b44 Rs_init Th_ER thI
    rw [bind2_some, if_pos ⟨⟨rfl, rfl⟩, rfl, rfl⟩, hI, Option.bind_some, bind3_some, bind3_some, show isK (thS (mmNew S (14, 0) 6) S.1.length) 14 (some S.1.length) = some S.1.length from hI, Option.bind_some]
  have hE : Ext S (thS (mmNew S (14, 0) 6) S.1.length) := by
    have := Ext.new (S := S) (sh := (14, 0)) (k := 6)
    refine ⟨this.1, fun a ha => ?_, this.2.2⟩
    rw [← this.2.1 a ha]
    funext j
    exact if_neg (fun z => by omega)
  have hS : (Ext S (thS (mmNew S (14, 0) 6) S.1.length) ∧ (thS (mmNew S (14, 0) 6) S.1.length).2.2.1 = S.2.2.1 + 1 ∧ (thS (mmNew S (14, 0) 6) S.1.length).2.2.2 = S.2.2.2 + 6 ∧ (thS (mmNew S (14, 0) 6) S.1.length).1.length = S.1.length + 1) := ⟨hE, rfl, rfl, by simp [thS, mmNew]⟩
  have hn : ∀ d4 : Dt, ∀ v, v < S.1.length → (mmNewD S d4).1 v = d4.1 v ∧ (mmNewD S d4).2.1 v = d4.2.1 v ∧ (mmNewD S d4).2.2 v = d4.2.2 v := fun d4 v hv => ⟨z2_row (by omega), z2_row (by omega), z2_row (by omega)⟩
  unfold Bo_acts
  rw [show isRg S 5 (some 15) = some 15 from h.rgK (a := 3) (c := 5) (by omega) (by omega), Option.bind_some, show Wa_acts 15 p1 0 S d = _ from r1, bind2_some, show isK S 0 (S.2.1 15 3) = some 0 from h.rgO (a := 3) (k := 3) (by omega) (by omega), Option.bind_some, Option.bind_some, e0, hb, nI_1, show (dI d2 0 26 (nI (b + 1))).1 0 26 = nI (b + 1) from dI_at]
  by_cases c3 : b + 1 = 3
  · rw [if_neg (fun z => z (by rw [c3]; rfl)), Option.bind_some, h44]
    refine ⟨_, _, _, rfl, hS, d2, r3, fun v hv h0 => ?_, fun f f1 f2 => ?_, ?_, ?_, fun v hv => ⟨(hn _ v hv).2.1, (hn _ v hv).2.2⟩⟩
    · rw [(hn _ v hv).1, dI_ne h0, dI_ne h0]
    · rw [(hn _ 0 (by omega)).1, dI_nk (by omega), dI_nk (by omega)]
    · rw [(hn _ 0 (by omega)).1, dI_nk (by omega), dI_at]
    · rw [(hn _ 0 (by omega)).1, dI_at, if_pos c3, dI_nk (by omega), e0, hT]
  · rw [if_pos (show ¬ nI (b + 1) = 3 from fun z => c3 ((nI_eq (b := 3) (by omega) (by omega)).mp z)), h44]
    refine ⟨_, _, _, rfl, hS, d2, r3, fun v hv h0 => ?_, fun f f1 f2 => ?_, ?_, ?_, fun v hv => ⟨(hn _ v hv).2.1, (hn _ v hv).2.2⟩⟩
    · rw [(hn _ v hv).1, dI_ne h0]
    · rw [(hn _ 0 (by omega)).1, dI_nk (by omega)]
    · rw [(hn _ 0 (by omega)).1, dI_at]
    · rw [(hn _ 0 (by omega)).1, dI_nk (by omega), if_neg c3, e0]
end
