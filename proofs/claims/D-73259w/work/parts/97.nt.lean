/-! THE RUN: acts and notes keep the relation -/
set_option maxRecDepth 100000
section
variable {w : Nat → Int32} {q : TdP} {u k kh kg r b t : Nat} {kj : Nat → Nat} {S0 S S' : Sp} {d0 m0 d e f e1 e2 f1 f2 : Dt} {op cl : Nat → Nat} {W : Int32} {F0 : Int32 × (Nat → Int32)} {P V P' V' : Nat → Prop}
theorem j_le {j x : Nat} (hj : j < 1000) (hx : x < 1000) : (nI j ≤ nI x - 1) ↔ j + 1 ≤ x := by
  by_cases h0 : x = 0
  · subst h0
    refine ⟨fun z => absurd (show ¬ nI j ≤ nI 0 - 1 from ?_) (fun y => y z), fun z => absurd z (by omega)⟩
    intro z
    have h1 : (nI j).toInt = j := nI_toInt (by omega)
    have h2 : (nI 0 - 1 : Int32).toInt = -1 := by decide
    rw [Int32.le_iff_toInt_le, h1, h2] at z
    omega
  · obtain ⟨y, rfl⟩ : ∃ y, x = y + 1 := ⟨x - 1, by omega⟩
    rw [nI_pred]
    constructor
    · intro z
      have := Nat.lt_of_not_le (fun hh : y < j => nI_ge hh (by omega) z)
      omega
    · intro z
      exact nI_le (by omega) (by omega)
theorem RT.rs (h : RT S0 d0 m0 w q W F0 u k kh kj kg r b S e1 e2) (h0 : RE S0 d0 m0 w q op cl) (hk : k < 200) (hu : q.nt ≤ u ∨ P u) (c : RsC w q k P (fun v => V v ∧ v < q.nw) e1 f1) (m : RsM w q k P V e2 f2) : RT S0 d0 m0 w q W F0 99 k kh kj kg r b S f1 f2 := by
  have hR := h.re h0
  have hC := hR.C
  have h5 := hC.nt5
  obtain ⟨g1, g2, g3, g4, g5, g6, g7, g8, g9, g10, g11⟩ := h
  obtain ⟨a1, a2, a3, a4, a5, a6⟩ := c
  have hmk := m.kr
  obtain ⟨b1, b2, b3, b4, b5, b6⟩ := m
  have a0 : f1.1 0 = e1.1 0 := a5 0 (by omega) (by omega)
  have b0 : f2.1 0 = e2.1 0 := b5 0 (by omega) (by omega) (by omega) (by omega) (by omega) (by omega)
  refine ⟨g1, ⟨g2.1.by (fun v _ h2 => a5 v (by omega) (by omega)) (fun k _ => by rw [a0]), g2.2.tr hmk⟩, ⟨by rw [a0]; exact g3.1, g3.2⟩, fun t ht => ?_, ⟨fun v hv => ?_, fun i hi v j z1 z2 z3 z4 => ?_⟩, g6.go (a5 27 (by omega) (by omega)) (b5 33 (by omega) (by omega) (by omega) (by omega) (by omega) (by omega)), g7.go (by rw [a0]) (a5 21 (by omega) (by omega)) (a5 22 (by omega) (by omega)) (a5 23 (by omega) (by omega)) (a5 24 (by omega) (by omega)) (by rw [b0]) (b5 38 (by omega) (by omega) (by omega) (by omega) (by omega) (by omega)) (b5 39 (by omega) (by omega) (by omega) (by omega) (by omega) (by omega)) (b5 40 (by omega) (by omega) (by omega) (by omega) (by omega) (by omega)) (b5 41 (by omega) (by omega) (by omega) (by omega) (by omega) (by omega)), g8.go (a5 19 (by omega) (by omega)) (b5 35 (by omega) (by omega) (by omega) (by omega) (by omega) (by omega)), g9.go (by rw [a0]) (by rw [a0]) (by rw [b0]) (by rw [b0]), g10.go (a5 17 (by omega) (by omega)) (b5 37 (by omega) (by omega) (by omega) (by omega) (by omega) (by omega)), g11.go (fun f _ _ => by rw [a0]) (b5 27 (by omega) (by omega) (by omega) (by omega) (by omega) (by omega)) (b5 32 (by omega) (by omega) (by omega) (by omega) (by omega) (by omega))⟩
  · have hx := nxS_lt hC ht hk
    by_cases hp : P t
    · have e1' := a1 t ht hp
      obtain ⟨m14, m15, m19, m20, m21⟩ := b1 t ht hp
      refine (g4 t ht).rst (by rw [a6]) (by rw [a6]) b6 hx.2 hx.1 ?_ ?_ ?_ ?_ ?_ (fun f n1 n2 n3 n4 n5 => ?_) m15 m14 m19 m20 m21 (fun p n1 n2 n3 n4 n5 n6 => by rw [b5 p n1 n2 n3 n4 n5 (by omega)])
      all_goals rw [e1']
      · rfl
      · rfl
      · rfl
      · rfl
      · rfl
      · unfold rst
        rw [if_neg n1, if_neg n2, if_neg n3, if_neg n4, if_neg n5]
    · obtain ⟨m14, m15, m19, m20, m21⟩ := b2 t ht hp
      refine ((g4 t ht).same (a2 t ht hp) (by rw [a6]) (by rw [a6]) (fun p n1 n2 => ?_) (by rw [b6]) (by rw [b6]) (by rw [b6])).ex (fun z => ?_)
      · by_cases c14 : p = 14
        · subst c14; exact m14
        by_cases c15 : p = 15
        · subst c15; exact m15
        by_cases c19 : p = 19
        · subst c19; exact m19
        by_cases c20 : p = 20
        · subst c20; exact m20
        by_cases c21 : p = 21
        · subst c21; exact m21
        rw [b5 p c14 c15 c19 c20 c21 (by omega)]
      · subst z
        rcases hu with hu | hu
        · omega
        · exact hp hu
  · by_cases hV : V v
    · exact ⟨k + 1, by rw [a3 v ⟨hV, hv⟩, nI_pred], by omega⟩
    · rw [a4 v (fun z => hV z.1)]
      exact g5.1 v hv
  · obtain ⟨x, hx, hx9⟩ := g5.1 v z3
    have hold := g5.2 i hi v j z1 z2 z3 z4
    obtain ⟨j', hj', hj9⟩ : ∃ j', w (106 + 5 * i + 2) = nI j' ∧ j' < 1000 := by
      rcases hC.iw hi with ⟨v', j', k0, k1, k2, k3, k4, k5, k6⟩ | ⟨k, s, j', tm, k0, k1, k2, k3, k4, k5, k6, k7, k8, k9⟩
      · exact ⟨j', k3, by omega⟩
      · exact ⟨j', k4, by omega⟩
    have ej : nI j = nI j' := z4.symm.trans hj'
    rw [ej] at hold ⊢
    have h3 := hC.nw3
    by_cases hV : V v
    · rw [a3 v ⟨hV, z3⟩]
      by_cases hjk : j' ≤ k
      · rw [if_pos (nI_le hjk (by omega)), b3 i hi ⟨z1, v, j', z2, hj', z3, hV, hjk⟩]
      · rw [if_neg (nI_ge (by omega) (by omega)), b4 i hi (fun ⟨_, v', j2, y1, y2, y3, y4, y5⟩ => hjk (by
          have := (nI_eq (by omega) (by omega)).mp (hj'.symm.trans y2)
          omega)), hold, hx, if_neg (fun z => by
          have := (j_le hj9 (by omega)).mp z
          omega)]
    · rw [a4 v (fun z => hV z.1), ← hold]
      refine b4 i hi (fun ⟨_, v', j2, y1, y2, y3, y4, y5⟩ => hV ?_)
      have := (nI_eq (by omega) (by omega)).mp (z2.symm.trans y1)
      rw [this]
      exact y4
/-- the outcome of what may reset: nothing thrown, or the Reset with the model's flag up -/
def Out (S0 : Sp) (d0 m0 : Dt) (w : Nat → Int32) (q : TdP) (W : Int32) (F0 : Int32 × (Nat → Int32)) (u k kh : Nat) (kj : Nat → Nat) (kg r b : Nat) (S : Sp) (e1 e2 : Dt) (o : Option ((Unit ⊕ Nat) × Sp × Dt)) (p : Option (Unit × Dt)) : Prop :=
  ∃ f1 f2, p = some ((), f2) ∧ f1.1 20 = e1.1 20 ∧ f2.1 36 = e2.1 36 ∧ ((o = some (.inl (), S, f1) ∧ RT S0 d0 m0 w q W F0 u k kh kj kg r b S f1 f2 ∧ f2.1 0 58 = e2.1 0 58) ∨ ∃ z S', o = some (.inr z, S', f1) ∧ RT S0 d0 m0 w q W F0 u k kh kj kg r (b + 1) S' f1 f2 ∧ f2.1 0 58 = 1)
theorem CE.rgA (h : CE S d w q) {p1 p2 : Int32} : Rg_acts 12 p1 p2 S d = bind2 (Ru_acts 12 p1 p2 S d) (fun _ d1 => some (.inl (), S, d1)) ∧ Rg_acts 13 p1 p2 S d = bind2 (Gr_acts 13 p1 p2 S d) (fun _ d1 => some (.inl (), S, d1)) ∧ Rg_acts 14 p1 p2 S d = bind2 (Wa_acts 14 p1 p2 S d) (fun _ d1 => some (.inl (), S, d1)) ∧ Rg_acts 15 p1 p2 S d = Bo_acts 15 p1 p2 S d := by
  have a0 := h.rg (a := 0) (by omega)
  have a1 := h.rg (a := 1) (by omega)
  have a2 := h.rg (a := 2) (by omega)
  have a3 := h.rg (a := 3) (by omega)
  refine ⟨?_, ?_, ?_, ?_⟩
  · unfold Rg_acts
    rw [show S.1[12]? = some (2, 0) from a0]
    rfl
  · unfold Rg_acts
    rw [show S.1[13]? = some (3, 0) from a1]
    rfl
  · unfold Rg_acts
    rw [show S.1[14]? = some (4, 0) from a2]
    rfl
  · unfold Rg_acts
    rw [show S.1[15]? = some (5, 0) from a3]
    rfl
theorem act_eq (h : RT S0 d0 m0 w q W F0 u k kh kj kg r b S e1 e2) (h0 : RE S0 d0 m0 w q op cl) (hk : k < 200) (hb : b < 3) {L v : Nat} (hL : L < 4) (hv : v < q.nw) {p1 p2 p3 : Int32} (hu : q.nt ≤ u ∨ (u = t ∧ w (11 + 7 * t) = nI v)) (hl : L < 2 → t < q.nt ∧ p1 = nI t ∧ p2 = nI t) (hp : L ≤ 2 → p3 = nI v) : Out S0 d0 m0 w q W F0 99 k kh kj kg r b S e1 e2 (Rg_acts (12 + L) p1 (nI v) S e1) (Mo_climbs 0 (nI L) p2 p3 (nI k) MoS e2) := by
  have hR := h.re h0
  have hC := hR.C
  have h3 := hC.nw3
  have h5 := hC.nt5
  have hT : e1.1 0 25 = nI k := h.2.2.1.1
  have hbd := h.2.2.2.2.2.2.2.2.1
  obtain ⟨ra0, ra1, ra2, ra3⟩ := hC.rgA (p1 := p1) (p2 := nI v)
  have hU : U w v v = true := by
    unfold U und
    rw [if_pos rfl]
  have hfin : ∀ {P V : Nat → Prop} {f1 f2 : Dt} {o : Option (Unit × Dt)}, (q.nt ≤ u ∨ P u) → o = some ((), f1) → RsC w q k P (fun v => V v ∧ v < q.nw) e1 f1 → RsM w q k P V e2 f2 → Mo_climbs 0 (nI L) p2 p3 (nI k) MoS e2 = some ((), f2) → Rg_acts (12 + L) p1 (nI v) S e1 = bind2 o (fun _ d1 => some (.inl (), S, d1)) → Out S0 d0 m0 w q W F0 99 k kh kj kg r b S e1 e2 (Rg_acts (12 + L) p1 (nI v) S e1) (Mo_climbs 0 (nI L) p2 p3 (nI k) MoS e2) := by
    intro P V f1 f2 o hu' ho hc hm hmo hrg
    have hrt := h.rs h0 hk hu' hc hm
    refine ⟨f1, f2, hmo, hc.2.2.2.2.1 20 (by omega) (by omega), hm.2.2.2.2.1 36 (by omega) (by omega) (by omega) (by omega) (by omega) (by omega), Or.inl ⟨?_, hrt, ?_⟩⟩
    · rw [hrg, ho, bind2_some]
    · rw [hm.2.2.2.2.1 0 (by omega) (by omega) (by omega) (by omega) (by omega) (by omega)]
  obtain rfl | rfl | rfl | rfl : L = 0 ∨ L = 1 ∨ L = 2 ∨ L = 3 := by omega
  · obtain ⟨ht, rfl, rfl⟩ := hl (by omega)
    obtain ⟨f1, r1, r2⟩ := ru_eq hC hT hk ht (a := 0) (by omega) (p2 := nI v)
    obtain ⟨f2, r3, r4⟩ := mc0 hR hk ht (p3 := p3)
    exact hfin (P := fun s => s = t) (V := fun _ => False) (hu.imp id (fun z => z.1)) r1 (r2.iff (fun _ _ => Iff.rfl) (fun _ => ⟨fun z => z.elim, fun z => z.1⟩)) r4 r3 ra0
  · obtain ⟨ht, rfl, rfl⟩ := hl (by omega)
    obtain rfl := hp (by omega)
    obtain ⟨f1, r1, r2⟩ := gr_eq hC hT hk (a := 1) (v := v) (by omega) (by omega) (by omega) (p1 := nI t)
    obtain ⟨f2, r3, r4⟩ := mc1 hR hk (v := v) (p2 := nI t)
    exact hfin (P := fun s => w (11 + 7 * s) = nI v) (V := fun _ => False) (hu.imp id (fun z => by rw [z.1]; exact z.2)) r1 (r2.iff (fun _ _ => Iff.rfl) (fun _ => ⟨fun z => z.elim, fun z => z.1⟩)) r4 r3 ra1
  · obtain rfl := hp (by omega)
    obtain ⟨f1, r1, r2⟩ := wa_eq hC hT hk (a := 2) (c := v) (by omega) (by omega) (by omega) (p1 := p1)
    obtain ⟨f2, r3, r4⟩ := mc2 hR hk (c := v) (by omega) (p2 := p2)
    exact hfin (P := fun s => ∃ x, x < q.nw ∧ U w v x = true ∧ w (11 + 7 * s) = nI x) (V := fun x => x < q.nw ∧ U w v x = true) (hu.imp id (fun z => ⟨v, hv, hU, by rw [z.1]; exact z.2⟩)) r1 (r2.iff (fun _ _ => Iff.rfl) (fun _ => ⟨fun z => ⟨z, z.1⟩, fun z => z.1⟩)) r4 r3 ra2
  · obtain ⟨S', f1, z, r1, ⟨s1, s2, s3, s4⟩, d2, r2, c1, c2, c3, c4, c5⟩ := bo_eq hC hT hk hbd.2.1 hb (p1 := p1) (p2 := nI v)
    obtain ⟨f2, x2, r3, r4, x1, x3, x4, x5, x6, x7⟩ := mc3 hR hk hbd.2.2.1 hb (p2 := p2) (p3 := p3)
    have hl35 := Ws_len hC.F
    have hrt := h.rs (P := fun _ => True) (V := fun v => v < q.nw) h0 hk (Or.inr trivial) (r2.iff (fun _ _ => Iff.rfl) (fun _ => ⟨fun z => ⟨z, z⟩, fun z => z.1⟩)) r4
    have e0 : d2.1 0 = e1.1 0 := r2.2.2.2.2.1 0 (by omega) (by omega)
    have m0' : x2.1 0 = e2.1 0 := r4.2.2.2.2.1 0 (by omega) (by omega) (by omega) (by omega) (by omega) (by omega)
    refine ⟨f1, f2, r3, (c1 20 (by omega) (by omega)).trans (r2.2.2.2.2.1 20 (by omega) (by omega)), (x1 36 (by omega)).trans (r4.2.2.2.2.1 36 (by omega) (by omega) (by omega) (by omega) (by omega) (by omega)), Or.inr ⟨z, S', ra3.trans r1, ?_, x5⟩⟩
    obtain ⟨g1, g2, g3, g4, g5, g6, g7, g8, g9, g10, g11⟩ := hrt
    have hS0 := g1.1.2.2
    refine ⟨⟨g1.1.tr s1, by have := g1.2.1; omega, by have := g1.2.2.1; omega, by have := g1.2.2.2; omega⟩, ⟨g2.1.by (fun v hv h2 => c1 v (by omega) (by omega)) (fun k hk9 => c2 k (by omega) (by omega)), g2.2.by (fun v h1 h2 => x1 v (by omega)) (fun k hk9 => x3 k (by omega) (by omega) (by omega))⟩, ⟨(c2 25 (by omega) (by omega)).trans g3.1, g3.2⟩, fun t ht => ?_, g5.go (c1 18 (by omega) (by omega)) (x1 34 (by omega)), g6.go (c1 27 (by omega) (by omega)) (x1 33 (by omega)), g7.go (c2 24 (by omega) (by omega)) (c1 21 (by omega) (by omega)) (c1 22 (by omega) (by omega)) (c1 23 (by omega) (by omega)) (c1 24 (by omega) (by omega)) (x3 56 (by omega) (by omega) (by omega)) (x1 38 (by omega)) (x1 39 (by omega)) (x1 40 (by omega)) (x1 41 (by omega)), g8.go (c1 19 (by omega) (by omega)) (x1 35 (by omega)), ?_, g10.go (c1 17 (by omega) (by omega)) (x1 37 (by omega)), g11.go (fun f _ _ => c2 f (by omega) (by omega)) (x1 27 (by omega)) (x1 32 (by omega))⟩
    · exact ((g4 t ht).same (c1 (30 + t) (by omega) (by omega)) (c5 (30 + t) (by omega)).1 (c5 (30 + t) (by omega)).2 (fun p h1 h2 => by rw [x1 p (by omega)]) (by rw [x7]) (by rw [x7]) (by rw [x7])).bd (by omega)
    · obtain ⟨b1, b2, b3, b4, b5⟩ := hbd
      refine ⟨by omega, c3, x4, ?_, ?_⟩
      · rw [c4, x6, b4]
      · rw [x6]
        by_cases c3 : b + 1 = 3
        · rw [if_pos c3]
          exact ⟨fun z => absurd z (m1_pos (by omega)), fun z => by omega⟩
        · rw [if_neg c3]
          exact ⟨fun z => by omega, fun z => b5.mpr hb⟩
end
