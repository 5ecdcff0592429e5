/-! THE RUN: notes and faults -/
set_option maxRecDepth 100000
def recC (r k kd x L : Nat) (g : Dt) : Dt := dI (dI (dI (dI (dI g 21 r (nI k)) 22 r (nI kd)) 23 r (nI x)) 24 r (nI L)) 0 24 (nI (r + 1))
def recM (r k kd x L : Nat) (g : Dt) : Dt := dI (dI (dI (dI (dI g 38 r (nI k)) 39 r (nI kd)) 40 r (nI x)) 41 r (nI L)) 0 56 (nI (r + 1))
section
variable {w : Nat → Int32} {q : TdP} {u k kh kg r b t : Nat} {kj : Nat → Nat} {S0 S S' : Sp} {d0 m0 d e f e1 e2 f1 f2 g1 g2 : Dt} {op cl : Nat → Nat} {W : Int32} {F0 : Int32 × (Nat → Int32)} {P V P' V' : Nat → Prop}
theorem recC_v {kd x L : Nat} : (∀ v, v ≠ 0 → v ≠ 21 → v ≠ 22 → v ≠ 23 → v ≠ 24 → (recC r k kd x L g1).1 v = g1.1 v) ∧ (∀ j, j ≠ 24 → (recC r k kd x L g1).1 0 j = g1.1 0 j) ∧ (recC r k kd x L g1).1 0 24 = nI (r + 1) ∧ (∀ j, j ≠ r → (recC r k kd x L g1).1 21 j = g1.1 21 j ∧ (recC r k kd x L g1).1 22 j = g1.1 22 j ∧ (recC r k kd x L g1).1 23 j = g1.1 23 j ∧ (recC r k kd x L g1).1 24 j = g1.1 24 j) ∧ ((recC r k kd x L g1).1 21 r = nI k ∧ (recC r k kd x L g1).1 22 r = nI kd ∧ (recC r k kd x L g1).1 23 r = nI x ∧ (recC r k kd x L g1).1 24 r = nI L) ∧ (recC r k kd x L g1).2 = g1.2 := by
  refine ⟨fun v h0 h1 h2 h3 h4 => ?_, fun j hj => ?_, ?_, fun j hj => ?_, ?_, rfl⟩
  · funext j
    simp [recC, dI, u2, h0, h1, h2, h3, h4]
  · simp [recC, dI, u2, hj]
  · simp [recC, dI, u2]
  · simp [recC, dI, u2, hj]
  · simp [recC, dI, u2]
theorem recM_v {kd x L : Nat} : (∀ v, v ≠ 0 → v ≠ 38 → v ≠ 39 → v ≠ 40 → v ≠ 41 → (recM r k kd x L g1).1 v = g1.1 v) ∧ (∀ j, j ≠ 56 → (recM r k kd x L g1).1 0 j = g1.1 0 j) ∧ (recM r k kd x L g1).1 0 56 = nI (r + 1) ∧ (∀ j, j ≠ r → (recM r k kd x L g1).1 38 j = g1.1 38 j ∧ (recM r k kd x L g1).1 39 j = g1.1 39 j ∧ (recM r k kd x L g1).1 40 j = g1.1 40 j ∧ (recM r k kd x L g1).1 41 j = g1.1 41 j) ∧ ((recM r k kd x L g1).1 38 r = nI k ∧ (recM r k kd x L g1).1 39 r = nI kd ∧ (recM r k kd x L g1).1 40 r = nI x ∧ (recM r k kd x L g1).1 41 r = nI L) ∧ (recM r k kd x L g1).2 = g1.2 := by
  refine ⟨fun v h0 h1 h2 h3 h4 => ?_, fun j hj => ?_, ?_, fun j hj => ?_, ?_, rfl⟩
  · funext j
    simp [recM, dI, u2, h0, h1, h2, h3, h4]
  · simp [recM, dI, u2, hj]
  · simp [recM, dI, u2]
  · simp [recM, dI, u2, hj]
  · simp [recM, dI, u2]
/-- a record is written -/
theorem RT.rec {u' kd x L : Nat} (h : RT S0 d0 m0 w q W F0 u k kh kj kg r b S e1 e2) (c1 : KrC S0 d0 g1) (c2 : KrM m0 g2) (hL : ∀ t, t < q.nt → Lf q u' k (kj t) kg (r + 1) b g1 g2 t) (hSp : SpR q (r + 1) g1 g2) (a0 : ∀ f, 24 ≤ f → f < 32 → g1.1 0 f = e1.1 0 f) (a : ∀ v, 17 ≤ v → v < 28 → v ≠ 19 → v ≠ 20 → v ≠ 25 → v ≠ 26 → g1.1 v = e1.1 v) (b0 : ∀ f, 56 ≤ f → f < 60 → f ≠ 58 → g2.1 0 f = e2.1 0 f) (b1 : ∀ v, 27 ≤ v → v < 42 → v ≠ 28 → v ≠ 31 → v ≠ 35 → v ≠ 36 → g2.1 v = e2.1 v) (hkd : kd ≤ 7) (hk7 : kd = 7 → x = 0) : RT S0 d0 m0 w q W F0 u' k kh kj kg (r + 1) b S (recC r k kd x L g1) (recM r k kd x L g2) := by
  obtain ⟨n1, n2, n3, n4, n5, n6⟩ := recC_v (r := r) (k := k) (g1 := g1) (kd := kd) (x := x) (L := L)
  obtain ⟨o1, o2, o3, o4, o5, o6⟩ := recM_v (r := r) (k := k) (g1 := g2) (kd := kd) (x := x) (L := L)
  obtain ⟨q1, -, q3, -, q5, q6, q7, -, q9, q10, q11⟩ := h
  obtain ⟨i1, i2, i3⟩ := q7
  have hn : ∀ v, 17 ≤ v → v < 28 → v ≠ 19 → v ≠ 20 → v ≠ 25 → v ≠ 26 → v ≠ 21 → v ≠ 22 → v ≠ 23 → v ≠ 24 → (recC r k kd x L g1).1 v = e1.1 v := fun v h1 h2 h3 h4 h5 h6 h7 h8 h9 h10 => (n1 v (by omega) h7 h8 h9 h10).trans (a v h1 h2 h3 h4 h5 h6)
  have ho : ∀ v, 27 ≤ v → v < 38 → v ≠ 28 → v ≠ 31 → v ≠ 35 → v ≠ 36 → (recM r k kd x L g2).1 v = e2.1 v := fun v h1 h2 h3 h4 h5 h6 => (o1 v (by omega) (by omega) (by omega) (by omega) (by omega)).trans (b1 v h1 (by omega) h3 h4 h5 h6)
  refine ⟨q1, ⟨c1.by (fun v h1 h2 => n1 v (by omega) (by omega) (by omega) (by omega) (by omega)) (fun f hf => n2 f (by omega)), c2.by (fun v h1 h2 => o1 v (by omega) (by omega) (by omega) (by omega) (by omega)) (fun f hf => o2 f (by omega))⟩, ⟨(n2 25 (by omega)).trans ((a0 25 (by omega) (by omega)).trans q3.1), q3.2⟩, fun t ht => ?_, q5.go (hn 18 (by omega) (by omega) (by omega) (by omega) (by omega) (by omega) (by omega) (by omega) (by omega) (by omega)) (ho 34 (by omega) (by omega) (by omega) (by omega) (by omega) (by omega)), q6.go (hn 27 (by omega) (by omega) (by omega) (by omega) (by omega) (by omega) (by omega) (by omega) (by omega) (by omega)) (ho 33 (by omega) (by omega) (by omega) (by omega) (by omega) (by omega)), ⟨n3, o3, fun i hi => ?_⟩, hSp.go (n1 19 (by omega) (by omega) (by omega) (by omega) (by omega)) (o1 35 (by omega) (by omega) (by omega) (by omega) (by omega)), q9.go ((n2 26 (by omega)).trans (a0 26 (by omega) (by omega))) ((n2 27 (by omega)).trans (a0 27 (by omega) (by omega))) ((o2 57 (by omega)).trans (b0 57 (by omega) (by omega) (by omega))) ((o2 59 (by omega)).trans (b0 59 (by omega) (by omega) (by omega))), q10.go (hn 17 (by omega) (by omega) (by omega) (by omega) (by omega) (by omega) (by omega) (by omega) (by omega) (by omega)) (ho 37 (by omega) (by omega) (by omega) (by omega) (by omega) (by omega)), q11.go (fun f h1 h2 => (n2 f (by omega)).trans (a0 f (by omega) h2)) (ho 27 (by omega) (by omega) (by omega) (by omega) (by omega) (by omega)) (ho 32 (by omega) (by omega) (by omega) (by omega) (by omega) (by omega))⟩
  · refine (hL t ht).same (n1 (30 + t) (by omega) (by omega) (by omega) (by omega) (by omega)) (by rw [n6]) (by rw [n6]) (fun p h1 h2 => by rw [o1 p (by omega) (by omega) (by omega) (by omega) (by omega)]) (by rw [o6]) (by rw [o6]) (by rw [o6])
  · by_cases c : i = r
    · subst c
      obtain ⟨y1, y2, y3, y4⟩ := n5
      obtain ⟨z1, z2, z3, z4⟩ := o5
      exact ⟨⟨y1.trans z1.symm, y2.trans z2.symm, y3.trans z3.symm, y4.trans z4.symm⟩, kd, hkd, y2, fun z => by rw [y3, hk7 z]; rfl⟩
    · obtain ⟨y1, y2, y3, y4⟩ := n4 i c
      obtain ⟨z1, z2, z3, z4⟩ := o4 i c
      rw [y1, y2, y3, y4, z1, z2, z3, z4, a 21 (by omega) (by omega) (by omega) (by omega) (by omega) (by omega), a 22 (by omega) (by omega) (by omega) (by omega) (by omega) (by omega), a 23 (by omega) (by omega) (by omega) (by omega) (by omega) (by omega), a 24 (by omega) (by omega) (by omega) (by omega) (by omega) (by omega), b1 38 (by omega) (by omega) (by omega) (by omega) (by omega) (by omega), b1 39 (by omega) (by omega) (by omega) (by omega) (by omega) (by omega), b1 40 (by omega) (by omega) (by omega) (by omega) (by omega) (by omega), b1 41 (by omega) (by omega) (by omega) (by omega) (by omega) (by omega)]
      exact i3 i (by omega)
theorem rec_mo {kd x L : Nat} (hr2 : g2.1 0 56 = nI r) (hr : r < 3000) : Mo_records 0 (nI k) (nI kd) (nI x) (nI L) MoS g2 = some ((), recM r k kd x L g2) := by
  unfold Mo_records recM
  rw [Mo_K, Option.bind_some, hr2, MoS_R0_52, ma38 (show r < 4000 by omega), Option.bind_some, Option.bind_some, dI_ne (show (0 : Nat) ≠ 38 by omega), hr2, MoS_R0_53, ma39 (show r < 4000 by omega), Option.bind_some, Option.bind_some, dI_ne (show (0 : Nat) ≠ 39 by omega), dI_ne (show (0 : Nat) ≠ 38 by omega), hr2, MoS_R0_54, ma40 (show r < 4000 by omega), Option.bind_some, Option.bind_some, dI_ne (show (0 : Nat) ≠ 40 by omega), dI_ne (show (0 : Nat) ≠ 39 by omega), dI_ne (show (0 : Nat) ≠ 38 by omega), hr2, MoS_R0_55, ma41 (show r < 4000 by omega), Option.bind_some, Option.bind_some, dI_ne (show (0 : Nat) ≠ 41 by omega), dI_ne (show (0 : Nat) ≠ 40 by omega), dI_ne (show (0 : Nat) ≠ 39 by omega), dI_ne (show (0 : Nat) ≠ 38 by omega), hr2, nI_1, Option.bind_some]
theorem notes_eq {kd x L v : Nat} (h0 : RE S0 d0 m0 w q op cl) (hC : CE S g1 w q) (hT : g1.1 0 25 = nI k) (hr1 : g1.1 0 24 = nI r) (hr2 : g2.1 0 56 = nI r) (hr : r < 3000) (h : RT S0 d0 m0 w q W F0 u k kh kj kg (r + 1) b S (recC r k kd x L g1) (recM r k kd x L g2)) (hk : k < 200) (hb : b < 3) (hL : L < 4) (hv : v < q.nw) (hkd : kd ≤ 7) (h1 : kd < 6 → x = t ∧ t < q.nt ∧ w (11 + 7 * t) = nI v) (h2 : 6 ≤ kd → x = v ∧ 2 ≤ L) {p2 p3 : Int32} (hu : q.nt ≤ u ∨ (u = t ∧ w (11 + 7 * t) = nI v)) (hl : kd < 6 → p2 = nI t) (hp : L ≤ 2 → p3 = nI v) : Out S0 d0 m0 w q W F0 99 k kh kj kg (r + 1) b S g1 g2 (Ws_notes 0 (nI kd) (nI x) (nI L) S g1) (bind2 (Mo_records 0 (nI k) (nI kd) (nI x) (nI L) MoS g2) fun _ m => Mo_climbs 0 (nI L) p2 p3 (nI k) MoS m) := by
  have hm := rec_mo (k := k) (kd := kd) (x := x) (L := L) hr2 hr
  have hC' : CE S (recC r k kd x L g1) w q := hC.go (fun a ha hx => recC_v.1 a (by omega) (by omega) (by omega) (by omega) (by omega))
  have hc : Ws_notes 0 (nI kd) (nI x) (nI L) S g1 = if 6 ≤ nI kd then Ws_notes_b78 0 (nI kd) (nI x) (nI L) (nI x) (nI x) (some (12 + L)) S (recC r k kd x L g1) else (Ws_taskOf 0 (nI x) S (recC r k kd x L g1)).bind fun r12 => (isK S 12 r12).bind fun z13 => Ws_notes_b78 0 (nI kd) (nI x) (nI L) ((recC r k kd x L g1).1 z13 0) (nI x) (some (12 + L)) S (recC r k kd x L g1) := by
    unfold Ws_notes recC
    rw [hC.K, Option.bind_some, hr1, cr17 hC.F, ca21 hC.F hr, Option.bind_some, Option.bind_some, hT, dI_ne (show (0 : Nat) ≠ 21 by omega), hr1, cr18 hC.F, ca22 hC.F hr, Option.bind_some, Option.bind_some, dI_ne (show (0 : Nat) ≠ 22 by omega), dI_ne (show (0 : Nat) ≠ 21 by omega), hr1, cr19 hC.F, ca23 hC.F hr, Option.bind_some, Option.bind_some, dI_ne (show (0 : Nat) ≠ 23 by omega), dI_ne (show (0 : Nat) ≠ 22 by omega), dI_ne (show (0 : Nat) ≠ 21 by omega), hr1, cr20 hC.F, ca24 hC.F hr, Option.bind_some, Option.bind_some, dI_ne (show (0 : Nat) ≠ 24 by omega), dI_ne (show (0 : Nat) ≠ 23 by omega), dI_ne (show (0 : Nat) ≠ 22 by omega), dI_ne (show (0 : Nat) ≠ 21 by omega), hr1, nI_1, Option.bind_some, cr11 hC.F, ca11 hC.F hL, Option.bind_some, cg_r hC.F hL]
  have hb78 : ∀ p1 p2 : Int32, ∀ d : Dt, CE S d w q → Ws_notes_b78 0 (nI kd) (nI x) (nI L) p2 p1 (some (12 + L)) S d = Rg_acts (12 + L) p1 p2 S d := by
    intro p1 p2 d hd
    unfold Ws_notes_b78
    rw [hd.rgK hL (by omega), Option.bind_some]
    cases hh : Rg_acts (12 + L) p1 p2 S d with
    | none => rfl
    | some a =>
      obtain ⟨a1, a2, a3⟩ := a
      cases a1 <;> rfl
  have hfin : ∀ {p1 : Int32}, (L < 2 → t < q.nt ∧ p1 = nI t ∧ p2 = nI t) → Ws_notes 0 (nI kd) (nI x) (nI L) S g1 = Rg_acts (12 + L) p1 (nI v) S (recC r k kd x L g1) → Out S0 d0 m0 w q W F0 99 k kh kj kg (r + 1) b S g1 g2 (Ws_notes 0 (nI kd) (nI x) (nI L) S g1) (bind2 (Mo_records 0 (nI k) (nI kd) (nI x) (nI L) MoS g2) fun _ m => Mo_climbs 0 (nI L) p2 p3 (nI k) MoS m) := by
    intro p1 hp1 he
    rw [hm, bind2_some, he]
    obtain ⟨f1, f2, x1, x2, x3, x4⟩ := act_eq h h0 hk hb hL hv hu hp1 hp
    refine ⟨f1, f2, x1, x2.trans (recC_v.1 20 (by omega) (by omega) (by omega) (by omega) (by omega)), x3.trans (recM_v.1 36 (by omega) (by omega) (by omega) (by omega) (by omega)), x4.imp (fun ⟨y1, y2, y3⟩ => ⟨y1, y2, y3.trans (recM_v.2.1 58 (by omega))⟩) id⟩
  by_cases c : kd < 6
  · obtain ⟨rfl, ht, hw⟩ := h1 c
    obtain ⟨a, a1, a2, a3⟩ := hC'.wat ht
    refine hfin (p1 := nI x) (fun _ => ⟨ht, rfl, hl c⟩) ?_
    rw [hc, if_neg (show ¬ (6 : Int32) ≤ nI kd from nI_ge (b := 6) (by omega) (by omega)), hC'.taskOf ht, Option.bind_some, hC'.tK ht, Option.bind_some, a3, ← a2, hw, hb78 _ _ _ hC']
  · obtain ⟨rfl, h22⟩ := h2 (by omega)
    refine hfin (p1 := nI x) (fun z => by omega) ?_
    rw [hc, if_pos (show (6 : Int32) ≤ nI kd from nI_le (a := 6) (by omega) (by omega)), hb78 _ _ _ hC']
end
