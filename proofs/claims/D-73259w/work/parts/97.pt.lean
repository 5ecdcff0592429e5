/-! THE RUN: its start in both memories -/
set_option maxRecDepth 100000
section
variable {w : Nat → Int32} {q : TdP} {u k kh kg r b t z cy : Nat} {kj : Nat → Nat} {S0 S S' : Sp} {d0 m0 d m e f e1 e2 f1 f2 g1 g2 : Dt} {op cl : Nat → Nat} {W : Int32} {F0 : Int32 × (Nat → Int32)} {P V P' V' : Nat → Prop} {p1 p2 p3 : Int32}
theorem BnC.same (h : BnC d z) (a : f.1 z = d.1 z) (a2 : f.2.1 z = d.2.1 z) (a3 : f.2.2 z = d.2.2 z) : BnC f z := by
  unfold BnC at h ⊢
  rw [a, a2, a3]
  exact h
theorem BnM.same (h : BnM d t) (a : ∀ v, v < 32 → f.1 v t = d.1 v t) (a2 : f.2.1 24 t = d.2.1 24 t) (a3 : f.2.2 30 t = d.2.2 30 t) : BnM f t := by
  unfold BnM at h ⊢
  rw [a 14 (by omega), a 15 (by omega), a 16 (by omega), a 19 (by omega), a 20 (by omega), a 21 (by omega), a 22 (by omega), a 23 (by omega), a 25 (by omega), a 26 (by omega), a 27 (by omega), a 28 (by omega), a 31 (by omega), a2, a3]
  exact h
theorem bornAll_C (h : CE S d w q) : ∃ f, Ws_runs_h22 0 p1 p2 FU 0 S d = Ws_runs_h47 0 p1 p2 FU 0 S f ∧ (∀ t, t < q.nt → BnC f (30 + t)) ∧ ∀ v, v < 30 ∨ 35 ≤ v → f.1 v = d.1 v := by
  have h5 := h.nt5
  refine loop_FU (X := fun F (x : Int32 × Dt) => Ws_runs_h22 0 p1 p2 F x.1 S x.2) (Inv := fun i x => x.1 = nI i ∧ (∀ t, t < i → BnC x.2 (30 + t)) ∧ ∀ v, v < 30 ∨ 35 ≤ v → x.2.1 v = d.1 v) (P := fun o => ∃ f, o = Ws_runs_h47 0 p1 p2 FU 0 S f ∧ (∀ t, t < q.nt → BnC f (30 + t)) ∧ ∀ v, v < 30 ∨ 35 ≤ v → f.1 v = d.1 v) (x := (0, d)) q.nt (by omega) ⟨rfl, fun t ht => absurd ht (by omega), fun _ _ => rfl⟩ ?_ ?_
  · rintro i hi F ⟨x, y⟩ ⟨hx, g1, g2⟩
    have hx' : x = nI i := hx
    subst hx'
    have g2' : ∀ v, v < 30 ∨ 35 ≤ v → y.1 v = d.1 v := g2
    have hC : CE S y w q := h.go (fun a ha hr => g2' a (by omega))
    obtain ⟨d', b1, b2, b3⟩ := born_C (d := y) (cl_K hC.F (show i < 5 by omega))
    refine ⟨(nI (i + 1), d'), ?_, rfl, fun t ht => ?_, fun v hv => (b3 v (by omega)).1.trans (g2' v hv)⟩
    · show Ws_runs_h22 0 p1 p2 (F + 1) (nI i) S y = _
      rw [Ws_runs_h22, hC.K, Option.bind_some, hC.tasks, Option.bind_some, if_neg (nI_ge hi (by omega)), cr12 hC.F, ca16 hC.F (show i < 5 by omega), Option.bind_some, cl_r hC.F (show i < 5 by omega), cl_K hC.F (show i < 5 by omega), Option.bind_some, b1, bind2_some, nI_1]
    · by_cases c : t = i
      · subst c; exact b2
      · have hb : BnC y (30 + t) := g1 t (by omega)
        obtain ⟨e1, e2, e3⟩ := b3 (30 + t) (by omega)
        exact hb.same e1 e2 e3
  · rintro F ⟨x, y⟩ ⟨hx, g1, g2⟩
    have hx' : x = nI q.nt := hx
    subst hx'
    have g2' : ∀ v, v < 30 ∨ 35 ≤ v → y.1 v = d.1 v := g2
    have hC : CE S y w q := h.go (fun a ha hr => g2' a (by omega))
    refine ⟨y, ?_, g1, g2⟩
    show Ws_runs_h22 0 p1 p2 (F + 1) (nI q.nt) S y = _
    rw [Ws_runs_h22, hC.K, Option.bind_some, hC.tasks, Option.bind_some, if_pos (nI_le (Nat.le_refl _) (by omega))]
/-- the component ahead of its first tick -/
def StC (q : TdP) (p2 : Int32) (d f : Dt) : Prop := (∀ t, t < q.nt → BnC f (30 + t)) ∧ (∀ v, v < 3 → f.1 18 v = -1 ∧ f.1 19 v = 0) ∧ (∀ i, i < q.ni → f.1 27 i = -1) ∧ (f.1 0 24 = 0 ∧ f.1 0 25 = 0 ∧ f.1 0 26 = 0 ∧ f.1 0 27 = -1 ∧ f.1 0 28 = p2) ∧ (∀ j, j < 24 ∨ 28 < j → f.1 0 j = d.1 0 j) ∧ ∀ v, v ≠ 0 → v ≠ 18 → v ≠ 19 → v ≠ 27 → v < 30 ∨ 35 ≤ v → f.1 v = d.1 v
theorem start_C (h : CE S d w q) : ∃ f, Ws_runs 0 p1 p2 S d = Ws_runs_h106 0 p1 p2 FU S f ∧ StC q p2 d f := by
  have h5 := h.nt5
  have hni := h.ni18
  have hd5 : ∃ d5, d5 = dI (dI (dI (dI d 0 28 p2) 0 24 0) 0 26 0) 0 27 (-1) := ⟨_, rfl⟩
  obtain ⟨d5, hd5⟩ := hd5
  have a5 : ∀ v, v ≠ 0 → d5.1 v = d.1 v := fun v hv => by rw [hd5, dI_ne hv, dI_ne hv, dI_ne hv, dI_ne hv]
  have b5 : ∀ j, j < 24 ∨ 28 < j → d5.1 0 j = d.1 0 j := fun j hj => by rw [hd5, dI_nk (by omega), dI_nk (by omega), dI_nk (by omega), dI_nk (by omega)]
  have c28 : d5.1 0 28 = p2 := by rw [hd5, dI_nk (by omega), dI_nk (by omega), dI_nk (by omega), dI_at]
  have c24 : d5.1 0 24 = 0 := by rw [hd5, dI_nk (by omega), dI_nk (by omega), dI_at]
  have c26 : d5.1 0 26 = 0 := by rw [hd5, dI_nk (by omega), dI_at]
  have c27 : d5.1 0 27 = -1 := by rw [hd5, dI_at]
  have h5C : CE S d5 w q := h.go (fun a ha hr => a5 a (by omega))
  obtain ⟨f1, x1, x2, x3⟩ := bornAll_C (p1 := p1) (p2 := p2) h5C
  have h1C : CE S f1 w q := h5C.go (fun a ha hr => x3 a (by omega))
  have s47 := fill2 (e := f1) (X := fun F x y => Ws_runs_h47 0 p1 p2 F x S y) (cont := fun y => Ws_runs_h74 0 p1 p2 FU 0 S y) 3 (by omega) 18 19 (by omega) (-1) 0 (fun F i y hi hv => by
    have hC : CE S y w q := h1C.go (fun a ha hr => hv a (by omega) (by omega))
    show Ws_runs_h47 0 p1 p2 (F + 1) (nI i) S y = Ws_runs_h47 0 p1 p2 F (nI (i + 1)) S _
    rw [Ws_runs_h47, if_neg (show ¬ (3 : Int32) ≤ nI i from nI_ge (b := 3) hi (by omega)), hC.K, Option.bind_some, cr14 hC.F, ca18 hC.F hi, Option.bind_some, Option.bind_some, cr15 hC.F, ca19 hC.F hi, Option.bind_some, Option.bind_some, nI_1]) (fun F y hv => by
    show Ws_runs_h47 0 p1 p2 (F + 1) (nI 3) S y = _
    rw [Ws_runs_h47, if_pos (show (3 : Int32) ≤ nI 3 by decide)])
  obtain ⟨f2, y1, y2, y3, y4⟩ := s47
  have h2C : CE S f2 w q := h1C.go (fun a ha hr => y3 a (by omega) (by omega))
  have s74 := fill (e := f2) (X := fun F x y => Ws_runs_h74 0 p1 p2 F x S y) (cont := fun y => Ws_runs_h106 0 p1 p2 FU S (dI y 0 25 0)) q.ni (by omega) 27 (-1) (fun F i y hi hv => by
    have hC : CE S y w q := h2C.go (fun a ha hr => hv a (by omega))
    show Ws_runs_h74 0 p1 p2 (F + 1) (nI i) S y = Ws_runs_h74 0 p1 p2 F (nI (i + 1)) S _
    rw [Ws_runs_h74, hC.K, Option.bind_some, hC.T, Option.bind_some, hC.kM, Option.bind_some, hC.injs, Option.bind_some, if_neg (nI_ge hi (by omega)), cr23 hC.F, ca27 hC.F (show i < 19 by omega), Option.bind_some, Option.bind_some, nI_1]) (fun F y hv => by
    have hC : CE S y w q := h2C.go (fun a ha hr => hv a (by omega))
    show Ws_runs_h74 0 p1 p2 (F + 1) (nI q.ni) S y = _
    rw [Ws_runs_h74, hC.K, Option.bind_some, hC.T, Option.bind_some, hC.kM, Option.bind_some, hC.injs, Option.bind_some, if_pos (nI_le (Nat.le_refl _) (by omega)), Option.bind_some])
  obtain ⟨f3, z1, z2, z3, z4⟩ := s74
  refine ⟨dI f3 0 25 0, ?_, fun t ht => ?_, fun v hv => ?_, fun i hi => ?_, ⟨?_, ?_, ?_, ?_, ?_⟩, fun j hj => ?_, fun v n0 n1 n2 n3 n4 => ?_⟩
  · have e0 : Ws_runs 0 p1 p2 S d = Ws_runs_h22 0 p1 p2 FU 0 S d5 := by
      unfold Ws_runs
      rw [h.K, Option.bind_some, Option.bind_some, Option.bind_some, Option.bind_some, Option.bind_some, hd5]
    rw [e0, x1]
    exact y1.trans z1
  · exact (x2 t ht).same ((dI_ne (by omega)).trans ((z3 _ (by omega)).trans (y3 _ (by omega) (by omega)))) (by show f3.2.1 _ = _; rw [z2, y2]) (by show f3.2.2 _ = _; rw [z2, y2])
  · rw [dI_ne (by omega), dI_ne (by omega), z3 18 (by omega), z3 19 (by omega)]
    exact y4 v hv
  · rw [dI_ne (by omega)]
    exact z4 i hi
  · rw [dI_nk (by omega), z3 0 (by omega), y3 0 (by omega) (by omega), x3 0 (by omega)]; exact c24
  · exact dI_at
  · rw [dI_nk (by omega), z3 0 (by omega), y3 0 (by omega) (by omega), x3 0 (by omega)]; exact c26
  · rw [dI_nk (by omega), z3 0 (by omega), y3 0 (by omega) (by omega), x3 0 (by omega)]; exact c27
  · rw [dI_nk (by omega), z3 0 (by omega), y3 0 (by omega) (by omega), x3 0 (by omega)]; exact c28
  · rw [dI_nk (by omega), z3 0 (by omega), y3 0 (by omega) (by omega), x3 0 (by omega)]; exact b5 j hj
  · rw [dI_ne n0, z3 v n3, y3 v n1 n2, x3 v n4]; exact a5 v n0
/-- the model ahead of its first tick -/
def StM (d f : Dt) : Prop := (∀ t, t < 5 → BnM f t) ∧ (∀ j, j < 255 → f.1 33 j = -1) ∧ (∀ i, i < 19 → f.1 34 i = 0) ∧ (∀ v, v < 3 → f.1 35 v = 0 ∧ f.1 36 v = 0) ∧ (∀ x, x < 200 → f.1 37 x = -1) ∧ (f.1 0 56 = 0 ∧ f.1 0 57 = 0 ∧ f.1 0 59 = -1) ∧ (∀ j, j < 56 ∨ 59 < j → f.1 0 j = d.1 0 j) ∧ ∀ v, 1 ≤ v → v < 14 → f.1 v = d.1 v
theorem bornAll_M : ∃ f, Mo_beginRun_h2 0 MoS FU 0 d = Mo_beginRun_h120 0 MoS FU 0 f ∧ (∀ t, t < 5 → BnM f t) ∧ ∀ v, v < 14 ∨ 31 < v → f.1 v = d.1 v := by
  refine loop_FU (X := fun F (x : Int32 × Dt) => Mo_beginRun_h2 0 MoS F x.1 x.2) (Inv := fun i x => x.1 = nI i ∧ (∀ t, t < i → BnM x.2 t) ∧ ∀ v, v < 14 ∨ 31 < v → x.2.1 v = d.1 v) (P := fun o => ∃ f, o = Mo_beginRun_h120 0 MoS FU 0 f ∧ (∀ t, t < 5 → BnM f t) ∧ ∀ v, v < 14 ∨ 31 < v → f.1 v = d.1 v) (x := (0, d)) 5 (by omega) ⟨rfl, fun t ht => absurd ht (by omega), fun _ _ => rfl⟩ ?_ ?_
  · rintro i hi F ⟨x, y⟩ ⟨hx, g1, g2⟩
    have hx' : x = nI i := hx
    subst hx'
    obtain ⟨d', b1, b2, b3, b4⟩ := born_M (y := y) hi
    refine ⟨(nI (i + 1), d'), b1 F, rfl, fun t ht => ?_, fun v hv => (b3 v hv).trans (g2 v hv)⟩
    by_cases c : t = i
    · subst c; exact b2
    · have hb : BnM y t := g1 t (by omega)
      exact hb.same (fun v _ => (b4 v t c).1) (b4 24 t c).2.1 (b4 30 t c).2.2
  · rintro F ⟨x, y⟩ ⟨hx, g1, g2⟩
    have hx' : x = nI 5 := hx
    subst hx'
    refine ⟨y, ?_, g1, g2⟩
    show Mo_beginRun_h2 0 MoS (F + 1) (nI 5) y = _
    rw [Mo_beginRun_h2, if_pos (show (5 : Int32) ≤ nI 5 by decide)]
theorem start_M : ∃ f, Mo_beginRun 0 MoS d = some ((), f) ∧ StM d f := by
  have vb : vp_nar .boolean 0 = 0 := by decide
  obtain ⟨f1, x1, x2, x3⟩ := bornAll_M (d := d)
  obtain ⟨f2, y1, y2, y3, y4⟩ := fill (e := f1) (X := fun F x y => Mo_beginRun_h120 0 MoS F x y) (cont := fun y => Mo_beginRun_h142 0 MoS FU 0 y) 255 (by omega) 33 (-1) (fun F i y hi hv => by
    show Mo_beginRun_h120 0 MoS (F + 1) (nI i) y = Mo_beginRun_h120 0 MoS F (nI (i + 1)) _
    rw [Mo_beginRun_h120, if_neg (show ¬ (255 : Int32) ≤ nI i from nI_ge (b := 255) hi (by omega)), Mo_K, Option.bind_some, MoS_R0_47, ma33 hi, Option.bind_some, Option.bind_some, nI_1]) (fun F y hv => by
    show Mo_beginRun_h120 0 MoS (F + 1) (nI 255) y = _
    rw [Mo_beginRun_h120, if_pos (show (255 : Int32) ≤ nI 255 by decide)])
  obtain ⟨f3, z1, z2, z3, z4⟩ := fill (e := f2) (X := fun F x y => Mo_beginRun_h142 0 MoS F x y) (cont := fun y => Mo_beginRun_h163 0 MoS FU 0 y) 19 (by omega) 34 0 (fun F i y hi hv => by
    show Mo_beginRun_h142 0 MoS (F + 1) (nI i) y = Mo_beginRun_h142 0 MoS F (nI (i + 1)) _
    rw [Mo_beginRun_h142, if_neg (show ¬ (18 : Int32) < nI i from nI_nlt (a := 18) (by omega) (by omega)), Mo_K, Option.bind_some, MoS_R0_48, ma34 hi, Option.bind_some, Option.bind_some, nI_1, vb]) (fun F y hv => by
    show Mo_beginRun_h142 0 MoS (F + 1) (nI 19) y = _
    rw [Mo_beginRun_h142, if_pos (show (18 : Int32) < nI 19 by decide)])
  obtain ⟨f4, u1, u2, u3, u4⟩ := fill2 (e := f3) (X := fun F x y => Mo_beginRun_h163 0 MoS F x y) (cont := fun y => Mo_beginRun_h190 0 MoS FU 0 y) 3 (by omega) 35 36 (by omega) 0 0 (fun F i y hi hv => by
    show Mo_beginRun_h163 0 MoS (F + 1) (nI i) y = Mo_beginRun_h163 0 MoS F (nI (i + 1)) _
    rw [Mo_beginRun_h163, if_neg (show ¬ (3 : Int32) ≤ nI i from nI_ge (b := 3) hi (by omega)), Mo_K, Option.bind_some, MoS_R0_49, ma35 hi, Option.bind_some, Option.bind_some, MoS_R0_50, ma36 hi, Option.bind_some, Option.bind_some, nI_1, vb]) (fun F y hv => by
    show Mo_beginRun_h163 0 MoS (F + 1) (nI 3) y = _
    rw [Mo_beginRun_h163, if_pos (show (3 : Int32) ≤ nI 3 by decide)])
  obtain ⟨f5, v1, v2, v3, v4⟩ := fill (e := f4) (X := fun F x y => Mo_beginRun_h190 0 MoS F x y) (cont := fun y => some ((), dI (dI (dI y 0 56 0) 0 57 0) 0 59 (-1))) 200 (by omega) 37 (-1) (fun F i y hi hv => by
    show Mo_beginRun_h190 0 MoS (F + 1) (nI i) y = Mo_beginRun_h190 0 MoS F (nI (i + 1)) _
    rw [Mo_beginRun_h190, if_neg (show ¬ (200 : Int32) ≤ nI i from nI_ge (b := 200) hi (by omega)), Mo_K, Option.bind_some, MoS_R0_51, ma37 hi, Option.bind_some, Option.bind_some, nI_1]) (fun F y hv => by
    show Mo_beginRun_h190 0 MoS (F + 1) (nI 200) y = _
    rw [Mo_beginRun_h190, if_pos (show (200 : Int32) ≤ nI 200 by decide), Mo_K, Option.bind_some, Option.bind_some, Option.bind_some, Option.bind_some])
  have c : ∀ v, v ≠ 0 → (dI (dI (dI f5 0 56 0) 0 57 0) 0 59 (-1)).1 v = f5.1 v := fun v hv => by rw [dI_ne hv, dI_ne hv, dI_ne hv]
  refine ⟨dI (dI (dI f5 0 56 0) 0 57 0) 0 59 (-1), ?_, fun t ht => ?_, fun j hj => ?_, fun i hi => ?_, fun v hv => ?_, fun x hx => ?_, ⟨?_, ?_, ?_⟩, fun j hj => ?_, fun v h1 h2 => ?_⟩
  · unfold Mo_beginRun
    rw [x1]
    exact y1.trans (z1.trans (u1.trans v1))
  · refine (x2 t ht).same (fun v hv => ?_) ?_ ?_
    · by_cases c0 : v = 0
      · subst c0
        by_cases c9 : t = 56 ∨ t = 57 ∨ t = 59
        · omega
        · rw [dI_nk (by omega), dI_nk (by omega), dI_nk (by omega), v3 0 (by omega), u3 0 (by omega) (by omega), z3 0 (by omega), y3 0 (by omega)]
      · rw [c v c0, v3 v (by omega), u3 v (by omega) (by omega), z3 v (by omega), y3 v (by omega)]
    · show f5.2.1 24 t = _
      rw [v2, u2, z2, y2]
    · show f5.2.2 30 t = _
      rw [v2, u2, z2, y2]
  · rw [c 33 (by omega), v3 33 (by omega), u3 33 (by omega) (by omega), z3 33 (by omega)]; exact y4 j hj
  · rw [c 34 (by omega), v3 34 (by omega), u3 34 (by omega) (by omega)]; exact z4 i hi
  · rw [c 35 (by omega), c 36 (by omega), v3 35 (by omega), v3 36 (by omega)]; exact u4 v hv
  · rw [c 37 (by omega)]; exact v4 x hx
  · rw [dI_nk (by omega), dI_nk (by omega), dI_at]
  · rw [dI_nk (by omega), dI_at]
  · exact dI_at
  · rw [dI_nk (by omega), dI_nk (by omega), dI_nk (by omega), v3 0 (by omega), u3 0 (by omega) (by omega), z3 0 (by omega), y3 0 (by omega), x3 0 (by omega)]
  · rw [c v (by omega), v3 v (by omega), u3 v (by omega) (by omega), z3 v (by omega), y3 v (by omega), x3 v (by omega)]
/-- both ahead of their first ticks -/
theorem start_eq (h0 : RE S (dI d 0 28 p2) m w q op cl) (cy : Nat) {p P : Int32} : ∃ e1 e2, Ws_runs 0 p p2 S d = Ws_runs_h106 0 p p2 FU S e1 ∧ Mo_runs 0 P MoS m = Mo_runs_h6 0 P MoS FU 0 e2 ∧ TK S (dI d 0 28 p2) m w q (d.1 0 30) (d.1 0 31, fun _ => 0) cy 0 0 0 S e1 e2 := by
  have hC0 := h0.C
  have hl35 := Ws_len hC0.F
  have h5 := hC0.nt5
  have h3 := hC0.nw3
  have hni := hC0.ni18
  have hC : CE S d w q := hC0.go (fun a ha hr => (dI_ne (show a ≠ 0 by omega)).symm)
  obtain ⟨e1, x1, x2, x3, x4, ⟨x24, x25, x26, x27, x28⟩, x5, x6⟩ := start_C (p1 := p) (p2 := p2) hC
  obtain ⟨e2, y1, y2, y3, y4, y5, y6, ⟨y56, y57, y59⟩, y7, y8⟩ := start_M (d := m)
  have m1 : (-1 : Int32) = nI 0 - 1 := by decide
  refine ⟨e1, e2, x1, ?_, ⟨⟨Ext.rf, by omega, by omega, by omega⟩, ⟨⟨fun a h1 h2 => ?_, fun j hj => ?_⟩, ⟨fun a h1 h2 => y8 a h1 h2, fun j hj => y7 j hj⟩⟩, ⟨x25, by omega⟩, fun t ht => BnL (x2 t ht) (y2 t (by omega)), ⟨fun v hv => ⟨0, by rw [(x3 v (by omega)).1, m1], by omega⟩, fun i hi v j z1 z2 z3 z4 => ?_⟩, fun i hi s j n1 n2 n3 n4 n5 => ?_, ⟨x24, y56, fun i hi => absurd hi (by omega)⟩, fun v hv => ⟨0, by omega, (x3 v (by omega)).2, (y5 v (by omega)).1⟩, ⟨by omega, x26, y57, x27.trans y59.symm, ⟨fun _ => by omega, fun _ => y59⟩⟩, fun x hx => ⟨fun z => absurd z (by omega), fun _ => y6 x hx⟩, fun t ht z => ⟨0, by omega, ?_, ?_, fun j hj => absurd hj (by omega), fun _ => ?_⟩⟩, fun _ x hx => (y5 x hx).2, by omega⟩
  · unfold Mo_runs
    rw [Mo_K, Option.bind_some, y1, bind2_some]
  · rw [x6 a (by omega) (by omega) (by omega) (by omega) (by omega), dI_ne (by omega)]
  · by_cases c : j = 28
    · subst c
      rw [x28, dI_at]
    · rw [x5 j (by omega), dI_nk (by omega)]
  · obtain ⟨j', hj', hj2⟩ : ∃ j', nI j = nI j' ∧ j' < 200 := by
      rcases hC.iw hi with ⟨v', j', k0, k1, k2, k3, k4, k5, k6⟩ | ⟨k, s, j', tm, k0, k1, k2, k3, k4, k5, k6, k7, k8, k9⟩
      · exact ⟨j', z4.symm.trans k3, k4⟩
      · exact ⟨j', z4.symm.trans k4, by omega⟩
    rw [y4 i (by omega), (x3 v (by omega)).1, hj', m1, if_neg (fun c => absurd ((j_le (j := j') (x := 0) (by omega) (by omega)).mp c) (by omega))]
  · rw [x4 i hi, y3 _ (by omega)]
  · have := y2 t (by omega)
    exact this.2.2.2.2.2.2.2.2.2.2.1
  · rw [x5 30 (by omega), show nI 0 = 0 from rfl, Int32.sub_zero]
  · rw [x5 31 (by omega)]
end
