/-! THE RUN: lives at the end of a cycle -/
set_option maxRecDepth 100000
section
variable {w : Nat → Int32} {q : TdP} {u k kh kg r b t z : Nat} {kj : Nat → Nat} {S0 S S' : Sp} {d0 m0 d e f e1 e2 f1 f2 g1 g2 : Dt} {op cl : Nat → Nat} {W : Int32} {F0 : Int32 × (Nat → Int32)} {P V P' V' : Nat → Prop} {p1 p2 p3 : Int32}
/-- a change of the lives' rows and of the model's rows 22 23 25 26 36 alone -/
theorem RT.cyc (h : RT S0 d0 m0 w q W F0 u k kh kj kg r b S e1 e2) (h0 : RE S0 d0 m0 w q op cl) (a : ∀ v, (v < 30 ∨ 35 ≤ v) → f1.1 v = e1.1 v) (c : ∀ v, v ≠ 22 → v ≠ 23 → v ≠ 25 → v ≠ 26 → v ≠ 36 → f2.1 v = e2.1 v) (hL : ∀ t, t < q.nt → Lf q u k (kj t) kg r b f1 f2 t) : RT S0 d0 m0 w q W F0 u k kh kj kg r b S f1 f2 := by
  have hl35 := Ws_len h0.C.F
  obtain ⟨q1, q2, q3, q4, q5, q6, q7, q8, q9, q10, q11⟩ := h
  have c0 := c 0 (by omega) (by omega) (by omega) (by omega) (by omega)
  exact RT.lives (u' := u) ⟨q1, q2, q3, q4, q5, q6, q7, q8, q9, q10, q11⟩ (q2.1.by (fun v h1 h2 => a v (by omega)) (fun f hf => by rw [a 0 (by omega)])) (q2.2.by (fun v h1 h2 => c v (by omega) (by omega) (by omega) (by omega) (by omega)) (fun f hf => by rw [c0])) hL (q6.go (a 27 (by omega)) (c 33 (by omega) (by omega) (by omega) (by omega) (by omega))) (fun f h1 h2 => by rw [a 0 (by omega)]) (fun v h1 h2 h3 => a v (by omega)) (fun f h1 h2 h3 => by rw [c0]) (fun v h1 h2 h3 h4 h5 h6 => c v (by omega) (by omega) (by omega) (by omega) h6)
theorem wM_nI {x y : Nat} (hx : x < 5000) (hy : y ≤ 2) (h : Int32) : ∃ x' y', x' ≤ x ∧ y' ≤ 2 ∧ (wM h (nI x) (nI y)).1 = nI x' ∧ (wM h (nI x) (nI y)).2 = nI y' := by
  unfold wM
  by_cases c1 : h = 0
  rotate_left
  · rw [if_pos c1]; exact ⟨x, y, Nat.le_refl _, hy, rfl, rfl⟩
  rw [if_neg (fun z => z c1)]
  by_cases c2 : x = 0
  · rw [if_pos (show nI x = 0 by rw [c2]; rfl)]; exact ⟨x, y, Nat.le_refl _, hy, rfl, rfl⟩
  rw [if_neg (nI_ne0 (by omega) (by omega)), nI_1]
  by_cases c3 : y = 2
  · rw [if_pos (show 3 ≤ nI (y + 1) by rw [c3]; decide)]
    obtain ⟨x', rfl⟩ : ∃ x', x = x' + 1 := ⟨x - 1, by omega⟩
    exact ⟨x', 0, by omega, by omega, nI_pred x', rfl⟩
  · rw [if_neg (show ¬ 3 ≤ nI (y + 1) from nI_ge (b := 3) (by omega) (by omega))]
    exact ⟨x, y + 1, Nat.le_refl _, by omega, rfl, rfl⟩
theorem b64_M (hb : BdR b e1 e2) : ∃ f2, Mo_tick_b64 0 p1 MoS e2 = some ((), f2) ∧ ((b < 3 ∧ f2.2 = e2.2 ∧ (∀ v, v ≠ 22 → v ≠ 26 → v ≠ 36 → f2.1 v = e2.1 v) ∧ (∀ t, t < 5 → f2.1 22 t = 0 ∧ f2.1 26 t = 0) ∧ ∀ x, x < 3 → f2.1 36 x = 0) ∨ (¬ b < 3 ∧ f2 = e2)) := by
  obtain ⟨b1, b2, b3, b4, b5⟩ := hb
  unfold Mo_tick_b64
  rw [Mo_K, Option.bind_some]
  by_cases c : b < 3
  · rw [if_neg (fun y => y (b5.mpr c))]
    obtain ⟨f2, a1, a2, a3, a4, a5⟩ := newC_M (e2 := e2)
    rw [a1, bind2_some]
    exact ⟨f2, rfl, Or.inl ⟨c, a2, a3, a4, a5⟩⟩
  · rw [if_pos (fun y => c (b5.mp y))]
    exact ⟨e2, rfl, Or.inr ⟨c, rfl⟩⟩
theorem end_eq (h : RT S0 d0 m0 w q W F0 99 k kh kj kg r b S e1 e2) (h0 : RE S0 d0 m0 w q op cl) (hb : b < 3) (hr : r < 3000) (hfl : e2.1 0 58 = 0) : ∃ f1 f2, Ws_goes_h86 0 FU 0 S e1 = some ((), S, f1) ∧ (bind2 (Mo_endsCycle_b83 0 (nI k) MoS e2) fun _ d => Mo_tick_b64 0 (nI k) MoS d) = some ((), f2) ∧ RT S0 d0 m0 w q W F0 99 k kh kj kg r b S f1 f2 ∧ ∀ x, x < 3 → f2.1 36 x = 0 := by
  have hR := h.re h0
  have hC := hR.C
  have h5 := hC.nt5
  have hl35 := Ws_len h0.C.F
  have hbd := h.2.2.2.2.2.2.2.2.1
  obtain ⟨m2, a1, a2, a3, a4⟩ := restM (k := k) hR hfl
  have hbd2 : BdR b e1 m2 := hbd.go rfl rfl (by rw [a3 0 (by omega) (by omega)]) (by rw [a3 0 (by omega) (by omega)])
  obtain ⟨f2, c1, ⟨-, c2, c3, c4, c5⟩ | ⟨c2, -⟩⟩ := b64_M (p1 := nI k) hbd2
  rotate_left
  · exact absurd hb c2
  rw [a1, bind2_some, c1]
  have cf : ∀ v, v ≠ 22 → v ≠ 23 → v ≠ 25 → v ≠ 26 → v ≠ 36 → f2.1 v = e2.1 v := fun v n1 n2 n3 n4 n5 => (c3 v n1 n4 n5).trans (a3 v n2 n3)
  have cF : f2.2 = e2.2 := c2.trans a2
  have hq4 := h.2.2.2.1
  have key : ∃ f1, Ws_goes_h86 0 FU 0 S e1 = some ((), S, f1) ∧ (∀ v, (v < 30 ∨ 35 ≤ v) → f1.1 v = e1.1 v) ∧ ∀ t, t < q.nt → Lf q 99 k (kj t) kg r b f1 f2 t := by
    refine loop_FU (X := fun F (x : Int32 × Dt) => Ws_goes_h86 0 F x.1 S x.2) (Inv := fun i x => x.1 = nI i ∧ (∀ v, (v < 30 ∨ 35 ≤ v) → x.2.1 v = e1.1 v) ∧ x.2.2 = e1.2 ∧ (∀ t, t < i → Lf q 99 k (kj t) kg r b x.2 f2 t) ∧ ∀ t, i ≤ t → t < q.nt → x.2.1 (30 + t) = e1.1 (30 + t)) (P := fun o => ∃ f1, o = some ((), S, f1) ∧ (∀ v, (v < 30 ∨ 35 ≤ v) → f1.1 v = e1.1 v) ∧ ∀ t, t < q.nt → Lf q 99 k (kj t) kg r b f1 f2 t) (x := (0, e1)) q.nt (by omega) ⟨rfl, fun _ _ => rfl, rfl, fun t ht => absurd ht (by omega), fun _ _ _ => rfl⟩ ?_ ?_
    · rintro i hi F ⟨x, y⟩ ⟨hx, g1, g2, g3, g4⟩
      have hx' : x = nI i := hx
      subst hx'
      have g1' : ∀ v, (v < 30 ∨ 35 ≤ v) → y.1 v = e1.1 v := g1
      have g2' : y.2 = e1.2 := g2
      have g4' : y.1 (30 + i) = e1.1 (30 + i) := g4 i (Nat.le_refl _) hi
      have hCy : CE S y w q := hC.go (fun a ha hx => g1' a (by omega))
      have hi5 : i < 5 := by omega
      have hlf := hq4 i hi
      obtain ⟨-, -, -, -, -, -, -, ⟨x8, y8, l8, l8'⟩, ⟨x9, y9, l9, l9'⟩, -, -, l12, -⟩ := hlf
      have l8m : e2.1 23 i = nI x8 := l8'
      have l9m : e2.1 25 i = nI x9 := l9'
      have l16 : e1.1 (30 + i) 16 = e2.1 26 i := (l12 hb).2.1
      obtain ⟨y', r1, r2, r3, r10, r11, r14, r16, rr⟩ := rests_C (S := S) (d := y) (z := 30 + i) (x := x8) (y := x9) (cl_K hCy.F hi5) (by rw [g4']; exact l8) (by omega) (by rw [g4']; exact l9) y9
      show ∃ x' : Int32 × Dt, Ws_goes_h86 0 (F + 1) (nI i) S y = _ ∧ _
      rw [Ws_goes_h86, hCy.K, Option.bind_some, hCy.tasks, Option.bind_some, if_neg (nI_ge hi (by omega)), cr12 hCy.F, ca16 hCy.F hi5, Option.bind_some, cl_r hCy.F hi5, cl_K hCy.F hi5, Option.bind_some, r1, bind2_some, nI_1]
      refine ⟨(nI (i + 1), y'), rfl, rfl, fun v hv => (r2 v (by omega)).trans (g1' v hv), r3.trans g2', fun t ht => ?_, fun t h1 h2 => (r2 (30 + t) (by omega)).trans (g4 t (by omega) h2)⟩
      by_cases c : t = i
      · subst c
        obtain ⟨x', y9', w1, w2, w3, w4⟩ := wM_nI (x := x8) (y := x9) (by omega) y9 (e2.1 26 t)
        rw [g4', l16, l8, l9] at r10 r11
        have b23 : f2.1 23 t = nI x' := by rw [c3 23 (by omega) (by omega) (by omega), (a4 t hi).1, l8m, l9m, w3]
        have b25 : f2.1 25 t = nI y9' := by rw [c3 25 (by omega) (by omega) (by omega), (a4 t hi).2, l8m, l9m, w4]
        -- in two steps: well, then the end
        have s1 : Lf q 99 k (kj t) kg r b (dI (dI e1 (30 + t) 10 (nI x')) (30 + t) 11 (nI y9')) (dI (dI e2 23 t (nI x')) 25 t (nI y9')) t := (hq4 t hi).well rfl rfl rfl (x := x') (y := y9') (by omega) w2 ((dI_nk (by omega)).trans dI_at) dI_at (fun f n1 n2 => (dI_nk (by omega)).trans (dI_nk (by omega))) ((dI_nk (by omega)).trans dI_at) dI_at (fun p n1 n2 n3 => (dI_nk (by omega)).trans (dI_nk (by omega)))
        refine s1.ends (by rw [r3, g2']) (by rw [r3, g2']) cF (fun _ => ⟨r14, r16, (c4 t hi5).1, (c4 t hi5).2⟩) (fun f n1 n2 => ?_) (fun p n1 n2 n3 => ?_)
        · by_cases m10 : f = 10
          · subst m10
            rw [r10, w3, dI_nk (by omega), dI_at]
          by_cases m11 : f = 11
          · subst m11
            rw [r11, w4, dI_at]
          rw [rr f m10 m11 n1 n2, g4', dI_nk (by omega), dI_nk (by omega)]
        · by_cases m10 : p = 23
          · subst m10
            rw [b23, dI_nk (by omega), dI_at]
          by_cases m11 : p = 25
          · subst m11
            rw [b25, dI_at]
          rw [cf p n1 m10 m11 n2 (by omega), dI_nk (by omega), dI_nk (by omega)]
      · have hold : Lf q 99 k (kj t) kg r b y f2 t := g3 t (by omega)
        exact hold.same (r2 (30 + t) (by omega)) (by rw [r3]) (by rw [r3]) (fun _ _ _ => rfl) rfl rfl rfl
    · rintro F ⟨x, y⟩ ⟨hx, g1, g2, g3, g4⟩
      have hx' : x = nI q.nt := hx
      subst hx'
      have g1' : ∀ v, (v < 30 ∨ 35 ≤ v) → y.1 v = e1.1 v := g1
      have hCy : CE S y w q := hC.go (fun a ha hx => g1' a (by omega))
      show ∃ f1, Ws_goes_h86 0 (F + 1) (nI q.nt) S y = _ ∧ _
      rw [Ws_goes_h86, hCy.K, Option.bind_some, hCy.tasks, Option.bind_some, if_pos (nI_le (Nat.le_refl _) (by omega))]
      exact ⟨y, rfl, g1, g3⟩
  obtain ⟨f1, k1, k2, k3⟩ := key
  exact ⟨f1, f2, k1, rfl, h.cyc h0 k2 cf k3, c5⟩
theorem rend_eq (h : RT S0 d0 m0 w q W F0 99 k kh kj kg r b S e1 e2) (h0 : RE S0 d0 m0 w q op cl) : ∃ f1 f2, Ws_goes_h132 0 FU 0 S e1 = some ((), S, f1) ∧ Mo_tick_b64 0 (nI k) MoS e2 = some ((), f2) ∧ RT S0 d0 m0 w q W F0 99 k kh kj kg r b S f1 f2 ∧ (b < 3 → ∀ x, x < 3 → f2.1 36 x = 0) := by
  have hR := h.re h0
  have hC := hR.C
  have h5 := hC.nt5
  have hl35 := Ws_len h0.C.F
  have hbd := h.2.2.2.2.2.2.2.2.1
  obtain ⟨f2, c1, cc⟩ := b64_M (p1 := nI k) hbd
  have cf : ∀ v, v ≠ 22 → v ≠ 26 → v ≠ 36 → f2.1 v = e2.1 v := by
    rcases cc with ⟨-, -, c3, -⟩ | ⟨-, c3⟩
    · exact c3
    · intro v _ _ _; rw [c3]
  have cF : f2.2 = e2.2 := by
    rcases cc with ⟨-, c3, -⟩ | ⟨-, c3⟩
    · exact c3
    · rw [c3]
  have c4 : b < 3 → (∀ t, t < 5 → f2.1 22 t = 0 ∧ f2.1 26 t = 0) ∧ ∀ x, x < 3 → f2.1 36 x = 0 := by
    rcases cc with ⟨-, -, -, c3⟩ | ⟨c3, -⟩
    · exact fun _ => c3
    · exact fun z => absurd z c3
  have hq4 := h.2.2.2.1
  have key : ∃ f1, Ws_goes_h132 0 FU 0 S e1 = some ((), S, f1) ∧ (∀ v, (v < 30 ∨ 35 ≤ v) → f1.1 v = e1.1 v) ∧ ∀ t, t < q.nt → Lf q 99 k (kj t) kg r b f1 f2 t := by
    refine loop_FU (X := fun F (x : Int32 × Dt) => Ws_goes_h132 0 F x.1 S x.2) (Inv := fun i x => x.1 = nI i ∧ (∀ v, (v < 30 ∨ 35 ≤ v) → x.2.1 v = e1.1 v) ∧ x.2.2 = e1.2 ∧ (∀ t, t < i → Lf q 99 k (kj t) kg r b x.2 f2 t) ∧ ∀ t, i ≤ t → t < q.nt → x.2.1 (30 + t) = e1.1 (30 + t)) (P := fun o => ∃ f1, o = some ((), S, f1) ∧ (∀ v, (v < 30 ∨ 35 ≤ v) → f1.1 v = e1.1 v) ∧ ∀ t, t < q.nt → Lf q 99 k (kj t) kg r b f1 f2 t) (x := (0, e1)) q.nt (by omega) ⟨rfl, fun _ _ => rfl, rfl, fun t ht => absurd ht (by omega), fun _ _ _ => rfl⟩ ?_ ?_
    · rintro i hi F ⟨x, y⟩ ⟨hx, g1, g2, g3, g4⟩
      have hx' : x = nI i := hx
      subst hx'
      have g1' : ∀ v, (v < 30 ∨ 35 ≤ v) → y.1 v = e1.1 v := g1
      have g2' : y.2 = e1.2 := g2
      have g4' : y.1 (30 + i) = e1.1 (30 + i) := g4 i (Nat.le_refl _) hi
      have hCy : CE S y w q := hC.go (fun a ha hx => g1' a (by omega))
      have hi5 : i < 5 := by omega
      show ∃ x' : Int32 × Dt, Ws_goes_h132 0 (F + 1) (nI i) S y = _ ∧ _
      have hends : Ws_ends (some (30 + i)) S y = some ((), dI (dI y (30 + i) 16 0) (30 + i) 14 0) := by
        unfold Ws_ends
        rw [cl_K hCy.F hi5]; rfl
      rw [Ws_goes_h132, hCy.K, Option.bind_some, hCy.tasks, Option.bind_some, if_neg (nI_ge hi (by omega)), cr12 hCy.F, ca16 hCy.F hi5, Option.bind_some, cl_r hCy.F hi5, hends, bind2_some, nI_1]
      refine ⟨(nI (i + 1), _), rfl, rfl, fun v hv => (dI_ne (by omega)).trans ((dI_ne (by omega)).trans (g1' v hv)), g2', fun t ht => ?_, fun t h1 h2 => (dI_ne (by omega)).trans ((dI_ne (by omega)).trans (g4 t (by omega) h2))⟩
      by_cases c : t = i
      · subst c
        refine (hq4 t hi).ends (by show y.2.1 _ = _; rw [g2']) (by show y.2.2 _ = _; rw [g2']) cF (fun z => ⟨dI_at, (dI_nk (by omega)).trans dI_at, ((c4 z).1 t hi5).1, ((c4 z).1 t hi5).2⟩) (fun f n1 n2 => ?_) (fun p n1 n2 n3 => ?_)
        · show (dI (dI y (30 + t) 16 0) (30 + t) 14 0).1 (30 + t) f = _
          rw [dI_nk (by omega), dI_nk (by omega), g4']
        · rw [cf p n1 n2 (by omega)]
      · have hold : Lf q 99 k (kj t) kg r b y f2 t := g3 t (by omega)
        exact hold.same ((dI_ne (by omega)).trans (dI_ne (by omega))) rfl rfl (fun _ _ _ => rfl) rfl rfl rfl
    · rintro F ⟨x, y⟩ ⟨hx, g1, g2, g3, g4⟩
      have hx' : x = nI q.nt := hx
      subst hx'
      have g1' : ∀ v, (v < 30 ∨ 35 ≤ v) → y.1 v = e1.1 v := g1
      have hCy : CE S y w q := hC.go (fun a ha hx => g1' a (by omega))
      show ∃ f1, Ws_goes_h132 0 (F + 1) (nI q.nt) S y = _ ∧ _
      rw [Ws_goes_h132, hCy.K, Option.bind_some, hCy.tasks, Option.bind_some, if_pos (nI_le (Nat.le_refl _) (by omega))]
      exact ⟨y, rfl, g1, g3⟩
  obtain ⟨f1, k1, k2, k3⟩ := key
  exact ⟨f1, f2, k1, c1, h.cyc h0 k2 (fun v n1 n2 n3 n4 n5 => cf v n1 n4 n5) k3, fun z => (c4 z).2⟩
end
