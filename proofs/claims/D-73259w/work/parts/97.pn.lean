/-! THE RUN: all watchers look -/
set_option maxRecDepth 100000
section
variable {w : Nat → Int32} {q : TdP} {u k kh kg r b t z : Nat} {kj : Nat → Nat} {S0 S S' : Sp} {d0 m0 d e f e1 e2 f1 f2 g1 g2 : Dt} {op cl : Nat → Nat} {W : Int32} {F0 : Int32 × (Nat → Int32)} {P V P' V' : Nat → Prop} {p1 p2 p3 : Int32}
def OutN (S0 : Sp) (d0 m0 : Dt) (w : Nat → Int32) (q : TdP) (W : Int32) (F0 : Int32 × (Nat → Int32)) (k kh : Nat) (kj : Nat → Nat) (kg rm b : Nat) (S : Sp) (eC : Option ((Unit ⊕ Nat) × Sp × Dt) → Dt → Prop) (eM : Option (Unit × Dt) → Dt → Prop) (o : Option ((Unit ⊕ Nat) × Sp × Dt)) (p : Option (Unit × Dt)) : Prop :=
  ∃ r f1 f2, r ≤ rm ∧ ((eC o f1 ∧ eM p f2 ∧ RT S0 d0 m0 w q W F0 99 k kh kj kg r b S f1 f2 ∧ f2.1 0 58 = 0) ∨ ∃ z S', o = some (.inr z, S', f1) ∧ p = some ((), f2) ∧ RT S0 d0 m0 w q W F0 99 k kh kj kg r (b + 1) S' f1 f2 ∧ f2.1 0 58 = 1)
theorem RT.lk (h : RT S0 d0 m0 w q W F0 u k kh kj kg r b S e1 e2) (h0 : RE S0 d0 m0 w q op cl) (a : ∀ v, v ≠ 20 → f1.1 v = e1.1 v) (aF : f1.2 = e1.2) (c : ∀ v, v ≠ 36 → f2.1 v = e2.1 v) (cF : f2.2 = e2.2) : RT S0 d0 m0 w q W F0 u k kh kj kg r b S f1 f2 := by
  have hl35 := Ws_len h0.C.F
  obtain ⟨q1, q2, q3, q4, q5, q6, q7, q8, q9, q10, q11⟩ := h
  exact RT.lives (u' := u) ⟨q1, q2, q3, q4, q5, q6, q7, q8, q9, q10, q11⟩ (q2.1.by (fun v h1 h2 => a v (by omega)) (fun f hf => by rw [a 0 (by omega)])) (q2.2.by (fun v h1 h2 => c v (by omega)) (fun f hf => by rw [c 0 (by omega)])) (fun s hs => (q4 s hs).same (a (30 + s) (by omega)) (by rw [aF]) (by rw [aF]) (fun p h1 h2 => by rw [c p (by omega)]) (by rw [cF]) (by rw [cF]) (by rw [cF])) (q6.go (a 27 (by omega)) (c 33 (by omega))) (fun f h1 h2 => by rw [a 0 (by omega)]) (fun v h1 h2 h3 => a v h3) (fun f h1 h2 h3 => by rw [c 0 (by omega)]) (fun v h1 h2 h3 h4 h5 h6 => c v h6)
theorem CE.cyF (h : CE S d w q) : ∃ cy, cy ≤ 50 ∧ w 1 = nI cy ∧ d.1 q.a 4 = nI cy ∧ (w 7 ≤ 0 ∨ 5 ≤ cy) := by
  obtain ⟨h', cy, lo, ln, a1, a2, w1, w2, a3, a4, a5, a6, a7, a8⟩ := h.wf.2.2.2.1
  obtain ⟨-, -, ta, t0, t1, t2, -, -, -, -, -, -, -, -, -, v4, -⟩ := h
  refine ⟨cy, w2, w1, v4.trans w1, ?_⟩
  by_cases c : ln = 0
  · exact Or.inl (by rw [a5, c]; decide)
  · exact Or.inr (a7 (by omega)).2
theorem lk2 (h : RT S0 d0 m0 w q W F0 99 k kh kj kg r b S e1 e2) (h0 : RE S0 d0 m0 w q op cl) (hk : k < 200) (hb : b < 3) (hr : r + 8 < 3000) {v : Nat} (hv : v < q.nw) (hfl : e2.1 0 58 = 0) (hlk : ∀ x, v < x → x < q.nw → e1.1 20 x = e2.1 36 x) : OutL S0 d0 m0 w q W F0 k kh kj kg (r + 8) b S e1 (dI e2 36 v 1) (fun o f1 => o = some (.inl (), S, f1)) (fun p f2 => p = some ((), f2)) (Ws_looks_2 0 (nI v) S e1) (Mo_looks 0 (nI v) (nI k) MoS e2) := by
  have hR := h.re h0
  have hC := hR.C
  have h5 := hC.nt5
  have h3 := hC.nw3
  obtain ⟨cy, cy1, cy2, cy3, -⟩ := hC.cyF
  have hT : e1.1 0 25 = nI k := h.2.2.1.1
  have h2 : RT S0 d0 m0 w q W F0 99 k kh kj kg r b S e1 (dI e2 36 v 1) := h.lk h0 (fun _ _ => rfl) rfl (fun v hv => dI_ne hv) rfl
  have hcC : Ws_looks_2 0 (nI v) S e1 = Ws_looks_2_h17 0 (nI v) FU (nI k + 1 - nI cy) 0 S e1 := by
    unfold Ws_looks_2
    rw [hC.K, Option.bind_some, hC.T, Option.bind_some, Option.bind_some, hT, cy3]
  have hcM : Mo_looks 0 (nI v) (nI k) MoS e2 = Mo_looks_h21 0 (nI v) (nI k) MoS FU (nI k + 1 - nI cy) 0 (dI e2 36 v 1) := by
    unfold Mo_looks
    rw [Mo_K, Option.bind_some, show aix MoS 50 (MoS.2.1 0 1) 1 = some (1, 1) from Mw 1 (by omega), Option.bind_some, Option.bind_some, show e2.1 1 1 = nI cy from (hR.row (i := 1) (by omega)).trans cy2, MoS_R0_50, ma36 (show v < 3 by omega), Option.bind_some, Option.bind_some]
    rfl
  rw [hcC, hcM]
  obtain ⟨r1, f1, f2, a1, a2, a3, ⟨a4, a5, a6, a7⟩ | ⟨z, S', a4, a5, a6, a7⟩⟩ := lookT h2 h0 hk hb (by omega) hv (dI_nk (by omega) |>.trans hfl) (X := nI k + 1 - nI cy)
  · obtain ⟨r2, g1, g2, b1, b2, b3, b4⟩ := lookW a6 h0 hk hb (by omega) hv a7 (fun x x1 x2 => by rw [a2, a3, dI_nk (by omega)]; exact hlk x x1 x2)
    rw [a4, a5]
    exact ⟨r2, g1, g2, by omega, b2.trans a2, b3.trans a3, b4⟩
  · exact ⟨r1, f1, f2, by omega, a2, a3, Or.inr ⟨z, S', a4, a5, a6, a7⟩⟩
theorem b83_fl (hR : RE S e1 e2 w q op cl) (hf : e2.1 0 58 = 1) : Mo_endsCycle_b83 0 (nI k) MoS e2 = some ((), e2) := by
  have h5 := hR.C.nt5
  unfold Mo_endsCycle_b83
  rw [show FU = 9999 + 1 from rfl, Mo_endsCycle_h85, Mo_K, Option.bind_some, hR.m4.1, Option.bind_some, hR.m4.2, hf, if_pos (show ¬ (1 : Int32) = 0 by decide)]
  split <;> rfl
theorem b41_fl (hR : RE S e1 e2 w q op cl) (hf : e2.1 0 58 = 1) : Mo_endsCycle_b41 0 (nI k) MoS e2 = some ((), e2) := by
  unfold Mo_endsCycle_b41
  rw [Mo_K, Option.bind_some, hf, if_pos (show ¬ (1 : Int32) = 0 by decide), b83_fl hR hf]
theorem h9_fl (hR : RE S e1 e2 w q op cl) (hf : e2.1 0 58 = 1) {G : Nat} {v2 : Int32} : Mo_endsCycle_h9 0 (nI k) MoS (G + 1) v2 e2 = some ((), e2) := by
  rw [Mo_endsCycle_h9, b41_fl hR hf, Mo_K, Option.bind_some, hf, if_pos (show ¬ (1 : Int32) = 0 by decide)]
  split <;> rfl
theorem looks_eq (h : RT S0 d0 m0 w q W F0 99 k kh kj kg r b S e1 e2) (h0 : RE S0 d0 m0 w q op cl) (hk : k < 200) (hb : b < 3) (hr : r + 25 < 3000) (hfl : e2.1 0 58 = 0) (hlk : ∀ x, x < 3 → e2.1 36 x = 0) : OutN S0 d0 m0 w q W F0 k kh kj kg (r + 25) b S (fun o f1 => o = some (.inl (), S, f1)) (fun p f2 => p = Mo_endsCycle_b83 0 (nI k) MoS f2) (Ws_looks 0 S e1) (Mo_endsCycle 0 (nI k) MoS e2) := by
  have hR := h.re h0
  have hC := hR.C
  have h5 := hC.nt5
  have h3 := hC.nw3
  unfold Ws_looks Mo_endsCycle
  rw [hC.K, Option.bind_some, hC.T, Option.bind_some, Option.bind_some, hC.nwF, Mo_K, Option.bind_some, hR.m3.1, Option.bind_some, Option.bind_some, hR.m3.2]
  refine loop2p_FU (X := fun F (x : Int32 × Dt) => Ws_looks_h10 0 F x.1 S x.2) (Y := fun F (x : Int32 × Dt) => Mo_endsCycle_h9 0 (nI k) MoS F x.1 x.2) (Inv := fun i x y => x.1 = nI (q.nw - i) - 1 ∧ y.1 = nI (q.nw - i) - 1 ∧ (∃ r', r' ≤ r + 8 * i ∧ RT S0 d0 m0 w q W F0 99 k kh kj kg r' b S x.2 y.2) ∧ y.2.1 0 58 = 0 ∧ (∀ v, v < q.nw → q.nw - i ≤ v → x.2.1 20 v = y.2.1 36 v) ∧ ∀ v, v < q.nw - i → y.2.1 36 v = 0) (P := OutN S0 d0 m0 w q W F0 k kh kj kg (r + 25) b S (fun o f1 => o = some (.inl (), S, f1)) (fun p f2 => p = Mo_endsCycle_b83 0 (nI k) MoS f2)) (x := (nI q.nw - 1, e1)) (y := (nI q.nw - 1, e2)) q.nw (by omega) ⟨rfl, rfl, ⟨r, by omega, h⟩, hfl, fun v h1 h2 => by omega, fun v hv => hlk v (by omega)⟩ ?_ ?_
  · rintro i hi F G ⟨x, d⟩ ⟨y, m⟩ ⟨hx, hy, ⟨r', hr', g1⟩, g2, g3, g4⟩
    obtain ⟨c, hc⟩ : ∃ c, q.nw - i = c + 1 := ⟨q.nw - i - 1, by omega⟩
    have hx' : x = nI c := by
      have : x = nI (q.nw - i) - 1 := hx
      rw [this, hc, nI_pred]
    have hy' : y = nI c := by
      have : y = nI (q.nw - i) - 1 := hy
      rw [this, hc, nI_pred]
    subst hx' hy'
    have g2' : m.1 0 58 = 0 := g2
    have g3' : ∀ v, v < q.nw → q.nw - i ≤ v → d.1 20 v = m.1 36 v := g3
    have g4' : ∀ v, v < q.nw - i → m.1 36 v = 0 := g4
    have g1' : RT S0 d0 m0 w q W F0 99 k kh kj kg r' b S d m := g1
    have hR := g1'.re h0
    have hC := hR.C
    have hT : d.1 0 25 = nI k := g1'.2.2.1.1
    have hcw : c < q.nw := by omega
    have hc3 : c < 3 := by omega
    have hci : q.nw - (i + 1) = c := by omega
    have hm1 : nI c + -1 = nI c - 1 := by grind
    obtain ⟨a, a1, a2, a3⟩ := asleep_eq hR hcw g1'.2.2.2.2.1 (T := nI k)
    show (∃ x' y' : Int32 × Dt, Ws_looks_h10 0 (F + 2) (nI c) S d = _ ∧ Mo_endsCycle_h9 0 (nI k) MoS (G + 2) (nI c) m = _ ∧ _) ∨ OutN S0 d0 m0 w q W F0 k kh kj kg (r + 25) b S _ _ (Ws_looks_h10 0 (F + 2) (nI c) S d) (Mo_endsCycle_h9 0 (nI k) MoS (G + 2) (nI c) m)
    rw [Ws_looks_h10, if_neg (nI_pos (by omega)), hC.K, Option.bind_some, hT, a1, Option.bind_some, Mo_endsCycle_h9, if_neg (nI_pos (by omega)), Mo_K, Option.bind_some, g2', if_neg (show ¬ ¬ (0 : Int32) = 0 from fun y => y rfl), a2, Option.bind_some, hm1]
    unfold Ws_looks_b36
    rw [cr16 hC.F, ca20 hC.F hc3, Option.bind_some, Option.bind_some, hC.K, Option.bind_some, cr16 hC.F, ca20 hC.F hc3, Option.bind_some, dI_at, hm1]
    rcases a3 with rfl | rfl
    · -- awake
      rw [if_neg (show ¬ ¬ (0 : Int32) = 0 from fun y => y rfl), if_neg (show ¬ ¬ (0 : Int32) = 0 from fun y => y rfl), show vp_nar .boolean 1 = 1 from by decide, if_neg (show ¬ (1 : Int32) = 0 by decide)]
      have h2 : RT S0 d0 m0 w q W F0 99 k kh kj kg r' b S (dI d 20 c 1) m := g1'.lk h0 (fun v hv => dI_ne hv) rfl (fun _ _ => rfl) rfl
      obtain ⟨r2, f1, f2, b1, b2, b3, ⟨b4, b5, b6, b7⟩ | ⟨z, S', b4, b5, b6, b7⟩⟩ := lk2 h2 h0 hk hb (by omega) hcw g2' (fun x x1 x2 => by rw [dI_nk (by omega)]; exact g3' x x2 (by omega))
      · left
        rw [b4, b5, bindE_l, bind2_some]
        refine ⟨(nI c - 1, f1), (nI c - 1, f2), rfl, rfl, by rw [hci], by rw [hci], ⟨r2, by omega, b6⟩, b7, fun v v1 v2 => ?_, fun v v1 => ?_⟩
        · show f1.1 20 v = f2.1 36 v
          rw [b2, b3]
          by_cases c9 : v = c
          · subst c9
            rw [dI_at, dI_at]
          · rw [dI_nk (by omega), dI_nk (by omega)]
            exact g3' v v1 (by omega)
        · show f2.1 36 v = 0
          rw [b3, dI_nk (by omega)]
          exact g4' v (by omega)
      · right
        rw [b4, b5, bindE_r, bind2_some]
        have hR2 := b6.re h0
        exact ⟨r2, f1, f2, by omega, Or.inr ⟨z, S', rfl, h9_fl hR2 b7, b6, b7⟩⟩
    · -- asleep
      rw [if_pos (show ¬ (1 : Int32) = 0 by decide), if_pos (show ¬ (1 : Int32) = 0 by decide), show vp_nar .boolean 0 = 0 from by decide, if_pos rfl]
      left
      refine ⟨(nI c - 1, dI d 20 c 0), (nI c - 1, m), rfl, rfl, by rw [hci], by rw [hci], ⟨r', by omega, g1'.lk h0 (fun v hv => dI_ne hv) rfl (fun _ _ => rfl) rfl⟩, g2, fun v v1 v2 => ?_, fun v v1 => g4' v (by omega)⟩
      show (dI d 20 c 0).1 20 v = m.1 36 v
      by_cases c9 : v = c
      · subst c9
        rw [dI_at]
        exact (g4' v (by omega)).symm
      · rw [dI_nk (by omega)]
        exact g3' v v1 (by omega)
  · rintro F G ⟨x, d⟩ ⟨y, m⟩ ⟨hx, hy, ⟨r', hr', g1⟩, g2, g3, g4⟩
    have hx' : x = -1 := by
      have : x = nI (q.nw - q.nw) - 1 := hx
      rw [this, Nat.sub_self]; decide
    have hy' : y = -1 := by
      have : y = nI (q.nw - q.nw) - 1 := hy
      rw [this, Nat.sub_self]; decide
    subst hx' hy'
    have g1' : RT S0 d0 m0 w q W F0 99 k kh kj kg r' b S d m := g1
    have g2' : m.1 0 58 = 0 := g2
    have g3' : ∀ v, v < q.nw → q.nw - q.nw ≤ v → d.1 20 v = m.1 36 v := g3
    have hR := g1'.re h0
    have hC := hR.C
    have hend : OutN S0 d0 m0 w q W F0 k kh kj kg (r + 25) b S (fun o f1 => o = some (.inl (), S, f1)) (fun p f2 => p = Mo_endsCycle_b83 0 (nI k) MoS f2) (some (.inl (), S, d)) (Mo_endsCycle_b83 0 (nI k) MoS m) := ⟨r', d, m, by omega, Or.inl ⟨rfl, rfl, g1', g2'⟩⟩
    show OutN S0 d0 m0 w q W F0 k kh kj kg (r + 25) b S _ _ (Ws_looks_h10 0 (F + 1) (-1) S d) (Mo_endsCycle_h9 0 (nI k) MoS (G + 1) (-1) m)
    rw [Ws_looks_h10, if_pos (show (-1 : Int32) < 0 by decide), hC.K, Option.bind_some, hC.T, Option.bind_some, hC.nwF, Mo_endsCycle_h9, if_pos (show (-1 : Int32) < 0 by decide)]
    unfold Mo_endsCycle_b41
    rw [Mo_K, Option.bind_some, g2', if_neg (show ¬ ¬ (0 : Int32) = 0 from fun y => y rfl), hR.m3.1, Option.bind_some, hR.m3.2]
    by_cases c0 : q.nw = 0
    · rw [if_pos (show nI q.nw ≤ 0 by rw [c0]; decide), if_pos (show nI q.nw ≤ 0 by rw [c0]; decide)]
      exact hend
    rw [if_neg (nI_nle (by omega) (by omega)), if_neg (nI_nle (by omega) (by omega)), cr16 hC.F, show aix S 51 (some 20) 0 = some (20, 0) from ca20 hC.F (i := 0) (by omega), Option.bind_some, MoS_R0_50, show aix MoS 51 (some 36) 0 = some (36, 0) from ma36 (i := 0) (by omega), Option.bind_some, show d.1 20 0 = m.1 36 0 from g3' 0 (by omega) (by omega)]
    by_cases c1 : m.1 36 0 = 0
    rotate_left
    · rw [if_pos c1, if_pos c1]
      exact hend
    rw [if_neg (fun y => y c1), if_neg (fun y => y c1), bE_id]
    obtain ⟨q1, q2, q3, q4, q5, q6, q7, q8, q9, q10, q11⟩ := g1'
    have hrt : RT S0 d0 m0 w q W F0 99 k kh kj kg (r' + 1) b S (recC r' k 7 0 3 d) (recM r' k 7 0 3 m) := by
      refine RT.rec (u' := 99) (e1 := d) (e2 := m) ⟨q1, q2, q3, q4, q5, q6, q7, q8, q9, q10, q11⟩ q2.1 q2.2 (fun s hs => (q4 s hs).mono (Nat.le_refl _) (Nat.le_refl _) (by omega)) (fun v hv => ?_) (fun f h1 h2 => rfl) (fun v h1 h2 h3 h4 h5 h6 => rfl) (fun f h1 h2 h3 => rfl) (fun v h1 h2 h3 h4 h5 h6 => rfl) (by omega) (fun z => rfl)
      obtain ⟨a, a1, a2⟩ := q8 v hv
      exact ⟨a, by omega, a2⟩
    obtain ⟨f1, f2, x1, x2, x3, x4⟩ := notes_eq (t := 0) (g1 := d) (g2 := m) (kd := 7) (x := 0) (L := 3) (v := 0) h0 hC q3.1 q7.1 q7.2.1 (by omega) hrt hk hb (by omega) (by omega) (by omega) (fun y => by omega) (fun _ => ⟨rfl, by omega⟩) (p2 := -1) (p3 := -1) (Or.inl (by omega)) (fun y => by omega) (fun y => by omega)
    have hcomb : (bind2 (Mo_records 0 (nI k) 7 0 3 MoS m) fun _ d13 => bind2 (Mo_climbs 0 3 (-1) (-1) (nI k) MoS d13) fun _ d14 => Mo_endsCycle_b83 0 (nI k) MoS d14) = Mo_endsCycle_b83 0 (nI k) MoS f2 := by
      have x1' : (bind2 (Mo_records 0 (nI k) 7 0 3 MoS m) fun _ m => Mo_climbs 0 3 (-1) (-1) (nI k) MoS m) = some ((), f2) := x1
      cases hh : Mo_records 0 (nI k) 7 0 3 MoS m with
      | none =>
        rw [hh] at x1'
        cases x1'
      | some a =>
        rw [hh] at x1'
        rw [bind2_some] at x1' ⊢
        rw [x1', bind2_some]
    rw [hcomb]
    rcases x4 with ⟨y1, y2, y3⟩ | ⟨z, S', y1, y2, y3⟩
    · exact ⟨r' + 1, f1, f2, by omega, Or.inl ⟨y1, rfl, y2, y3.trans g2'⟩⟩
    · exact ⟨r' + 1, f1, f2, by omega, Or.inr ⟨z, S', y1, b83_fl (y2.re h0) y3, y2, y3⟩⟩
end
