/-! THE RUN: one tick -/
set_option maxRecDepth 100000
section
variable {w : Nat → Int32} {q : TdP} {u k kh kg r b t z : Nat} {kj : Nat → Nat} {S0 S S' : Sp} {d0 m0 d e f e1 e2 f1 f2 g1 g2 : Dt} {op cl : Nat → Nat} {W : Int32} {F0 : Int32 × (Nat → Int32)} {P V P' V' : Nat → Prop} {p1 p2 p3 : Int32}
theorem RT.flag (h : RT S0 d0 m0 w q W F0 u k kh kj kg r b S e1 e2) {x : Int32} : RT S0 d0 m0 w q W F0 u k kh kj kg r b S e1 (dI e2 0 58 x) := by
  obtain ⟨q1, q2, q3, q4, q5, q6, q7, q8, q9, q10, q11⟩ := h
  exact RT.lives (u' := u) ⟨q1, q2, q3, q4, q5, q6, q7, q8, q9, q10, q11⟩ q2.1 (q2.2.dI (by omega)) (fun s hs => (q4 s hs).same rfl rfl rfl (fun p h1 h2 => dI_nk (by omega)) rfl rfl rfl) (q6.go rfl (dI_ne (by omega))) (fun f h1 h2 => rfl) (fun v h1 h2 h3 => rfl) (fun f h1 h2 h3 => dI_nk (by omega)) (fun v h1 h2 h3 h4 h5 h6 => dI_ne (by omega))
/-- what follows a Reset in its tick -/
theorem reset_end {cy : Nat} (h : RT S0 d0 m0 w q W F0 99 k kh kj kg r b S e1 e2) (h0 : RE S0 d0 m0 w q op cl) (hcy : w 1 = nI cy) (hc1 : 1 ≤ cy) (hc2 : cy ≤ 50) (hlk : b < 3 → ¬ irm (nI (k + 1)) (nI cy) = 0 → ∀ x, x < 3 → e2.1 36 x = 0) : ∃ f1 f2, Ws_goes_b112 0 (some z) S e1 = some ((), S, f1) ∧ (if irm (nI (k + 1)) (nI cy) = 0 then Mo_tick_b64 0 (nI k) MoS e2 else some ((), e2)) = some ((), f2) ∧ RT S0 d0 m0 w q W F0 99 k kh kj kg r b S f1 f2 ∧ (b < 3 → ∀ x, x < 3 → f2.1 36 x = 0) := by
  have hC := (h.re h0).C
  obtain ⟨cy', -, c2, c3, -⟩ := hC.cyF
  have hT : e1.1 0 25 = nI k := h.2.2.1.1
  unfold Ws_goes_b112
  rw [hC.K, Option.bind_some, hC.T, Option.bind_some, c3, ← c2, hcy, gz_ok (nI_ne0 (by omega) (by omega)), Option.bind_some, hT, nI_1]
  by_cases c : irm (nI (k + 1)) (nI cy) = 0
  · rw [if_neg (fun y => y c), if_pos c]
    exact rend_eq h h0
  · rw [if_pos c, if_neg c]
    exact ⟨e1, e2, rfl, rfl, h, fun hb => hlk hb c⟩
theorem tick_eq {cy : Nat} (h : RT S0 d0 m0 w q W F0 99 k k (fun _ => k) k r b S e1 e2) (h0 : RE S0 d0 m0 w q op cl) (hk : k < 200) (hb : b < 3) (hr : r + 31 < 3000) (hn : e1.1 17 k = -1) (hlk : ∀ x, x < 3 → e2.1 36 x = 0) (hcy : w 1 = nI cy) (hc1 : 1 ≤ cy) (hc2 : cy ≤ 50) : ∃ r' b' S' f1 f2 r4, Ws_goes 0 S e1 = some ((), S', f1) ∧ Mo_tick 0 (nI k) MoS e2 = some ((), f2) ∧ RT S0 d0 m0 w q W (F0.1, fun j => if j = k then r4 else F0.2 j) 99 k (k + 1) (fun _ => k + 1) (k + 1) r' b' S' f1 f2 ∧ (b' < 3 → ∀ x, x < 3 → f2.1 36 x = 0) ∧ r' ≤ r + 6 + if (k + 1) % cy = 0 then 25 else 0 := by
  have h5 := h0.C.nt5
  have hbs := begins_eq h0 (h.flag (x := 0)) hk
  obtain ⟨a1, a2, b1, b2, b3, b4, b5, b6⟩ := hbs
  rw [dI_at] at b4
  rw [dI_ne (by omega)] at b5
  have hRa := b3.re h0
  obtain ⟨r4, c1, r5, c2, g1, g2, c3, c4, c5, c6⟩ := works_eq b3 h0 hk hb (by omega) hk (fun _ _ => by omega) (by rw [b6]; exact hn)
  have hirm : irm (nI (k + 1)) (nI cy) = nI ((k + 1) % cy) := irm_nI (by omega) (by omega) (by omega)
  have hmod : (k + 1) % cy < cy := Nat.mod_lt _ (by omega)
  have hz : irm (nI (k + 1)) (nI cy) = 0 ↔ (k + 1) % cy = 0 := by
    rw [hirm]
    constructor
    · intro y
      by_cases c : (k + 1) % cy = 0
      · exact c
      · exact absurd y (nI_ne0 (by omega) (by omega))
    · intro y; rw [y]; rfl
  have hb33 : ∀ y : Dt, ∀ y', Mo_asksLate 0 (nI k) MoS y = some ((), y') → y'.1 1 1 = nI cy → Mo_tick_b33 0 (nI k) MoS y = if irm (nI (k + 1)) (nI cy) = 0 then (if ¬ y'.1 0 58 = 0 then Mo_tick_b64 0 (nI k) MoS y' else bind2 (Mo_endsCycle 0 (nI k) MoS y') fun _ d13 => Mo_tick_b64 0 (nI k) MoS d13) else some ((), y') := by
    intro y y' h1 h2
    unfold Mo_tick_b33
    rw [Mo_K, Option.bind_some, h1, bind2_some, show aix MoS 50 (MoS.2.1 0 1) 1 = some (1, 1) from Mw 1 (by omega), Option.bind_some, h2, gz_ok (nI_ne0 (by omega) (by omega)), Option.bind_some, nI_1]
  have hM : Mo_tick 0 (nI k) MoS e2 = Mo_tick_b33 0 (nI k) MoS g2 := by
    unfold Mo_tick
    rw [Mo_K, Option.bind_some, Option.bind_some, b2, bind2_some, c1, Option.bind_some, MoS_R0_51, ma37 hk, Option.bind_some, Option.bind_some]
    by_cases c : r4 = -1
    · rw [if_pos c] at c3 ⊢
      cases c3
      rfl
    · rw [if_neg c] at c3 ⊢
      rw [c3, bind2_some]
  have hC0 : Ws_goes 0 S e1 = bindE (Ws_works 0 S a1) (fun v9 S9 d9 => Ws_goes_b112 0 (some v9) S9 d9) (fun _ S3 d4 => Ws_goes_h27 0 FU 0 S3 d4) := b1
  rw [hM, hC0]
  have hg36 : ∀ x, x < 3 → g2.1 36 x = 0 := fun x hx => by rw [c5, b5]; exact hlk x hx
  rcases c6 with ⟨d1, d2, d3⟩ | ⟨z, S', d1, d2, d3⟩
  · rw [d1, bindE_l]
    obtain ⟨r6, l1, l2, i1, i2, i3, i4, ⟨F, i5, i6, i7⟩ | ⟨z, S', i5, i6, i7⟩⟩ := late_eq d2 h0 hk hb (by omega) (d3.trans b4)
    · have hRl := i6.re h0
      have hCl := hRl.C
      have hl36 : ∀ x, x < 3 → l2.1 36 x = 0 := fun x hx => by rw [i4]; exact hg36 x hx
      have hw1 : l2.1 1 1 = nI cy := (hRl.row (i := 1) (by omega)).trans hcy
      obtain ⟨cy', -, e2', e3, -⟩ := hCl.cyF
      have hT : l1.1 0 25 = nI k := i6.2.2.1.1
      have hcy4 : l1.1 q.a 4 = nI cy := e3.trans (e2'.symm.trans hcy)
      rw [i5, hb33 g2 l2 i2 hw1, i7, Ws_goes_h27, hCl.K, Option.bind_some, hCl.tasks, Option.bind_some, if_pos (nI_le (Nat.le_refl _) (by omega)), hCl.T, Option.bind_some, hcy4, gz_ok (nI_ne0 (by omega) (by omega)), Option.bind_some, hT, nI_1]
      have hb67 : ∀ d : Dt, CE S d w q → d.1 0 25 = nI k → Ws_goes_b67 0 S d = if ¬ irm (nI (k + 1)) (nI cy) = 0 then some ((), S, d) else Ws_goes_h86 0 FU 0 S d := by
        intro d hd hdT
        obtain ⟨cy', -, e2', e3, -⟩ := hd.cyF
        unfold Ws_goes_b67
        rw [hd.K, Option.bind_some, hd.T, Option.bind_some, e3.trans (e2'.symm.trans hcy), gz_ok (nI_ne0 (by omega) (by omega)), Option.bind_some, hdT, nI_1]
      by_cases c : irm (nI (k + 1)) (nI cy) = 0
      · rw [if_neg (show ¬ ¬ irm (nI (k + 1)) (nI cy) = 0 from fun y => y c), if_pos c, if_neg (show ¬ ¬ (0 : Int32) = 0 from fun y => y rfl), if_pos (hz.mp c)]
        obtain ⟨r7, o1, o2, j1, ⟨j2, j3, j4, j5⟩ | ⟨z, S', j2, j3, j4, j5⟩⟩ := looks_eq i6 h0 hk hb (by omega) i7 hl36
        · obtain ⟨f1, f2, k1, k2, k3, k4⟩ := end_eq j4 h0 hb (by omega) j5
          rw [j2, bindE_l, hb67 o1 (j4.re h0).C j4.2.2.1.1, if_neg (show ¬ ¬ irm (nI (k + 1)) (nI cy) = 0 from fun y => y c), k1, j3, k2]
          exact ⟨r7, b, S, f1, f2, r4, rfl, rfl, k3, fun _ => k4, by omega⟩
        · obtain ⟨f1, f2, k1, k2, k3, k4⟩ := reset_end (z := z) j4 h0 hcy hc1 hc2 (fun _ y => absurd c y)
          rw [if_pos c] at k2
          rw [j2, bindE_r, k1, j3, bind2_some, k2]
          exact ⟨r7, b + 1, S', f1, f2, r4, rfl, rfl, k3, k4, by omega⟩
      · rw [if_pos (show ¬ irm (nI (k + 1)) (nI cy) = 0 from c), if_neg c, hb67 l1 hCl hT, if_pos (show ¬ irm (nI (k + 1)) (nI cy) = 0 from c), if_neg (fun y => c (hz.mpr y))]
        exact ⟨r6, b, S, l1, l2, r4, rfl, rfl, i6, fun _ => hl36, by omega⟩
    · have hRl := i6.re h0
      have hw1 : l2.1 1 1 = nI cy := (hRl.row (i := 1) (by omega)).trans hcy
      obtain ⟨f1, f2, k1, k2, k3, k4⟩ := reset_end (z := z) i6 h0 hcy hc1 hc2 (fun _ _ x hx => by rw [i4]; exact hg36 x hx)
      rw [i5, hb33 g2 l2 i2 hw1, i7, if_pos (show ¬ (1 : Int32) = 0 by decide), k1, k2]
      exact ⟨r6, b + 1, S', f1, f2, r4, rfl, rfl, k3, k4, by omega⟩
  · have hRl := d2.re h0
    have hw1 : g2.1 1 1 = nI cy := (hRl.row (i := 1) (by omega)).trans hcy
    have hal : Mo_asksLate 0 (nI k) MoS g2 = some ((), g2) := by
      unfold Mo_asksLate
      rw [show FU = 9999 + 1 from rfl, Mo_asksLate_h2, Mo_K, Option.bind_some, hRl.m4.1, Option.bind_some, hRl.m4.2, d3, if_pos (show ¬ (1 : Int32) = 0 by decide)]
      split <;> rfl
    obtain ⟨f1, f2, k1, k2, k3, k4⟩ := reset_end (z := z) d2 h0 hcy hc1 hc2 (fun _ _ => hg36)
    rw [d1, bindE_r, hb33 g2 g2 hal hw1, d3, if_pos (show ¬ (1 : Int32) = 0 by decide), k1, k2]
    exact ⟨r5, b + 1, S', f1, f2, r4, rfl, rfl, k3, k4, by omega⟩
end
