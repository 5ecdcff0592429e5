/-! THE RUN: a cycle ends -/
set_option maxRecDepth 100000
/-- count and well behind a cycle -/
def wM (h m y : Int32) : Int32 × Int32 := if ¬ h = 0 then (m, y) else if m = 0 then (m, y) else if 3 ≤ y + 1 then (m - 1, 0) else (m, y + 1)
section
variable {w : Nat → Int32} {q : TdP} {u k kh kg r b t z : Nat} {kj : Nat → Nat} {S0 S S' : Sp} {d0 m0 d e f e1 e2 f1 f2 g1 g2 : Dt} {op cl : Nat → Nat} {W : Int32} {F0 : Int32 × (Nat → Int32)} {P V P' V' : Nat → Prop} {p1 p2 p3 : Int32}
theorem restM (hR : RE S e1 e2 w q op cl) (hfl : e2.1 0 58 = 0) : ∃ f2, Mo_endsCycle_b83 0 (nI k) MoS e2 = some ((), f2) ∧ f2.2 = e2.2 ∧ (∀ v, v ≠ 23 → v ≠ 25 → f2.1 v = e2.1 v) ∧ ∀ t, t < q.nt → f2.1 23 t = (wM (e2.1 26 t) (e2.1 23 t) (e2.1 25 t)).1 ∧ f2.1 25 t = (wM (e2.1 26 t) (e2.1 23 t) (e2.1 25 t)).2 := by
  have h5 := hR.C.nt5
  unfold Mo_endsCycle_b83
  refine loop_FU (X := fun F (x : Int32 × Dt) => Mo_endsCycle_h85 0 (nI k) MoS F x.1 x.2) (Inv := fun i x => x.1 = nI i ∧ x.2.2 = e2.2 ∧ (∀ v, v ≠ 23 → v ≠ 25 → x.2.1 v = e2.1 v) ∧ (∀ t, t < i → x.2.1 23 t = (wM (e2.1 26 t) (e2.1 23 t) (e2.1 25 t)).1 ∧ x.2.1 25 t = (wM (e2.1 26 t) (e2.1 23 t) (e2.1 25 t)).2) ∧ ∀ t, i ≤ t → x.2.1 23 t = e2.1 23 t ∧ x.2.1 25 t = e2.1 25 t) (P := fun o => ∃ f2, o = some ((), f2) ∧ f2.2 = e2.2 ∧ (∀ v, v ≠ 23 → v ≠ 25 → f2.1 v = e2.1 v) ∧ ∀ t, t < q.nt → f2.1 23 t = (wM (e2.1 26 t) (e2.1 23 t) (e2.1 25 t)).1 ∧ f2.1 25 t = (wM (e2.1 26 t) (e2.1 23 t) (e2.1 25 t)).2) (x := (0, e2)) q.nt (by omega) ⟨rfl, rfl, fun _ _ _ => rfl, fun t ht => absurd ht (by omega), fun _ _ => ⟨rfl, rfl⟩⟩ ?_ ?_
  · rintro i hi F ⟨x, y⟩ ⟨hx, g1, g2, g3, g4⟩
    have hx' : x = nI i := hx
    subst hx'
    have g1' : y.2 = e2.2 := g1
    have g2' : ∀ v, v ≠ 23 → v ≠ 25 → y.1 v = e2.1 v := g2
    have g4' : ∀ t, i ≤ t → y.1 23 t = e2.1 23 t ∧ y.1 25 t = e2.1 25 t := g4
    have hR' : RE S e1 y w q op cl := hR.m ⟨fun a _ _ => g2' a (by omega) (by omega), fun j _ => by rw [g2' 0 (by omega) (by omega)]⟩
    have hi5 : i < 5 := by omega
    have hstep : ∀ d : Dt, d.2 = y.2 → (∀ v, v ≠ 23 → v ≠ 25 → d.1 v = y.1 v) → (∀ t, t ≠ i → d.1 23 t = y.1 23 t ∧ d.1 25 t = y.1 25 t) → d.1 23 i = (wM (e2.1 26 i) (e2.1 23 i) (e2.1 25 i)).1 → d.1 25 i = (wM (e2.1 26 i) (e2.1 23 i) (e2.1 25 i)).2 → ∃ x' : Int32 × Dt, Mo_endsCycle_h85 0 (nI k) MoS F (nI (i + 1)) d = Mo_endsCycle_h85 0 (nI k) MoS F x'.1 x'.2 ∧ x'.1 = nI (i + 1) ∧ x'.2.2 = e2.2 ∧ (∀ v, v ≠ 23 → v ≠ 25 → x'.2.1 v = e2.1 v) ∧ (∀ t, t < i + 1 → x'.2.1 23 t = (wM (e2.1 26 t) (e2.1 23 t) (e2.1 25 t)).1 ∧ x'.2.1 25 t = (wM (e2.1 26 t) (e2.1 23 t) (e2.1 25 t)).2) ∧ ∀ t, i + 1 ≤ t → x'.2.1 23 t = e2.1 23 t ∧ x'.2.1 25 t = e2.1 25 t := by
      intro d k1 k2 k3 k4 k5
      refine ⟨(nI (i + 1), d), rfl, rfl, k1.trans g1', fun v h1 h2 => (k2 v h1 h2).trans (g2' v h1 h2), fun t ht => ?_, fun t ht => ?_⟩
      · by_cases c : t = i
        · subst c; exact ⟨k4, k5⟩
        · exact ⟨(k3 t c).1.trans (g3 t (by omega)).1, (k3 t c).2.trans (g3 t (by omega)).2⟩
      · exact ⟨(k3 t (by omega)).1.trans (g4' t (by omega)).1, (k3 t (by omega)).2.trans (g4' t (by omega)).2⟩
    obtain ⟨y23, y25⟩ := g4' i (Nat.le_refl _)
    show ∃ x' : Int32 × Dt, Mo_endsCycle_h85 0 (nI k) MoS (F + 1) (nI i) y = _ ∧ _
    rw [Mo_endsCycle_h85, Mo_K, Option.bind_some, hR'.m4.1, Option.bind_some, hR'.m4.2, if_neg (nI_ge hi (by omega)), g2' 0 (by omega) (by omega), hfl, if_neg (show ¬ ¬ (0 : Int32) = 0 from fun y => y rfl), MoS_R0_40, ma26 hi5, Option.bind_some, g2' 26 (by omega) (by omega), nI_1]
    unfold wM at hstep
    by_cases c1 : e2.1 26 i = 0
    rotate_left
    · rw [if_pos c1] at hstep ⊢
      exact hstep y rfl (fun _ _ _ => rfl) (fun _ _ => ⟨rfl, rfl⟩) y23 y25
    rw [if_neg (show ¬ ¬ e2.1 26 i = 0 from fun y => y c1)] at hstep ⊢
    rw [MoS_R0_37, ma23 hi5, Option.bind_some, y23]
    by_cases c2 : e2.1 23 i = 0
    · rw [if_pos c2] at hstep
      rw [if_neg (show ¬ ¬ e2.1 23 i = 0 from fun y => y c2)]
      exact hstep y rfl (fun _ _ _ => rfl) (fun _ _ => ⟨rfl, rfl⟩) y23 y25
    rw [if_neg c2] at hstep
    rw [if_pos c2, MoS_R0_39, ma25 hi5, Option.bind_some, y25, Option.bind_some, dI_at]
    by_cases c3 : 3 ≤ e2.1 25 i + 1
    · rw [if_pos c3] at hstep ⊢
      rw [Option.bind_some, show (dI (dI y 25 i (e2.1 25 i + 1)) 25 i 0).1 23 i = e2.1 23 i from (dI_nk (by omega)).trans ((dI_nk (by omega)).trans y23), Option.bind_some]
      refine hstep _ rfl (fun v h1 h2 => ?_) (fun t ht => ⟨?_, ?_⟩) ?_ ?_
      · rw [dI_ne h1, dI_ne h2, dI_ne h2]
      · rw [dI_nk (by omega), dI_nk (by omega), dI_nk (by omega)]
      · rw [dI_nk (by omega), dI_nk (by omega), dI_nk (by omega)]
      · rw [dI_at]
      · rw [dI_nk (by omega), dI_at]
    · rw [if_neg c3] at hstep ⊢
      refine hstep _ rfl (fun v h1 h2 => ?_) (fun t ht => ⟨?_, ?_⟩) ?_ ?_
      · rw [dI_ne h2]
      · rw [dI_nk (by omega)]
      · rw [dI_nk (by omega)]
      · rw [dI_nk (by omega)]; exact y23
      · rw [dI_at]
  · rintro F ⟨x, y⟩ ⟨hx, g1, g2, g3, g4⟩
    have hx' : x = nI q.nt := hx
    subst hx'
    have g2' : ∀ v, v ≠ 23 → v ≠ 25 → y.1 v = e2.1 v := g2
    have hR' : RE S e1 y w q op cl := hR.m ⟨fun a _ _ => g2' a (by omega) (by omega), fun j _ => by rw [g2' 0 (by omega) (by omega)]⟩
    show ∃ f2, Mo_endsCycle_h85 0 (nI k) MoS (F + 1) (nI q.nt) y = _ ∧ _
    rw [Mo_endsCycle_h85, Mo_K, Option.bind_some, hR'.m4.1, Option.bind_some, hR'.m4.2, if_pos (nI_le (Nat.le_refl _) (by omega))]
    exact ⟨y, rfl, g1, g2, g3⟩
theorem newC_M : ∃ f2, Mo_newCycle 0 MoS e2 = some ((), f2) ∧ f2.2 = e2.2 ∧ (∀ v, v ≠ 22 → v ≠ 26 → v ≠ 36 → f2.1 v = e2.1 v) ∧ (∀ t, t < 5 → f2.1 22 t = 0 ∧ f2.1 26 t = 0) ∧ ∀ x, x < 3 → f2.1 36 x = 0 := by
  have vb : vp_nar .boolean 0 = 0 := by decide
  unfold Mo_newCycle
  refine loop_FU (X := fun F (x : Int32 × Dt) => Mo_newCycle_h2 0 MoS F x.1 x.2) (Inv := fun i x => x.1 = nI i ∧ x.2.2 = e2.2 ∧ (∀ v, v ≠ 22 → v ≠ 26 → v ≠ 36 → x.2.1 v = e2.1 v) ∧ ∀ t, t < i → x.2.1 22 t = 0 ∧ x.2.1 26 t = 0) (P := fun o => ∃ f2, o = some ((), f2) ∧ f2.2 = e2.2 ∧ (∀ v, v ≠ 22 → v ≠ 26 → v ≠ 36 → f2.1 v = e2.1 v) ∧ (∀ t, t < 5 → f2.1 22 t = 0 ∧ f2.1 26 t = 0) ∧ ∀ x, x < 3 → f2.1 36 x = 0) (x := (0, e2)) 5 (by omega) ⟨rfl, rfl, fun _ _ _ _ => rfl, fun t ht => absurd ht (by omega)⟩ ?_ ?_
  · rintro i hi F ⟨x, y⟩ ⟨hx, g1, g2, g3⟩
    have hx' : x = nI i := hx
    subst hx'
    show ∃ x' : Int32 × Dt, Mo_newCycle_h2 0 MoS (F + 1) (nI i) y = _ ∧ _
    rw [Mo_newCycle_h2, if_neg (show ¬ (5 : Int32) ≤ nI i from nI_ge (b := 5) hi (by omega)), Mo_K, Option.bind_some, MoS_R0_36, ma22 hi, Option.bind_some, Option.bind_some, MoS_R0_40, ma26 hi, Option.bind_some, Option.bind_some, nI_1, vb]
    refine ⟨(nI (i + 1), _), rfl, rfl, g1, fun v h1 h2 h3 => (dI_ne h2).trans ((dI_ne h1).trans (g2 v h1 h2 h3)), fun t ht => ?_⟩
    by_cases c : t = i
    · subst c
      exact ⟨(dI_nk (by omega)).trans dI_at, dI_at⟩
    · exact ⟨(dI_nk (by omega)).trans ((dI_nk (by omega)).trans (g3 t (by omega)).1), (dI_nk (by omega)).trans ((dI_nk (by omega)).trans (g3 t (by omega)).2)⟩
  · rintro F ⟨x, y⟩ ⟨hx, g1, g2, g3⟩
    have hx' : x = nI 5 := hx
    subst hx'
    show ∃ f2, Mo_newCycle_h2 0 MoS (F + 1) (nI 5) y = _ ∧ _
    rw [Mo_newCycle_h2, if_pos (show (5 : Int32) ≤ nI 5 by decide)]
    refine loop_FU (X := fun F (x : Int32 × Dt) => Mo_newCycle_h29 0 MoS F x.1 x.2) (Inv := fun i x => x.1 = nI i ∧ x.2.2 = e2.2 ∧ (∀ v, v ≠ 22 → v ≠ 26 → v ≠ 36 → x.2.1 v = e2.1 v) ∧ (∀ t, t < 5 → x.2.1 22 t = 0 ∧ x.2.1 26 t = 0) ∧ ∀ t, t < i → x.2.1 36 t = 0) (P := fun o => ∃ f2, o = some ((), f2) ∧ f2.2 = e2.2 ∧ (∀ v, v ≠ 22 → v ≠ 26 → v ≠ 36 → f2.1 v = e2.1 v) ∧ (∀ t, t < 5 → f2.1 22 t = 0 ∧ f2.1 26 t = 0) ∧ ∀ x, x < 3 → f2.1 36 x = 0) (x := (0, y)) 3 (by omega) ⟨rfl, g1, g2, g3, fun t ht => absurd ht (by omega)⟩ ?_ ?_
    · rintro i hi F ⟨x, y⟩ ⟨hx, g1, g2, g3, g4⟩
      have hx' : x = nI i := hx
      subst hx'
      show ∃ x' : Int32 × Dt, Mo_newCycle_h29 0 MoS (F + 1) (nI i) y = _ ∧ _
      rw [Mo_newCycle_h29, if_neg (show ¬ (3 : Int32) ≤ nI i from nI_ge (b := 3) hi (by omega)), Mo_K, Option.bind_some, MoS_R0_50, ma36 hi, Option.bind_some, Option.bind_some, nI_1, vb]
      refine ⟨(nI (i + 1), _), rfl, rfl, g1, fun v h1 h2 h3 => (dI_ne h3).trans (g2 v h1 h2 h3), fun t ht => ⟨(dI_nk (by omega)).trans (g3 t ht).1, (dI_nk (by omega)).trans (g3 t ht).2⟩, fun t ht => ?_⟩
      by_cases c : t = i
      · subst c
        exact dI_at
      · exact (dI_nk (by omega)).trans (g4 t (by omega))
    · rintro F ⟨x, y⟩ ⟨hx, g1, g2, g3, g4⟩
      have hx' : x = nI 3 := hx
      subst hx'
      show ∃ f2, Mo_newCycle_h29 0 MoS (F + 1) (nI 3) y = _ ∧ _
      rw [Mo_newCycle_h29, if_pos (show (3 : Int32) ≤ nI 3 by decide)]
      exact ⟨y, rfl, g1, g2, g3, g4⟩
theorem rests_C {x y : Nat} (hK : isK S 8 (some z) = some z) (h10 : d.1 z 10 = nI x) (hx : x < 5000) (h11 : d.1 z 11 = nI y) (hy : y ≤ 2) : ∃ d', Li_rests z S d = some ((), d') ∧ (∀ v, v ≠ z → d'.1 v = d.1 v) ∧ d'.2 = d.2 ∧ d'.1 z 10 = (wM (d.1 z 16) (d.1 z 10) (d.1 z 11)).1 ∧ d'.1 z 11 = (wM (d.1 z 16) (d.1 z 10) (d.1 z 11)).2 ∧ d'.1 z 14 = 0 ∧ d'.1 z 16 = 0 ∧ ∀ f, f ≠ 10 → f ≠ 11 → f ≠ 14 → f ≠ 16 → d'.1 z f = d.1 z f := by
  have h47 : ∀ y : Dt, Li_rests_b47 z S y = some ((), dI (dI y z 16 0) z 14 0) := by
    intro y
    unfold Li_rests_b47
    rw [hK]; rfl
  unfold Li_rests
  rw [hK, Option.bind_some, h47, wM, h10, h11]
  by_cases c1 : d.1 z 16 = 0
  rotate_left
  · rw [if_pos c1, if_pos c1]
    refine ⟨_, rfl, fun v hv => (dI_ne hv).trans (dI_ne hv), rfl, ?_, ?_, dI_at, (dI_nk (by omega)).trans dI_at, fun f n1 n2 n3 n4 => (dI_nk (by omega)).trans (dI_nk (by omega))⟩
    · rw [dI_nk (by omega), dI_nk (by omega)]; exact h10
    · rw [dI_nk (by omega), dI_nk (by omega)]; exact h11
  rw [if_neg (show ¬ ¬ d.1 z 16 = 0 from fun y => y c1), if_neg (show ¬ ¬ d.1 z 16 = 0 from fun y => y c1)]
  by_cases c2 : x = 0
  · rw [if_pos (show nI x ≤ 0 by rw [c2]; decide), if_pos (show nI x = 0 by rw [c2]; rfl)]
    refine ⟨_, rfl, fun v hv => (dI_ne hv).trans (dI_ne hv), rfl, ?_, ?_, dI_at, (dI_nk (by omega)).trans dI_at, fun f n1 n2 n3 n4 => (dI_nk (by omega)).trans (dI_nk (by omega))⟩
    · rw [dI_nk (by omega), dI_nk (by omega)]; exact h10
    · rw [dI_nk (by omega), dI_nk (by omega)]; exact h11
  rw [if_neg (nI_nle (by omega) (by omega)), if_neg (nI_ne0 (by omega) (by omega)), Option.bind_some, dI_at, nI_1, h47]
  by_cases c3 : y = 2
  · rw [if_neg (show ¬ ¬ nI (y + 1) = 3 from fun z => z (by rw [c3]; rfl)), if_pos (show 3 ≤ nI (y + 1) by rw [c3]; decide), Option.bind_some, show (dI d z 11 (nI (y + 1))).1 z 10 = nI x from (dI_nk (by omega)).trans h10, Option.bind_some, h47]
    refine ⟨_, rfl, fun v hv => ?_, rfl, ?_, ?_, dI_at, (dI_nk (by omega)).trans dI_at, fun f n1 n2 n3 n4 => ?_⟩
    · rw [dI_ne hv, dI_ne hv, dI_ne hv, dI_ne hv, dI_ne hv]
    · rw [dI_nk (by omega), dI_nk (by omega), dI_nk (by omega), dI_at]
    · rw [dI_nk (by omega), dI_nk (by omega), dI_at]
    · rw [dI_nk (by omega), dI_nk (by omega), dI_nk (by omega), dI_nk (by omega), dI_nk (by omega)]
  · rw [if_pos (show ¬ nI (y + 1) = 3 from fun z => c3 (by have := (nI_eq (b := 3) (by omega) (by omega)).mp z; omega)), if_neg (show ¬ 3 ≤ nI (y + 1) from nI_ge (b := 3) (by omega) (by omega))]
    refine ⟨_, rfl, fun v hv => ?_, rfl, ?_, ?_, dI_at, (dI_nk (by omega)).trans dI_at, fun f n1 n2 n3 n4 => ?_⟩
    · rw [dI_ne hv, dI_ne hv, dI_ne hv]
    · rw [dI_nk (by omega), dI_nk (by omega), dI_nk (by omega)]; exact h10
    · rw [dI_nk (by omega), dI_nk (by omega), dI_at]
    · rw [dI_nk (by omega), dI_nk (by omega), dI_nk (by omega)]
end
