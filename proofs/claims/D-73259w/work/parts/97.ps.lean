/-! THE RUN: how it begins -/
set_option maxRecDepth 100000
section
variable {w : Nat → Int32} {q : TdP} {u k kh kg r b t z cy : Nat} {kj : Nat → Nat} {S0 S S' : Sp} {d0 m0 d e f e1 e2 f1 f2 g1 g2 : Dt} {op cl : Nat → Nat} {W : Int32} {F0 : Int32 × (Nat → Int32)} {P V P' V' : Nat → Prop} {p1 p2 p3 : Int32}
theorem fill {R : Type} {X : Nat → Int32 → Dt → Option R} {cont : Dt → Option R} (n : Nat) (hn : n < 10000) (a : Nat) (x : Int32) (hs : ∀ F i y, i < n → (∀ v, v ≠ a → y.1 v = e.1 v) → X (F + 1) (nI i) y = X F (nI (i + 1)) (dI y a i x)) (he : ∀ F y, (∀ v, v ≠ a → y.1 v = e.1 v) → X (F + 1) (nI n) y = cont y) : ∃ f, X FU 0 e = cont f ∧ f.2 = e.2 ∧ (∀ v, v ≠ a → f.1 v = e.1 v) ∧ ∀ i, i < n → f.1 a i = x := by
  refine loop_FU (X := fun F (x : Int32 × Dt) => X F x.1 x.2) (Inv := fun i y => y.1 = nI i ∧ y.2.2 = e.2 ∧ (∀ v, v ≠ a → y.2.1 v = e.1 v) ∧ ∀ j, j < i → y.2.1 a j = x) (P := fun o => ∃ f, o = cont f ∧ f.2 = e.2 ∧ (∀ v, v ≠ a → f.1 v = e.1 v) ∧ ∀ i, i < n → f.1 a i = x) (x := (0, e)) n hn ⟨rfl, rfl, fun _ _ => rfl, fun j hj => absurd hj (by omega)⟩ ?_ ?_
  · rintro i hi F ⟨c, y⟩ ⟨hx, g1, g2, g3⟩
    have hx' : c = nI i := hx
    subst hx'
    refine ⟨(nI (i + 1), dI y a i x), hs F i y hi g2, rfl, g1, fun v hv => (dI_ne hv).trans (g2 v hv), fun j hj => ?_⟩
    by_cases c : j = i
    · subst c; exact dI_at
    · exact (dI_nk (by omega)).trans (g3 j (by omega))
  · rintro F ⟨c, y⟩ ⟨hx, g1, g2, g3⟩
    have hx' : c = nI n := hx
    subst hx'
    exact ⟨y, he F y g2, g1, g2, g3⟩
theorem fill2 {R : Type} {X : Nat → Int32 → Dt → Option R} {cont : Dt → Option R} (n : Nat) (hn : n < 10000) (a c : Nat) (hac : a ≠ c) (x x' : Int32) (hs : ∀ F i y, i < n → (∀ v, v ≠ a → v ≠ c → y.1 v = e.1 v) → X (F + 1) (nI i) y = X F (nI (i + 1)) (dI (dI y a i x) c i x')) (he : ∀ F y, (∀ v, v ≠ a → v ≠ c → y.1 v = e.1 v) → X (F + 1) (nI n) y = cont y) : ∃ f, X FU 0 e = cont f ∧ f.2 = e.2 ∧ (∀ v, v ≠ a → v ≠ c → f.1 v = e.1 v) ∧ ∀ i, i < n → f.1 a i = x ∧ f.1 c i = x' := by
  refine loop_FU (X := fun F (x : Int32 × Dt) => X F x.1 x.2) (Inv := fun i y => y.1 = nI i ∧ y.2.2 = e.2 ∧ (∀ v, v ≠ a → v ≠ c → y.2.1 v = e.1 v) ∧ ∀ j, j < i → y.2.1 a j = x ∧ y.2.1 c j = x') (P := fun o => ∃ f, o = cont f ∧ f.2 = e.2 ∧ (∀ v, v ≠ a → v ≠ c → f.1 v = e.1 v) ∧ ∀ i, i < n → f.1 a i = x ∧ f.1 c i = x') (x := (0, e)) n hn ⟨rfl, rfl, fun _ _ _ => rfl, fun j hj => absurd hj (by omega)⟩ ?_ ?_
  · rintro i hi F ⟨c', y⟩ ⟨hx, g1, g2, g3⟩
    have hx' : c' = nI i := hx
    subst hx'
    refine ⟨(nI (i + 1), dI (dI y a i x) c i x'), hs F i y hi g2, rfl, g1, fun v hv h2 => (dI_ne h2).trans ((dI_ne hv).trans (g2 v hv h2)), fun j hj => ?_⟩
    by_cases e : j = i
    · subst e; exact ⟨(dI_nk (by omega)).trans dI_at, dI_at⟩
    · exact ⟨(dI_nk (by omega)).trans ((dI_nk (by omega)).trans (g3 j (by omega)).1), (dI_nk (by omega)).trans ((dI_nk (by omega)).trans (g3 j (by omega)).2)⟩
  · rintro F ⟨c', y⟩ ⟨hx, g1, g2, g3⟩
    have hx' : c' = nI n := hx
    subst hx'
    exact ⟨y, he F y g2, g1, g2, g3⟩
/-- a life that is born -/
def BnC (d : Dt) (z : Nat) : Prop := d.1 z 0 = 0 ∧ d.1 z 1 = 1 ∧ d.1 z 5 = 0 ∧ d.1 z 6 = -1 ∧ d.1 z 7 = -1 ∧ d.1 z 8 = 1 ∧ d.1 z 9 = 0 ∧ d.1 z 10 = 0 ∧ d.1 z 11 = 0 ∧ d.1 z 12 = 0 ∧ d.1 z 13 = -1 ∧ d.1 z 14 = 0 ∧ d.1 z 15 = 0 ∧ d.1 z 16 = 0 ∧ d.2.1 z 17 = FP.fconst1 ∧ d.2.2 z 19 = FP.dconst0
def BnM (d : Dt) (t : Nat) : Prop := d.1 14 t = 0 ∧ d.1 15 t = -1 ∧ d.1 16 t = 0 ∧ d.1 19 t = 1 ∧ d.1 20 t = -1 ∧ d.1 21 t = 0 ∧ d.1 22 t = 0 ∧ d.1 23 t = 0 ∧ d.1 25 t = 0 ∧ d.1 26 t = 0 ∧ d.1 27 t = 0 ∧ d.1 28 t = -1 ∧ d.1 31 t = 0 ∧ d.2.1 24 t = FP.fconst1 ∧ d.2.2 30 t = FP.dconst0
theorem born_C (hK : isK S 8 (some z) = some z) : ∃ d', Li_isBorn z S d = some ((), d') ∧ BnC d' z ∧ ∀ v, v ≠ z → d'.1 v = d.1 v ∧ d'.2.1 v = d.2.1 v ∧ d'.2.2 v = d.2.2 v := by
  have m1 : (0 : Int32) - 1 = -1 := by decide
  unfold Li_isBorn Li_begins
  rw [hK]
  refine ⟨_, rfl, ?_, fun v hv => ⟨?_, ?_, ?_⟩⟩
  · unfold BnC
    simp [dI, dF, dD, u2]
  all_goals
    funext j
    simp [dI, dF, dD, u2, hv]
theorem born_M {y : Dt} {i : Nat} (hi : i < 5) : ∃ d', (∀ F, Mo_beginRun_h2 0 MoS (F + 1) (nI i) y = Mo_beginRun_h2 0 MoS F (nI (i + 1)) d') ∧ BnM d' i ∧ (∀ v, v < 14 ∨ 31 < v → d'.1 v = y.1 v) ∧ ∀ v s, s ≠ i → d'.1 v s = y.1 v s ∧ d'.2.1 v s = y.2.1 v s ∧ d'.2.2 v s = y.2.2 v s := by
  have vb : vp_nar .boolean 0 = 0 := by decide
  refine ⟨dI (dD (dI (dI (dI (dI (dF (dI (dI (dI (dI (dI (dI (dI (dI y 14 i 0) 15 i (-1)) 16 i 0) 19 i 1) 20 i (-1)) 21 i 0) 22 i 0) 23 i 0) 24 i FP.fconst1) 25 i 0) 26 i 0) 27 i 0) 28 i (-1)) 30 i FP.dconst0) 31 i 0, fun F => ?_, ?_, fun v hv => ?_, fun v s hs => ⟨?_, ?_, ?_⟩⟩
  · rw [Mo_beginRun_h2, if_neg (show ¬ (5 : Int32) ≤ nI i from nI_ge (b := 5) hi (by omega)), Mo_K, Option.bind_some, MoS_R0_28, ma14 hi, Option.bind_some, Option.bind_some, MoS_R0_29, ma15 hi, Option.bind_some, Option.bind_some, MoS_R0_30, ma16 hi, Option.bind_some, Option.bind_some, MoS_R0_33, ma19 hi, Option.bind_some, Option.bind_some, MoS_R0_34, ma20 hi, Option.bind_some, Option.bind_some, MoS_R0_35, ma21 hi, Option.bind_some, Option.bind_some, MoS_R0_36, ma22 hi, Option.bind_some, Option.bind_some, MoS_R0_37, ma23 hi, Option.bind_some, Option.bind_some, MoS_R0_38, ma24 hi, Option.bind_some, Option.bind_some, MoS_R0_39, ma25 hi, Option.bind_some, Option.bind_some, MoS_R0_40, ma26 hi, Option.bind_some, Option.bind_some, MoS_R0_41, ma27 hi, Option.bind_some, Option.bind_some, MoS_R0_42, ma28 hi, Option.bind_some, Option.bind_some, MoS_R0_44, ma30 hi, Option.bind_some, Option.bind_some, MoS_R0_45, ma31 hi, Option.bind_some, Option.bind_some, nI_1, vb]
  · unfold BnM
    simp [dI, dF, dD, u2]
  · funext j
    have h14 : v ≠ 14 := by omega
    have h15 : v ≠ 15 := by omega
    have h16 : v ≠ 16 := by omega
    have h19 : v ≠ 19 := by omega
    have h20 : v ≠ 20 := by omega
    have h21 : v ≠ 21 := by omega
    have h22 : v ≠ 22 := by omega
    have h23 : v ≠ 23 := by omega
    have h25 : v ≠ 25 := by omega
    have h26 : v ≠ 26 := by omega
    have h27 : v ≠ 27 := by omega
    have h28 : v ≠ 28 := by omega
    have h31 : v ≠ 31 := by omega
    simp [dI, dF, dD, u2, h14, h15, h16, h19, h20, h21, h22, h23, h25, h26, h27, h28, h31]
  · simp [dI, dF, dD, u2, hs]
  · simp [dI, dF, dD, u2, hs]
  · simp [dI, dF, dD, u2, hs]
theorem BnL (hC : BnC e1 (30 + t)) (hM : BnM e2 t) : Lf q 99 0 0 0 0 0 e1 e2 t := by
  obtain ⟨c0, c1, c5, c6, c7, c8, c9, c10, c11, c12, c13, c14, c15, c16, c17, c19⟩ := hC
  obtain ⟨m14, m15, m16, m19, m20, m21, m22, m23, m25, m26, m27, m28, m31, m24, m30⟩ := hM
  have m1 : (-1 : Int32) = nI 0 - 1 := by decide
  unfold Lf LR
  dsimp only
  rw [c0, c1, c5, c6, c7, c8, c9, c10, c11, c12, c13, c14, c15, c16, c17, c19, m14, m15, m16, m19, m20, m21, m22, m23, m25, m26, m27, m28, m31, m24, m30]
  exact ⟨Or.inl ⟨rfl, rfl⟩, Or.inr ⟨rfl, rfl⟩, ⟨0, by omega, rfl, rfl⟩, ⟨0, by omega, m1, m1⟩, ⟨0, by omega, m1, fun z => by omega⟩, rfl, ⟨0, by omega, rfl, rfl⟩, ⟨0, by omega, rfl, rfl⟩, ⟨0, by omega, rfl, rfl⟩, ⟨0, by omega, rfl, rfl⟩, rfl, fun _ => ⟨rfl, rfl, Or.inl rfl⟩, ⟨0, by omega, rfl, rfl, fun z => absurd rfl z⟩, ⟨rfl, by unfold hOk; decide⟩, rfl, by unfold dNn; decide⟩
end
