/-! THE RUN: the relation of both memories in a run; begins -/
set_option maxRecDepth 100000
def StR (w : Nat → Int32) (q : TdP) (e1 e2 : Dt) : Prop := ∀ i, i < q.ni → ∀ s j, ¬ w (106 + 5 * i) = 5 → w (106 + 5 * i + 1) = nI s → s < q.nt → w (106 + 5 * i + 2) = nI j → j ≤ 50 → e1.1 27 i = e2.1 33 (51 * s + j)
def RcR (r : Nat) (e1 e2 : Dt) : Prop := e1.1 0 24 = nI r ∧ e2.1 0 56 = nI r ∧ ∀ i, i < r → (e1.1 21 i = e2.1 38 i ∧ e1.1 22 i = e2.1 39 i ∧ e1.1 23 i = e2.1 40 i ∧ e1.1 24 i = e2.1 41 i) ∧ ∃ kd, kd ≤ 7 ∧ e1.1 22 i = nI kd ∧ (kd = 7 → e1.1 23 i = 0)
def SpR (q : TdP) (r : Nat) (e1 e2 : Dt) : Prop := ∀ v, v < q.nw → ∃ x, x ≤ r ∧ e1.1 19 v = nI x ∧ e2.1 35 v = if x = 0 then 0 else 1
def BdR (b : Nat) (e1 e2 : Dt) : Prop := b ≤ 3 ∧ e1.1 0 26 = nI b ∧ e2.1 0 57 = nI b ∧ e1.1 0 27 = e2.1 0 59 ∧ (e2.1 0 59 = -1 ↔ b < 3)
def HdR (kh : Nat) (H : Nat → Int32) (e1 e2 : Dt) : Prop := ∀ x, x < 200 → (x < kh → e1.1 17 x = e2.1 37 x ∧ e2.1 37 x = H x) ∧ (kh ≤ x → e2.1 37 x = -1)
def GpR (q : TdP) (W F0 : Int32) (e1 e2 : Dt) : Prop := ∀ t, t < q.nt → e1.1 0 29 = nI t → ∃ g, g ≤ 200 ∧ e2.1 27 t = nI g ∧ e1.1 0 30 = W - nI g ∧ (∀ j, j < g → W = nI j → e1.1 0 31 = e2.1 32 (200 * t + j)) ∧ ((∀ j, j < g → ¬ W = nI j) → e1.1 0 31 = F0)
def BS (S0 : Sp) (b : Nat) (S : Sp) : Prop := Ext S0 S ∧ S.2.2.1 ≤ S0.2.2.1 + b ∧ S.2.2.2 ≤ S0.2.2.2 + 6 * b ∧ S.1.length + S0.2.2.1 ≤ S.2.2.1 + S0.1.length
/-- both memories in a run -/
def RT (S0 : Sp) (d0 m0 : Dt) (w : Nat → Int32) (q : TdP) (W : Int32) (F0 : Int32 × (Nat → Int32)) (u k kh : Nat) (kj : Nat → Nat) (kg r b : Nat) (S : Sp) (e1 e2 : Dt) : Prop :=
  BS S0 b S ∧ (KrC S0 d0 e1 ∧ KrM m0 e2) ∧ (e1.1 0 25 = nI k ∧ k ≤ 200) ∧ (∀ t, t < q.nt → Lf q u k (kj t) kg r b e1 e2 t) ∧ SlR w q k e1 e2 ∧ StR w q e1 e2 ∧ RcR r e1 e2 ∧ SpR q r e1 e2 ∧ BdR b e1 e2 ∧ HdR kh F0.2 e1 e2 ∧ GpR q W F0.1 e1 e2
section
variable {w : Nat → Int32} {q : TdP} {u k kh kg r b t : Nat} {kj : Nat → Nat} {S0 S S' : Sp} {d0 m0 e1 e2 f1 f2 : Dt} {op cl : Nat → Nat} {W : Int32} {F0 : Int32 × (Nat → Int32)}
theorem StR.go (h : StR w q e1 e2) (a : f1.1 27 = e1.1 27) (c : f2.1 33 = e2.1 33) : StR w q f1 f2 := by
  unfold StR; rw [a, c]; exact h
theorem SlR.go (h : SlR w q k e1 e2) (a : f1.1 18 = e1.1 18) (c : f2.1 34 = e2.1 34) : SlR w q k f1 f2 := by
  unfold SlR; rw [a, c]; exact h
theorem SpR.go (h : SpR q r e1 e2) (a : f1.1 19 = e1.1 19) (c : f2.1 35 = e2.1 35) : SpR q r f1 f2 := by
  unfold SpR; rw [a, c]; exact h
theorem HdR.go {H : Nat → Int32} (h : HdR kh H e1 e2) (a : f1.1 17 = e1.1 17) (c : f2.1 37 = e2.1 37) : HdR kh H f1 f2 := by
  unfold HdR; rw [a, c]; exact h
theorem BdR.go (h : BdR b e1 e2) (a : f1.1 0 26 = e1.1 0 26) (a' : f1.1 0 27 = e1.1 0 27) (c : f2.1 0 57 = e2.1 0 57) (c' : f2.1 0 59 = e2.1 0 59) : BdR b f1 f2 := by
  unfold BdR; rw [a, a', c, c']; exact h
theorem RcR.go (h : RcR r e1 e2) (a : f1.1 0 24 = e1.1 0 24) (a1 : f1.1 21 = e1.1 21) (a2 : f1.1 22 = e1.1 22) (a3 : f1.1 23 = e1.1 23) (a4 : f1.1 24 = e1.1 24) (c : f2.1 0 56 = e2.1 0 56) (c1 : f2.1 38 = e2.1 38) (c2 : f2.1 39 = e2.1 39) (c3 : f2.1 40 = e2.1 40) (c4 : f2.1 41 = e2.1 41) : RcR r f1 f2 := by
  unfold RcR; rw [a, a1, a2, a3, a4, c, c1, c2, c3, c4]; exact h
theorem GpR.go {X0 : Int32} (h : GpR q W X0 e1 e2) (a : ∀ f, 29 ≤ f → f < 32 → f1.1 0 f = e1.1 0 f) (c : f2.1 27 = e2.1 27) (c' : f2.1 32 = e2.1 32) : GpR q W X0 f1 f2 := by
  unfold GpR; rw [a 29 (by omega) (by omega), a 30 (by omega) (by omega), a 31 (by omega) (by omega), c, c']; exact h
theorem RT.re (h : RT S0 d0 m0 w q W F0 u k kh kj kg r b S e1 e2) (h0 : RE S0 d0 m0 w q op cl) : RE S e1 e2 w q op cl := h0.go h.1.1 h.2.1.1 h.2.1.2
/-- what changes in lives and few rows alone -/
theorem RT.lives {kj' : Nat → Nat} {kg' u' : Nat} (h : RT S0 d0 m0 w q W F0 u k kh kj kg r b S e1 e2) (c1 : KrC S0 d0 f1) (c2 : KrM m0 f2) (hL : ∀ t, t < q.nt → Lf q u' k (kj' t) kg' r b f1 f2 t) (hS : StR w q f1 f2) (a0 : ∀ f, 24 ≤ f → f < 32 → f1.1 0 f = e1.1 0 f) (a : ∀ v, 17 ≤ v → v < 25 → v ≠ 20 → f1.1 v = e1.1 v) (b0 : ∀ f, 56 ≤ f → f < 60 → f ≠ 58 → f2.1 0 f = e2.1 0 f) (b1 : ∀ v, 27 ≤ v → v < 42 → v ≠ 28 → v ≠ 31 → v ≠ 33 → v ≠ 36 → f2.1 v = e2.1 v) : RT S0 d0 m0 w q W F0 u' k kh kj' kg' r b S f1 f2 := by
  obtain ⟨g1, g2, g3, g4, g5, g6, g7, g8, g9, g10, g11⟩ := h
  exact ⟨g1, ⟨c1, c2⟩, ⟨(a0 25 (by omega) (by omega)).trans g3.1, g3.2⟩, hL, g5.go (a 18 (by omega) (by omega) (by omega)) (b1 34 (by omega) (by omega) (by omega) (by omega) (by omega) (by omega)), hS,
    g7.go (a0 24 (by omega) (by omega)) (a 21 (by omega) (by omega) (by omega)) (a 22 (by omega) (by omega) (by omega)) (a 23 (by omega) (by omega) (by omega)) (a 24 (by omega) (by omega) (by omega)) (b0 56 (by omega) (by omega) (by omega)) (b1 38 (by omega) (by omega) (by omega) (by omega) (by omega) (by omega)) (b1 39 (by omega) (by omega) (by omega) (by omega) (by omega) (by omega)) (b1 40 (by omega) (by omega) (by omega) (by omega) (by omega) (by omega)) (b1 41 (by omega) (by omega) (by omega) (by omega) (by omega) (by omega)),
    g8.go (a 19 (by omega) (by omega) (by omega)) (b1 35 (by omega) (by omega) (by omega) (by omega) (by omega) (by omega)), g9.go (a0 26 (by omega) (by omega)) (a0 27 (by omega) (by omega)) (b0 57 (by omega) (by omega) (by omega)) (b0 59 (by omega) (by omega) (by omega)), g10.go (a 17 (by omega) (by omega) (by omega)) (b1 37 (by omega) (by omega) (by omega) (by omega) (by omega) (by omega)), g11.go (fun f x y => a0 f (by omega) (by omega)) (b1 27 (by omega) (by omega) (by omega) (by omega) (by omega) (by omega)) (b1 32 (by omega) (by omega) (by omega) (by omega) (by omega) (by omega))⟩
theorem KrC.by (h : KrC S0 d0 e1) (hv : ∀ v, v < S0.1.length → ((1 ≤ v ∧ v < 13) ∨ v = 25 ∨ v = 26 ∨ 35 ≤ v) → f1.1 v = e1.1 v) (hk : ∀ k, k < 24 ∨ k = 28 ∨ k = 29 ∨ 32 ≤ k → f1.1 0 k = e1.1 0 k) : KrC S0 d0 f1 := ⟨fun a x y => (hv a x y).trans (h.1 a x y), fun k x => (hk k x).trans (h.2 k x)⟩
theorem KrM.by (h : KrM m0 e2) (hv : ∀ v, 1 ≤ v → v < 14 → f2.1 v = e2.1 v) (hk : ∀ k, k < 56 ∨ 59 < k → f2.1 0 k = e2.1 0 k) : KrM m0 f2 := ⟨fun a x y => (hv a x y).trans (h.1 a x y), fun k x => (hk k x).trans (h.2 k x)⟩
/-- the injections of a job that starts get their tick -/
theorem set_eq (h : CE S e1 w q) (ht : t < q.nt) : ∃ f1, Ws_begins_h48 0 (nI t) S FU (some (30 + t)) 0 e1 = some ((), f1) ∧ (∀ v, v ≠ 27 → f1.1 v = e1.1 v) ∧ f1.2 = e1.2 ∧ ∀ i, i < q.ni → f1.1 27 i = if ¬ w (106 + 5 * i) = 5 ∧ w (106 + 5 * i + 1) = nI t ∧ w (106 + 5 * i + 2) = e1.1 (30 + t) 2 then e1.1 0 25 else e1.1 27 i := by
  have h5 := h.nt5
  have hni := h.ni18
  refine loop_FU (X := fun F (x : Int32 × Dt) => Ws_begins_h48 0 (nI t) S F (some (30 + t)) x.1 x.2) (Inv := fun i x => x.1 = nI i ∧ (∀ v, v ≠ 27 → x.2.1 v = e1.1 v) ∧ x.2.2 = e1.2 ∧ (∀ j, i ≤ j → x.2.1 27 j = e1.1 27 j) ∧ ∀ j, j < i → x.2.1 27 j = if ¬ w (106 + 5 * j) = 5 ∧ w (106 + 5 * j + 1) = nI t ∧ w (106 + 5 * j + 2) = e1.1 (30 + t) 2 then e1.1 0 25 else e1.1 27 j) (P := fun o => ∃ f1, o = some ((), f1) ∧ (∀ v, v ≠ 27 → f1.1 v = e1.1 v) ∧ f1.2 = e1.2 ∧ ∀ i, i < q.ni → f1.1 27 i = if ¬ w (106 + 5 * i) = 5 ∧ w (106 + 5 * i + 1) = nI t ∧ w (106 + 5 * i + 2) = e1.1 (30 + t) 2 then e1.1 0 25 else e1.1 27 i) (x := (0, e1)) q.ni (by omega) ⟨rfl, fun _ _ => rfl, rfl, fun _ _ => rfl, fun j hj => absurd hj (by omega)⟩ ?_ ?_
  · rintro i hi F ⟨x, d⟩ ⟨hx, g1, g2, g3, g4⟩
    have hx' : x = nI i := hx
    subst hx'
    have g1' : ∀ v, v ≠ 27 → d.1 v = e1.1 v := g1
    have hC : CE S d w q := h.go (fun a ha hr => g1' a (by omega))
    have hend : ∀ d' : Dt, (∀ v, v ≠ 27 → d'.1 v = d.1 v) → d'.2 = d.2 → (∀ j, j ≠ i → d'.1 27 j = d.1 27 j) → (d'.1 27 i = if ¬ w (106 + 5 * i) = 5 ∧ w (106 + 5 * i + 1) = nI t ∧ w (106 + 5 * i + 2) = e1.1 (30 + t) 2 then e1.1 0 25 else e1.1 27 i) → ∃ x' : Int32 × Dt, Ws_begins_h48 0 (nI t) S F (some (30 + t)) (nI (i + 1)) d' = Ws_begins_h48 0 (nI t) S F (some (30 + t)) x'.1 x'.2 ∧ x'.1 = nI (i + 1) ∧ (∀ v, v ≠ 27 → x'.2.1 v = e1.1 v) ∧ x'.2.2 = e1.2 ∧ (∀ j, i + 1 ≤ j → x'.2.1 27 j = e1.1 27 j) ∧ ∀ j, j < i + 1 → x'.2.1 27 j = if ¬ w (106 + 5 * j) = 5 ∧ w (106 + 5 * j + 1) = nI t ∧ w (106 + 5 * j + 2) = e1.1 (30 + t) 2 then e1.1 0 25 else e1.1 27 j := by
      intro d' k1 k2 k3 k4
      refine ⟨(nI (i + 1), d'), rfl, rfl, fun v hv => (k1 v hv).trans (g1 v hv), k2.trans g2, fun j hj => (k3 j (by omega)).trans (g3 j (by omega)), fun j hj => ?_⟩
      by_cases e : j = i
      · subst e; exact k4
      · exact (k3 j e).trans (g4 j (by omega))
    show ∃ x' : Int32 × Dt, Ws_begins_h48 0 (nI t) S (F + 1) (some (30 + t)) (nI i) d = _ ∧ _
    rw [Ws_begins_h48, hC.K, Option.bind_some, hC.T, Option.bind_some, hC.kM, Option.bind_some, hC.injs, Option.bind_some, if_neg (nI_ge hi (by omega)), hC.injOf hi, Option.bind_some, hC.iK hi, Option.bind_some, hC.iF0 hi, hC.iF hi (f := 1) (by omega), hC.iF hi (f := 2) (by omega), cl_K hC.F (show t < 5 by omega), nI_1]
    by_cases c1 : w (106 + 5 * i) = 5
    · rw [if_pos c1]
      exact hend d (fun _ _ => rfl) rfl (fun _ _ => rfl) (by rw [if_neg (fun z => z.1 c1)]; exact g3 i (Nat.le_refl _))
    rw [if_neg c1]
    by_cases c2 : w (106 + 5 * i + 1) = nI t
    · rw [if_neg (fun z => z c2), Option.bind_some, g1' (30 + t) (by omega)]
      by_cases c3 : w (106 + 5 * i + 2) = e1.1 (30 + t) 2
      · rw [if_neg (fun z => z c3), cr23 hC.F, ca27 hC.F (show i < 19 by omega), Option.bind_some, Option.bind_some, g1' 0 (by omega)]
        exact hend _ (fun v hv => u2_row hv) rfl (fun j hj => u2_ne (by omega)) (by rw [if_pos ⟨c1, c2, c3⟩]; exact u2_at)
      · rw [if_pos c3]
        exact hend d (fun _ _ => rfl) rfl (fun _ _ => rfl) (by rw [if_neg (fun z => c3 z.2.2)]; exact g3 i (Nat.le_refl _))
    · rw [if_pos c2]
      exact hend d (fun _ _ => rfl) rfl (fun _ _ => rfl) (by rw [if_neg (fun z => c2 z.2.1)]; exact g3 i (Nat.le_refl _))
  · rintro F ⟨x, d⟩ ⟨hx, g1, g2, g3, g4⟩
    have hx' : x = nI q.ni := hx
    subst hx'
    have g1' : ∀ v, v ≠ 27 → d.1 v = e1.1 v := g1
    have hC : CE S d w q := h.go (fun a ha hr => g1' a (by omega))
    show ∃ f1, Ws_begins_h48 0 (nI t) S (F + 1) (some (30 + t)) (nI q.ni) d = _ ∧ _
    rw [Ws_begins_h48, hC.K, Option.bind_some, hC.T, Option.bind_some, hC.kM, Option.bind_some, hC.injs, Option.bind_some, if_pos (nI_le (Nat.le_refl _) (by omega))]
    exact ⟨d, rfl, g1, g2, g4⟩
end
