/-! THE PLAIN LAW: costs and ways -/
set_option maxRecDepth 100000
/-- the best of those k < m that have p: -1 if none -/
def cB (g : Nat → Int32) (p : Nat → Bool) (mx : Bool) : Nat → Int32
  | 0 => -1
  | m + 1 => if p m then (if cB g p mx m = -1 then g m else if mx then (if g m ≤ cB g p mx m then cB g p mx m else g m) else (if cB g p mx m ≤ g m then cB g p mx m else g m)) else cB g p mx m
theorem cB_s {g : Nat → Int32} {p : Nat → Bool} {mx : Bool} {m : Nat} : cB g p mx (m + 1) = if p m then (if cB g p mx m = -1 then g m else if mx then (if g m ≤ cB g p mx m then cB g p mx m else g m) else (if cB g p mx m ≤ g m then cB g p mx m else g m)) else cB g p mx m := rfl
theorem cB_cong {g g' : Nat → Int32} {p : Nat → Bool} {mx : Bool} : ∀ {m : Nat}, (∀ k, k < m → p k = true → g k = g' k) → cB g p mx m = cB g' p mx m := by
  intro m
  induction m with
  | zero => exact fun _ => rfl
  | succ m ih =>
    intro h
    rw [cB_s, cB_s, ih (fun k hk => h k (by omega))]
    by_cases hp : p m = true
    · rw [h m (by omega) hp]
    · rw [if_neg hp, if_neg hp]
theorem cB_lo {g : Nat → Int32} {p : Nat → Bool} {mx : Bool} : ∀ {m : Nat}, (∀ k, k < m → p k = false) → cB g p mx m = -1 := by
  intro m
  induction m with
  | zero => exact fun _ => rfl
  | succ m ih =>
    intro h
    rw [cB_s, h m (by omega), if_neg (by decide)]
    exact ih (fun k hk => h k (by omega))
/-- it is none, or one of them -/
theorem cB_of {g : Nat → Int32} {p : Nat → Bool} {mx : Bool} : ∀ {m : Nat}, cB g p mx m = -1 ∨ ∃ k, k < m ∧ p k = true ∧ cB g p mx m = g k := by
  intro m
  induction m with
  | zero => exact Or.inl rfl
  | succ m ih =>
    rw [cB_s]
    by_cases hp : p m = true
    · right
      rw [if_pos hp]
      have key : ∀ (x y : Int32), (x = y → ∃ k, k < m + 1 ∧ p k = true ∧ x = g k) → True := fun _ _ _ => trivial
      rcases ih with h | ⟨k, h1, h2, h3⟩
      · rw [if_pos h]
        exact ⟨m, by omega, hp, rfl⟩
      · by_cases hm : cB g p mx m = -1
        · rw [if_pos hm]
          exact ⟨m, by omega, hp, rfl⟩
        · rw [if_neg hm]
          split
          · split
            · exact ⟨k, by omega, h2, h3⟩
            · exact ⟨m, by omega, hp, rfl⟩
          · split
            · exact ⟨k, by omega, h2, h3⟩
            · exact ⟨m, by omega, hp, rfl⟩
    · rw [if_neg hp]
      rcases ih with h | ⟨k, h1, h2, h3⟩
      · exact Or.inl h
      · exact Or.inr ⟨k, by omega, h2, h3⟩
/-- units from a node to an end -/
def cS (U : Nat → Int32) (p : Nat → Nat → Bool) (mx : Bool) (nd : Nat) : Nat → Nat → Int32
  | 0, _ => 0
  | f + 1, n => U n + imax 0 (cB (fun k => cS U p mx nd f k) (p n) mx nd)
theorem cS_s {U : Nat → Int32} {p : Nat → Nat → Bool} {mx : Bool} {nd f n : Nat} : cS U p mx nd (f + 1) n = U n + imax 0 (cB (fun k => cS U p mx nd f k) (p n) mx nd) := rfl
theorem cS_st {U : Nat → Int32} {p : Nat → Nat → Bool} {mx : Bool} {nd : Nat} (hp : ∀ n k, k ≤ n → p n k = false) : ∀ f f' n, n < nd → nd - n ≤ f → nd - n ≤ f' → cS U p mx nd f n = cS U p mx nd f' n := by
  intro f
  induction f with
  | zero => intro f' n h1 h2; omega
  | succ f ih =>
    intro f' n h1 h2 h3
    obtain ⟨g, rfl⟩ : ∃ g, f' = g + 1 := ⟨f' - 1, by omega⟩
    rw [cS_s, cS_s, cB_cong (g' := fun k => cS U p mx nd g k) (fun k hk hpk => ?_)]
    have : n < k := Nat.lt_of_not_le (fun z => by rw [hp n k z] at hpk; cases hpk)
    exact ih g k hk (by omega) (by omega)
theorem cS_in {U : Nat → Int32} {p : Nat → Nat → Bool} {mx : Bool} {nd : Nat} (hp : ∀ n k, k ≤ n → p n k = false) (hnd : nd ≤ 6) (hU : ∀ n, n < nd → ∃ u, U n = nI u ∧ 1 ≤ u ∧ u ≤ 9) : ∀ f n, n < nd → nd - n ≤ f → ∃ c, cS U p mx nd f n = nI c ∧ 1 ≤ c ∧ c ≤ 9 * (nd - n) := by
  intro f
  induction f with
  | zero => intro n h1 h2; omega
  | succ f ih =>
    intro n h1 h2
    obtain ⟨u, hu, u1, u2⟩ := hU n h1
    rw [cS_s, hu]
    rcases cB_of (g := fun k => cS U p mx nd f k) (p := p n) (mx := mx) (m := nd) with h | ⟨k, k1, k2, k3⟩
    · rw [h, show imax 0 (-1) = nI 0 from by decide, nI_add]
      exact ⟨u + 0, rfl, by omega, by omega⟩
    · have hk : n < k := Nat.lt_of_not_le (fun z => by rw [hp n k z] at k2; cases k2)
      obtain ⟨c, c1, c2, c3⟩ := ih k k1 (by omega)
      rw [k3]
      show ∃ c', nI u + imax 0 (cS U p mx nd f k) = nI c' ∧ _
      rw [c1, show imax 0 (nI c) = nI c from by unfold imax; rw [if_pos (show (0 : Int32) < nI c from nI_lt (a := 0) (by omega) (by omega))], nI_add]
      refine ⟨u + c, rfl, by omega, ?_⟩
      have h9 : c ≤ 9 * (nd - n - 1) := Nat.le_trans c3 (Nat.mul_le_mul_left 9 (by omega))
      omega
/-- ways from a node -/
def wB (g : Nat → Int32) (p : Nat → Bool) : Nat → Int32
  | 0 => 0
  | m + 1 => if p m then wB g p m + g m else wB g p m
theorem wB_s {g : Nat → Int32} {p : Nat → Bool} {m : Nat} : wB g p (m + 1) = if p m then wB g p m + g m else wB g p m := rfl
theorem wB_cong {g g' : Nat → Int32} {p : Nat → Bool} : ∀ {m : Nat}, (∀ k, k < m → p k = true → g k = g' k) → wB g p m = wB g' p m := by
  intro m
  induction m with
  | zero => exact fun _ => rfl
  | succ m ih =>
    intro h
    rw [wB_s, wB_s, ih (fun k hk => h k (by omega))]
    by_cases hp : p m = true
    · rw [h m (by omega) hp]
    · rw [if_neg hp, if_neg hp]
theorem wB_lo {g : Nat → Int32} {p : Nat → Bool} : ∀ {m : Nat}, (∀ k, k < m → p k = false) → wB g p m = 0 := by
  intro m
  induction m with
  | zero => exact fun _ => rfl
  | succ m ih =>
    intro h
    rw [wB_s, h m (by omega), if_neg (by decide)]
    exact ih (fun k hk => h k (by omega))
def wS (p : Nat → Nat → Bool) (nd : Nat) : Nat → Nat → Int32
  | 0, _ => 0
  | f + 1, n => if gc (p n) nd = 0 then 1 else wB (fun k => wS p nd f k) (p n) nd
theorem wS_s {p : Nat → Nat → Bool} {nd f n : Nat} : wS p nd (f + 1) n = if gc (p n) nd = 0 then 1 else wB (fun k => wS p nd f k) (p n) nd := rfl
theorem wS_st {p : Nat → Nat → Bool} {nd : Nat} (hp : ∀ n k, k ≤ n → p n k = false) : ∀ f f' n, n < nd → nd - n ≤ f → nd - n ≤ f' → wS p nd f n = wS p nd f' n := by
  intro f
  induction f with
  | zero => intro f' n h1 h2; omega
  | succ f ih =>
    intro f' n h1 h2 h3
    obtain ⟨g, rfl⟩ : ∃ g, f' = g + 1 := ⟨f' - 1, by omega⟩
    rw [wS_s, wS_s, wB_cong (g' := fun k => wS p nd g k) (fun k hk hpk => ?_)]
    have : n < k := Nat.lt_of_not_le (fun z => by rw [hp n k z] at hpk; cases hpk)
    exact ih g k hk (by omega) (by omega)
/-- the costs and ways of a task of the row w -/
def wU (w : Nat → Int32) (t n : Nat) : Int32 := w (46 + 2 * (6 * t + n))
def wC (w : Nat → Int32) (t nd : Nat) (mx : Bool) (n : Nat) : Int32 := cS (wU w t) (gp w t) mx nd 8 n
def wW (w : Nat → Int32) (t nd n : Nat) : Int32 := wS (gp w t) nd 8 n
theorem gp_le (w : Nat → Int32) (t : Nat) : ∀ n k, k ≤ n → gp w t n k = false := fun n k h => gp_lo h
section
variable {S : Sp} {d : Dt} {w : Nat → Int32} {q : TdP} {t : Nat}
theorem CE.costF (h : CE S d w q) (ht : t < q.nt) (mx : Bool) : ∀ f n, n < q.nd t → q.nd t - n ≤ f → Ta_cost f (q.tk t) (nI n) (if mx then 1 else 0) S d = some (cS (wU w t) (gp w t) mx (q.nd t) f n) := by
  obtain ⟨s1, s2, s3, s4, hnd, u, b, s6, s7, s8, s9, s10, s11⟩ := h.task ht
  intro f
  induction f with
  | zero => intro n h1 h2; omega
  | succ f ih =>
    intro n h1 h2
    unfold Ta_cost
    rw [Option.bind_some, nI_1]
    refine loop_FU (X := fun F (x : Int32 × Int32) => Ta_cost_h7 (q.tk t) (nI n) (if mx then 1 else 0) (Ta_cost f) S d F x.1 x.2) (Inv := fun i x => x = (cB (fun k => cS (wU w t) (gp w t) mx (q.nd t) f k) (gp w t n) mx (n + 1 + i), nI (n + 1 + i))) (P := fun o => o = some (cS (wU w t) (gp w t) mx (q.nd t) (f + 1) n)) (x := (-1, nI (n + 1))) (q.nd t - (n + 1)) (by omega) ?_ ?_ ?_
    · show (-1, nI (n + 1)) = (cB _ _ mx (n + 1 + 0), nI (n + 1 + 0))
      rw [cB_lo (fun k hk => gp_lo (by omega))]
    · intro i hi F x hx
      subst hx
      refine ⟨(cB (fun k => cS (wU w t) (gp w t) mx (q.nd t) f k) (gp w t n) mx (n + 1 + (i + 1)), nI (n + 1 + (i + 1))), ?_, rfl⟩
      show Ta_cost_h7 (q.tk t) (nI n) (if mx then 1 else 0) (Ta_cost f) S d (F + 1) (cB (fun k => cS (wU w t) (gp w t) mx (q.nd t) f k) (gp w t n) mx (n + 1 + i)) (nI (n + 1 + i)) = Ta_cost_h7 (q.tk t) (nI n) (if mx then 1 else 0) (Ta_cost f) S d F (cB (fun k => cS (wU w t) (gp w t) mx (q.nd t) f k) (gp w t n) mx (n + 1 + (i + 1))) (nI (n + 1 + (i + 1)))
      simp only [Ta_cost_h7, Ta_cost_b66, h.tK ht, Option.bind_some]
      rw [s3, if_neg (nI_ge (by omega) (by omega)), s7, aix_nI s9 (by omega) (by omega)]
      simp only [Option.bind_some]
      rw [s11 n h1, isOn_fol hnd (by omega)]
      simp only [Option.bind_some]
      rw [nI_1, ih (n + 1 + i) (by omega) (by omega)]
      simp only [Option.bind_some]
      show _ = Ta_cost_h7 (q.tk t) (nI n) (if mx then 1 else 0) (Ta_cost f) S d F (cB (fun k => cS (wU w t) (gp w t) mx (q.nd t) f k) (gp w t n) mx ((n + 1 + i) + 1)) (nI (n + 1 + i + 1))
      rw [cB_s]
      by_cases hp : gp w t n (n + 1 + i) = true
      · rw [if_pos (show n + 1 + i < q.nd t ∧ gp w t n (n + 1 + i) = true from ⟨by omega, hp⟩), if_pos hp, if_pos (by decide)]
        by_cases hm : cB (fun k => cS (wU w t) (gp w t) mx (q.nd t) f k) (gp w t n) mx (n + 1 + i) = -1
        · rw [if_pos hm, if_pos hm]
        · rw [if_neg hm, if_neg hm]
          cases mx with
          | true =>
            simp only [i10, eq_self, ↓reduceIte]
            by_cases hle : cS (wU w t) (gp w t) true (q.nd t) f (n + 1 + i) ≤ cB (fun k => cS (wU w t) (gp w t) true (q.nd t) f k) (gp w t n) true (n + 1 + i)
            · rw [if_pos hle, if_pos hle]
            · rw [if_neg hle, if_neg hle]
          | false =>
            simp only [Bool.false_eq_true, eq_self, ↓reduceIte]
            by_cases hle : cB (fun k => cS (wU w t) (gp w t) false (q.nd t) f k) (gp w t n) false (n + 1 + i) ≤ cS (wU w t) (gp w t) false (q.nd t) f (n + 1 + i)
            · rw [if_pos hle, if_pos hle]
            · rw [if_neg hle, if_neg hle]
      · rw [if_neg (show ¬ (n + 1 + i < q.nd t ∧ gp w t n (n + 1 + i) = true) from fun z => hp z.2), if_neg hp, if_neg (by decide)]
    · intro F x hx
      subst hx
      show Ta_cost_h7 (q.tk t) (nI n) (if mx then 1 else 0) (Ta_cost f) S d (F + 1) (cB (fun k => cS (wU w t) (gp w t) mx (q.nd t) f k) (gp w t n) mx (n + 1 + (q.nd t - (n + 1)))) (nI (n + 1 + (q.nd t - (n + 1)))) = _
      rw [show n + 1 + (q.nd t - (n + 1)) = q.nd t from by omega]
      simp only [Ta_cost_h7, h.tK ht, Option.bind_some]
      rw [s3, if_pos (nI_le (Nat.le_refl _) (by omega)), s6, aix_nI s8 (by omega) (by omega)]
      simp only [Option.bind_some]
      rw [s10 n h1]
      rfl
theorem CE.waysF (h : CE S d w q) (ht : t < q.nt) : ∀ f n, n < q.nd t → q.nd t - n ≤ f → Ta_ways f (q.tk t) (nI n) S d = some (wS (gp w t) (q.nd t) f n) := by
  obtain ⟨s1, s2, s3, s4, hnd, u, b, s6, s7, s8, s9, s10, s11⟩ := h.task ht
  intro f
  induction f with
  | zero => intro n h1 h2; omega
  | succ f ih =>
    intro n h1 h2
    unfold Ta_ways
    rw [h.tK ht, Option.bind_some, s7, aix_nI s9 (by omega) (by omega), Option.bind_some, s11 n h1, wS_s]
    by_cases h0 : gc (gp w t n) (q.nd t) = 0
    · rw [if_neg (fun z => z ((folN_0 hnd).mpr h0)), if_pos h0]
    rw [if_pos (fun z => h0 ((folN_0 hnd).mp z)), if_neg h0, Option.bind_some, nI_1]
    refine loop_FU (X := fun F (x : Int32 × Int32) => Ta_ways_h17 (q.tk t) (nI n) (Ta_ways f) S d F x.1 x.2) (Inv := fun i x => x = (wB (fun k => wS (gp w t) (q.nd t) f k) (gp w t n) (n + 1 + i), nI (n + 1 + i))) (P := fun o => o = some (wB (fun k => wS (gp w t) (q.nd t) f k) (gp w t n) (q.nd t))) (x := (0, nI (n + 1))) (q.nd t - (n + 1)) (by omega) ?_ ?_ ?_
    · show (0, nI (n + 1)) = (wB _ _ (n + 1 + 0), nI (n + 1 + 0))
      rw [wB_lo (fun k hk => gp_lo (by omega))]
    · intro i hi F x hx
      subst hx
      refine ⟨(wB (fun k => wS (gp w t) (q.nd t) f k) (gp w t n) (n + 1 + (i + 1)), nI (n + 1 + (i + 1))), ?_, rfl⟩
      show Ta_ways_h17 (q.tk t) (nI n) (Ta_ways f) S d (F + 1) (wB (fun k => wS (gp w t) (q.nd t) f k) (gp w t n) (n + 1 + i)) (nI (n + 1 + i)) = Ta_ways_h17 (q.tk t) (nI n) (Ta_ways f) S d F (wB (fun k => wS (gp w t) (q.nd t) f k) (gp w t n) ((n + 1 + i) + 1)) (nI (n + 1 + i + 1))
      simp only [Ta_ways_h17, Ta_ways_b48, h.tK ht, Option.bind_some]
      rw [s3, if_neg (nI_ge (by omega) (by omega)), s7, aix_nI s9 (by omega) (by omega)]
      simp only [Option.bind_some]
      rw [s11 n h1, isOn_fol hnd (by omega)]
      simp only [Option.bind_some]
      rw [nI_1, ih (n + 1 + i) (by omega) (by omega), wB_s]
      simp only [Option.bind_some]
      by_cases hp : gp w t n (n + 1 + i) = true
      · rw [if_pos (show n + 1 + i < q.nd t ∧ gp w t n (n + 1 + i) = true from ⟨by omega, hp⟩), if_pos hp, if_neg (by decide)]
      · rw [if_neg (show ¬ (n + 1 + i < q.nd t ∧ gp w t n (n + 1 + i) = true) from fun z => hp z.2), if_neg hp, if_pos rfl, Int32.add_zero]
    · intro F x hx
      subst hx
      show Ta_ways_h17 (q.tk t) (nI n) (Ta_ways f) S d (F + 1) (wB (fun k => wS (gp w t) (q.nd t) f k) (gp w t n) (n + 1 + (q.nd t - (n + 1)))) (nI (n + 1 + (q.nd t - (n + 1)))) = _
      rw [show n + 1 + (q.nd t - (n + 1)) = q.nd t from by omega]
      simp only [Ta_ways_h17, h.tK ht, Option.bind_some]
      rw [s3, if_pos (nI_le (Nat.le_refl _) (by omega))]
end
/-- what another row than a keeps -/
def Ks (a : Nat) (d d' : Dt) : Prop := (∀ b, b ≠ a → d'.1 b = d.1 b) ∧ d'.2 = d.2
theorem Ks.rf {a : Nat} {d : Dt} : Ks a d d := ⟨fun _ _ => rfl, rfl⟩
theorem Ks.tr {a : Nat} {d d' d'' : Dt} (h : Ks a d d') (g : Ks a d' d'') : Ks a d d'' := ⟨fun b hb => (g.1 b hb).trans (h.1 b hb), g.2.trans h.2⟩
theorem Ks.dI {a : Nat} {d d' : Dt} (h : Ks a d d') {k : Nat} {x : Int32} : Ks a d (dI d' a k x) := ⟨fun b hb => (dI_ne hb).trans (h.1 b hb), h.2⟩
theorem Ks.km {a : Nat} {d d' : Dt} (h : Ks a d d') (ha : 5 ≤ a) : Km d d' := ⟨fun b x y => h.1 b (by omega), by rw [h.1 0 (by omega)], by rw [h.1 0 (by omega)], by rw [h.1 0 (by omega)]⟩
/-- what the model reckons for: 0 least units, 1 most, 2 ways -/
def gV (w : Nat → Int32) (t nd wh n : Nat) : Int32 := if wh = 2 then wW w t nd n else wC w t nd (decide (wh = 1)) n
theorem imax_le {x y : Int32} : imax x y = if y ≤ x then x else y := by
  unfold imax
  by_cases h : x < y
  · rw [if_pos h, if_neg (fun z => Int32.not_lt.mpr z h)]
  · rw [if_neg h, if_pos (Int32.not_lt.mp h)]
theorem imin_le {x y : Int32} : imin x y = if x ≤ y then x else y := by
  unfold imin
  by_cases h : y < x
  · rw [if_pos h, if_neg (fun z => Int32.not_lt.mpr z h)]
  · rw [if_neg h, if_pos (Int32.not_lt.mp h)]
