/-! THE PLAIN LAW, base: reads of a known memory, a rule for loops -/
set_option maxRecDepth 100000
theorem aix_nI {S : Sp} {k a n i : Nat} (h : S.1[a]? = some (k, n)) (hi : i < n) (hn : i < 2 ^ 31) : aix S k (some a) (nI i) = some (a, i) := by
  simp only [aix, Option.bind_some, h]
  rw [nI_clamp hn, if_pos ⟨trivial, fun q => q.elim (fun z => nI_pos hn z) (fun z => Nat.not_le.mpr hi z)⟩]
theorem aix_some {S : Sp} {k a n : Nat} {i : Int32} (h : S.1[a]? = some (k, n)) (hi : vp_in i n) : aix S k (some a) i = some (a, i.toNatClampNeg) := by
  simp only [aix, Option.bind_some, h]
  exact if_pos ⟨trivial, hi⟩
theorem isK_at0 {S : Sp} {k a n : Nat} (h : S.1[a]? = some (k, n)) : isK S k (some a) = some a := isK_of h
theorem Mo_K : isK MoS 9 (some 0) = some 0 := by decide +kernel
theorem Mo_a {a : Nat} {sh : Nat × Nat} (h : MoL[a]? = some sh) : MoS.1[a]? = some sh := by rw [MoS_sh]; exact h
/-- a loop with fuel: n steps that keep an invariant, then its exit -/
theorem loop_n {α R : Type} {X : Nat → α → Option R} {Inv : Nat → α → Prop} {P : Option R → Prop} (n : Nat) (hs : ∀ i, i < n → ∀ f x, Inv i x → ∃ x', X (f + 1) x = X f x' ∧ Inv (i + 1) x') (he : ∀ f x, Inv n x → P (X (f + 1) x)) : ∀ k i x f, i + k = n → Inv i x → k < f → P (X f x) := by
  intro k
  induction k with
  | zero =>
    intro i x f hi hI hf
    obtain ⟨f', rfl⟩ : ∃ f', f = f' + 1 := ⟨f - 1, by omega⟩
    rw [Nat.add_zero] at hi
    subst hi
    exact he f' x hI
  | succ k ih =>
    intro i x f hi hI hf
    obtain ⟨f', rfl⟩ : ∃ f', f = f' + 1 := ⟨f - 1, by omega⟩
    obtain ⟨x', h1, h2⟩ := hs i (by omega) f' x hI
    rw [h1]
    exact ih (i + 1) x' f' (by omega) h2 (by omega)
/-- the same from the loop's start with the printed fuel -/
theorem loop_FU {α R : Type} {X : Nat → α → Option R} {Inv : Nat → α → Prop} {P : Option R → Prop} (n : Nat) (hn : n < 10000) {x : α} (h0 : Inv 0 x) (hs : ∀ i, i < n → ∀ f x, Inv i x → ∃ x', X (f + 1) x = X f x' ∧ Inv (i + 1) x') (he : ∀ f x, Inv n x → P (X (f + 1) x)) : P (X FU x) :=
  loop_n n hs he n 0 x FU (Nat.zero_add n) h0 hn
/-- a loop that may end at any step: a measure goes down -/
theorem loop_mu {α R : Type} {X : Nat → α → Option R} {Inv : α → Prop} {μ : α → Nat} {P : Option R → Prop} (hs : ∀ f x, Inv x → (∃ x', X (f + 1) x = X f x' ∧ Inv x' ∧ μ x' < μ x) ∨ P (X (f + 1) x)) : ∀ n x f, Inv x → μ x ≤ n → n < f → P (X f x) := by
  intro n
  induction n with
  | zero =>
    intro x f hI hm hf
    obtain ⟨f', rfl⟩ : ∃ f', f = f' + 1 := ⟨f - 1, by omega⟩
    rcases hs f' x hI with ⟨x', h1, h2, h3⟩ | h
    · omega
    · exact h
  | succ n ih =>
    intro x f hI hm hf
    obtain ⟨f', rfl⟩ : ∃ f', f = f' + 1 := ⟨f - 1, by omega⟩
    rcases hs f' x hI with ⟨x', h1, h2, h3⟩ | h
    · rw [h1]
      exact ih x' f' h2 (by omega) (by omega)
    · exact h
/-- the model's row of told numbers -/
abbrev mw (d : Dt) : Nat → Int32 := d.1 1
theorem Mo_toldOf_eq {d : Dt} {t w : Nat} (ht : t < 5) (hw : w < 7) : Mo_toldOf 0 (nI t) (nI w) MoS d = some (mw d (11 + 7 * t + w)) := by
  unfold Mo_toldOf
  rw [Mo_K, Option.bind_some, MoS_R0_1]
  have e : ((11 : Int32) + 7 * nI t) + nI w = nI (11 + 7 * t + w) := by
    obtain rfl | rfl | rfl | rfl | rfl : t = 0 ∨ t = 1 ∨ t = 2 ∨ t = 3 ∨ t = 4 := by omega
    all_goals (obtain rfl | rfl | rfl | rfl | rfl | rfl | rfl : w = 0 ∨ w = 1 ∨ w = 2 ∨ w = 3 ∨ w = 4 ∨ w = 5 ∨ w = 6 := by omega) <;> decide
  rw [e, aix_nI (Mo_a (a := 1) (sh := (50, 201)) rfl) (by omega) (by omega), Option.bind_some]
theorem nlit (n : Nat) : (OfNat.ofNat n : Int32) = nI n := rfl
theorem nI_mul (a b : Nat) : nI a * nI b = nI (a * b) := (Int32.ofNat_mul a b).symm
theorem tst1 {t n : Nat} : ((46 : Int32) + (2 * ((6 * nI t) + nI n))) + 1 = nI (46 + 2 * (6 * t + n) + 1) := by
  simp only [nlit, nI_mul, nI_add]
theorem Mo_isBehind_eq {d : Dt} {t n k : Nat} (ht : t < 5) (hn : n < 6) (hk : k < 6) : Mo_isBehind 0 (nI t) (nI n) (nI k) MoS d = some (if ((mw d (46 + 2 * (6 * t + n) + 1) >>> nI k) &&& 1) = 1 then 1 else 0) := by
  unfold Mo_isBehind
  rw [Mo_K, Option.bind_some, MoS_R0_1, tst1, aix_nI (Mo_a (a := 1) (sh := (50, 201)) rfl) (by omega) (by omega), Option.bind_some]
  have e : nI k &&& 31 = nI k := by
    obtain rfl | rfl | rfl | rfl | rfl | rfl : k = 0 ∨ k = 1 ∨ k = 2 ∨ k = 3 ∨ k = 4 ∨ k = 5 := by omega
    all_goals decide
  rw [e]
  by_cases h : ((d.1 1 (46 + 2 * (6 * t + n) + 1) >>> nI k) &&& 1) = 1
  · rw [if_neg (fun q => q h), if_pos h]
  · rw [if_pos h, if_neg h]
