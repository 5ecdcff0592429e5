/-! FLOATS: health lies between 0 and 2; a half is a half -/
set_option maxRecDepth 100000
theorem nr_le {A D M : Nat} (hD : 0 < D) (h : A ≤ M * D) : FP.Core.nearest A D ≤ M := by
  have h1 : A / D ≤ M := Nat.div_le_of_le_mul (by rw [Nat.mul_comm]; exact h)
  have h2 := Nat.div_add_mod A D
  have h3 := Nat.mod_lt A hD
  unfold FP.Core.nearest
  by_cases e : A / D = M
  · have e2 : A % D = 0 := by
      rw [e, Nat.mul_comm] at h2
      omega
    rw [e2, if_pos (by omega), e]
    exact Nat.le_refl M
  · split
    · exact h1
    · split
      · omega
      · have := Nat.mod_lt (A / D) (show 0 < 2 by omega)
        omega
theorem nr_scale {A D k : Nat} (hk : 0 < k) : FP.Core.nearest (A * k) (D * k) = FP.Core.nearest A D := by
  unfold FP.Core.nearest
  rw [Nat.mul_div_mul_right A D hk, Nat.mul_mod_mul_right]
  have e1 : 2 * (A % D * k) < D * k ↔ 2 * (A % D) < D := by rw [← Nat.mul_assoc]; exact Nat.mul_lt_mul_right hk
  have e2 : D * k < 2 * (A % D * k) ↔ D < 2 * (A % D) := by rw [← Nat.mul_assoc]; exact Nat.mul_lt_mul_right hk
  simp only [e1, e2]
theorem nr_cross {A D A' D' : Nat} (hD : 0 < D) (hD' : 0 < D') (h : A * D' = A' * D) : FP.Core.nearest A D = FP.Core.nearest A' D' := by
  rw [← nr_scale (A := A) (D := D) hD', ← nr_scale (A := A') (D := D') hD, h, Nat.mul_comm D D']
theorem lead1 {c : Nat} (hc : 0 < c) : FP.Core.leading c 1 = (c.log2 : Int) := by
  unfold FP.Core.leading
  have h1 : Nat.log2 1 = 0 := by decide
  have h2 : 2 ^ c.log2 ≤ c := Nat.log2_self_le (by omega)
  simp only [h1]
  rw [show ((c.log2 : Int) - (0 : Nat)).toNat = c.log2 from by omega, show (-((c.log2 : Int) - (0 : Nat))).toNat = 0 from by omega, if_pos (by omega)]
  omega
/-- rounded: at most 2^B, where it was -/
theorem fq_E {s : Bool} {c : Nat} {q B : Int} (h1 : -2 ≤ B) (h2 : B ≤ 1) (hq : q ≤ B) (hc : c ≤ 2 ^ (B - q).toNat) : ∃ m, FP.Core.encode FP.Core.b32 (FP.Core.roundRatio FP.Core.b32 s c 1 q) = s.toNat * 2147483648 + m ∧ (m : Int) ≤ (127 + B) * 8388608 := by
  unfold FP.Core.roundRatio
  by_cases h0 : c = 0
  · rw [if_pos h0]
    refine ⟨0, ?_, by omega⟩
    simp only [FP.Core.encode, FP.Core.assemble, fq_tails, fq_exps]
    rw [if_pos (by omega)]
    omega
  rw [if_neg h0]
  have hk1 : 2 ^ c.log2 ≤ c := Nat.log2_self_le h0
  have hk2 : c.log2 ≤ (B - q).toNat := (Nat.pow_le_pow_iff_right (by omega)).mp (Nat.le_trans hk1 hc)
  have hQ : FP.Core.quantum FP.Core.b32 c 1 q = max (-149) ((c.log2 : Int) + q - 23) := by
    unfold FP.Core.quantum
    rw [fq_qmin, lead1 (by omega)]
    rfl
  rw [hQ]
  obtain ⟨Q, hQe⟩ : ∃ Q : Int, Q = max (-149) ((c.log2 : Int) + q - 23) := ⟨_, rfl⟩
  rw [← hQe]
  have hQ1 : -149 ≤ Q := by omega
  have hQ2 : Q ≤ B - 23 := by omega
  unfold FP.Core.roundAt FP.Core.unitsNum FP.Core.unitsDen
  obtain ⟨n, hn⟩ : ∃ n, n = FP.Core.nearest (c * 2 ^ (q - Q).toNat) (1 * 2 ^ (Q - q).toNat) := ⟨_, rfl⟩
  rw [← hn]
  have hM : n ≤ 2 ^ (B - Q).toNat := by
    rw [hn]
    refine nr_le (by rw [Nat.one_mul]; exact Nat.two_pow_pos _) ?_
    rw [Nat.one_mul]
    by_cases hqQ : Q ≤ q
    · rw [show (Q - q).toNat = 0 from by omega, Nat.pow_zero, Nat.mul_one, show (B - Q).toNat = (B - q).toNat + (q - Q).toNat from by omega, Nat.pow_add]
      exact Nat.mul_le_mul_right _ hc
    · rw [show (q - Q).toNat = 0 from by omega, Nat.pow_zero, Nat.mul_one, ← Nat.pow_add, show (B - Q).toNat + (Q - q).toNat = (B - q).toNat from by omega]
      exact hc
  have hD23 : (B - Q).toNat = 23 → n ≤ 8388608 := fun e => by rw [e] at hM; exact hM
  have hD24 : 16777216 ≤ n → 24 ≤ (B - Q).toNat := fun e => by
    have : 2 ^ 24 ≤ 2 ^ (B - Q).toNat := Nat.le_trans e hM
    exact (Nat.pow_le_pow_iff_right (by omega)).mp this
  unfold FP.Core.settle FP.Core.bound
  rw [fq_p, fq_qmax, fq_tails]
  by_cases hn24 : n < 16777216
  · rw [if_pos hn24, if_pos (by omega)]
    simp only [FP.Core.encode, FP.Core.assemble, fq_tails, fq_exps, fq_qmin]
    by_cases hn23 : n < 8388608
    · rw [if_pos hn23]
      exact ⟨n, by omega, by omega⟩
    · rw [if_neg hn23]
      refine ⟨((Q - (-149)).toNat + 1) * 8388608 + (n - 8388608), ?_, ?_⟩
      · rw [Nat.add_mul, Nat.mul_assoc]
        omega
      · by_cases hd : (B - Q).toNat = 23
        · have := hD23 hd
          omega
        · omega
  · have := hD24 (by omega)
    rw [if_neg hn24, if_pos (by omega)]
    simp only [FP.Core.encode, FP.Core.assemble, fq_tails, fq_exps, fq_qmin]
    rw [if_neg (show ¬ 8388608 < 8388608 by omega)]
    refine ⟨((Q + 1 - (-149)).toNat + 1) * 8388608, ?_, ?_⟩
    · rw [Nat.add_mul, Nat.mul_assoc]
      omega
    · omega
/-- what such bits stand for -/
theorem fq_val {x : UInt32} {B : Int} (h1 : -2 ≤ B) (h2 : B ≤ 1) (h : ((x.toNat % 2147483648 : Nat) : Int) ≤ (127 + B) * 8388608) : ∃ c q, FP.Core.decode FP.Core.b32 x.toNat = .fin (FP.Core.fieldS FP.Core.b32 x.toNat) c q ∧ c < 16777216 ∧ -149 ≤ q ∧ q ≤ B - 23 ∧ c ≤ 2 ^ (B - q).toNat ∧ ((127 + B - 1) * 8388608 < ((x.toNat % 2147483648 : Nat) : Int) → 8388608 ≤ c ∧ B - 24 ≤ q ∧ (q = B - 24 → 8388608 < c)) := by
  unfold FP.Core.decode FP.Core.fieldE FP.Core.fieldT
  rw [fq_tails, fq_exps, fq_qmin]
  have hE : x.toNat / 8388608 % 256 = x.toNat % 2147483648 / 8388608 := by omega
  have hT : x.toNat % 8388608 = x.toNat % 2147483648 % 8388608 := by omega
  rw [hE, hT, if_neg (by omega)]
  generalize x.toNat % 2147483648 = y at h
  by_cases h0 : y / 8388608 = 0
  · rw [if_pos h0]
    refine ⟨_, _, rfl, by omega, by omega, by omega, ?_, fun z => by omega⟩
    have : 2 ^ 23 ≤ 2 ^ (B - (-149)).toNat := Nat.pow_le_pow_right (by omega) (by omega)
    exact Nat.le_trans (show y % 8388608 ≤ 2 ^ 23 by omega) this
  · rw [if_neg h0]
    refine ⟨_, _, rfl, by omega, by omega, by omega, ?_, fun z => ⟨by omega, by omega, fun z2 => by omega⟩⟩
    by_cases hb : (y / 8388608 : Int) = 127 + B
    · have e : y % 8388608 = 0 := by omega
      rw [e, show (B - (-149 + (((y / 8388608 : Nat) : Int) - 1))).toNat = 23 from by omega]
      decide
    · have : 2 ^ 24 ≤ 2 ^ (B - (-149 + (((y / 8388608 : Nat) : Int) - 1))).toNat := Nat.pow_le_pow_right (by omega) (by omega)
      exact Nat.le_trans (show 8388608 + y % 8388608 ≤ 2 ^ 24 by omega) this
/-- a health: from 0 to 2 -/
def hOk (h : UInt32) : Prop := h.toNat ≤ 1073741824
theorem hOk.n {h : UInt32} (a : hOk h) : fFi h := by unfold fFi; unfold hOk at a; omega
theorem fS_pos {h : UInt32} (a : h.toNat < 2147483648) : FP.Core.fieldS FP.Core.b32 h.toNat = false := by
  unfold FP.Core.fieldS
  rw [fq_tails, fq_exps, show h.toNat / 8388608 / 256 % 2 = 0 from by omega]
  rfl
theorem hOk.val {h : UInt32} (a : hOk h) : ∃ c q, FP.Core.decode FP.Core.b32 h.toNat = .fin false c q ∧ c < 16777216 ∧ -149 ≤ q ∧ q ≤ -22 ∧ c ≤ 2 ^ (1 - q).toNat := by
  unfold hOk at a
  obtain ⟨c, q, h1, h2, h3, h4, h5, -⟩ := fq_val (x := h) (B := 1) (by omega) (by omega) (by omega)
  rw [fS_pos (by omega)] at h1
  exact ⟨c, q, h1, h2, h3, by omega, h5⟩
theorem of_m {s : Bool} {m : Nat} (h : m < 2147483648) : (UInt32.ofNat (s.toNat * 2147483648 + m)).toNat = s.toNat * 2147483648 + m := by
  have hs : s.toNat ≤ 1 := Bool.toNat_le s
  rw [UInt32.toNat_ofNat', Nat.mod_eq_of_lt (show s.toNat * 2147483648 + m < 2 ^ 32 by omega)]
theorem half_dec : FP.Core.decode FP.Core.b32 (UInt32.toNat 1056964608) = .fin false 8388608 (-24) := by decide +kernel
theorem quart_dec : FP.Core.decode FP.Core.b32 (UInt32.toNat 1048576000) = .fin false 8388608 (-25) := by decide +kernel
theorem one_dec : FP.Core.decode FP.Core.b32 (UInt32.toNat FP.fconst1) = .fin false 8388608 (-23) := by decide +kernel
theorem two_dec : FP.Core.decode FP.Core.b32 (UInt32.toNat FP.fconst2) = .fin false 8388608 (-22) := by decide +kernel
theorem h_half {h : UInt32} (a : hOk h) : fNn (FP.fmul h 1056964608) ∧ hOk (FP.fmul h 1056964608) := by
  obtain ⟨c, q, h1, h2, h3, h4, h5⟩ := a.val
  have e : FP.fmul h 1056964608 = UInt32.ofNat (FP.Core.encode FP.Core.b32 (FP.Core.roundRatio FP.Core.b32 false (c * 8388608) 1 (q + -24))) := by
    show UInt32.ofNat (FP.Core.encode FP.Core.b32 (FP.Core.round FP.Core.b32 (FP.Core.exactProduct (FP.Core.decode FP.Core.b32 h.toNat) (FP.Core.decode FP.Core.b32 (UInt32.toNat 1056964608))))) = _
    rw [h1, half_dec]
    rfl
  obtain ⟨m, m1, m2⟩ := fq_E (s := false) (c := c * 8388608) (q := q + -24) (B := 0) (by omega) (by omega) (by omega) (by
    rw [show (0 - (q + -24)).toNat = (1 - q).toNat + 23 from by omega, Nat.pow_add]
    exact Nat.mul_le_mul_right _ h5)
  rw [e, m1]
  have ht := of_m (s := false) (m := m) (by omega)
  have hz : (false : Bool).toNat = 0 := rfl
  rw [hz] at ht ⊢
  unfold fNn hOk
  rw [ht]
  omega
/-- a half is what is left of two -/
theorem half_two {h : UInt32} (a : hOk h) : FP.fmul h 1056964608 = FP.fdiv h FP.fconst2 := by
  obtain ⟨c, q, h1, h2, h3, h4, h5⟩ := a.val
  show UInt32.ofNat (FP.Core.encode FP.Core.b32 (FP.Core.round FP.Core.b32 (FP.Core.exactProduct (FP.Core.decode FP.Core.b32 h.toNat) (FP.Core.decode FP.Core.b32 (UInt32.toNat 1056964608))))) = UInt32.ofNat (FP.Core.encode FP.Core.b32 (FP.Core.quotient FP.Core.b32 (FP.Core.decode FP.Core.b32 h.toNat) (FP.Core.decode FP.Core.b32 (UInt32.toNat FP.fconst2))))
  rw [h1, half_dec, two_dec]
  show UInt32.ofNat (FP.Core.encode FP.Core.b32 (FP.Core.roundRatio FP.Core.b32 false (c * 8388608) 1 (q + -24))) = UInt32.ofNat (FP.Core.encode FP.Core.b32 (FP.Core.roundRatio FP.Core.b32 false c 8388608 (q - -22)))
  congr 2
  unfold FP.Core.roundRatio
  by_cases h0 : c = 0
  · rw [if_pos h0, if_pos (by omega)]
  rw [if_neg h0, if_neg (by omega)]
  have hk1 : 2 ^ c.log2 ≤ c := Nat.log2_self_le h0
  have hk2 : c < 2 ^ (c.log2 + 1) := Nat.lt_log2_self
  have hk3 : c.log2 ≤ 23 := by
    have : 2 ^ c.log2 < 2 ^ 24 := Nat.lt_of_le_of_lt hk1 h2
    have := (Nat.pow_lt_pow_iff_right (show 1 < 2 by omega)).mp this
    omega
  have hl : (c * 8388608).log2 = c.log2 + 23 := by
    refine (Nat.log2_eq_iff (by omega)).mpr ⟨?_, ?_⟩
    · rw [Nat.pow_add]
      exact Nat.mul_le_mul_right _ hk1
    · rw [show c.log2 + 23 + 1 = (c.log2 + 1) + 23 from by omega, Nat.pow_add]
      exact Nat.mul_lt_mul_of_pos_right hk2 (by decide)
  have hlead : FP.Core.leading c 8388608 = (c.log2 : Int) - 23 := by
    unfold FP.Core.leading
    have e1 : Nat.log2 8388608 = 23 := by decide
    simp only [e1]
    rw [show ((c.log2 : Int) - (23 : Nat)).toNat = 0 from by omega, show (-((c.log2 : Int) - (23 : Nat))).toNat = 23 - c.log2 from by omega, if_pos ?_]
    · rfl
    · rw [Nat.pow_zero, Nat.mul_one]
      have e2 : 2 ^ c.log2 * 2 ^ (23 - c.log2) ≤ c * 2 ^ (23 - c.log2) := Nat.mul_le_mul_right _ hk1
      rw [← Nat.pow_add, show c.log2 + (23 - c.log2) = 23 from by omega] at e2
      exact e2
  have hq : FP.Core.quantum FP.Core.b32 (c * 8388608) 1 (q + -24) = FP.Core.quantum FP.Core.b32 c 8388608 (q - -22) := by
    unfold FP.Core.quantum
    rw [lead1 (by omega), hl, hlead]
    congr 1
    omega
  rw [hq]
  generalize FP.Core.quantum FP.Core.b32 c 8388608 (q - -22) = Q
  unfold FP.Core.roundAt FP.Core.unitsNum FP.Core.unitsDen
  congr 1
  refine nr_cross (by rw [Nat.one_mul]; exact Nat.two_pow_pos _) (Nat.mul_pos (by decide) (Nat.two_pow_pos _)) ?_
  rw [show (8388608 : Nat) = 2 ^ 23 from rfl, Nat.one_mul]
  rw [Nat.mul_assoc, Nat.mul_assoc, Nat.mul_assoc, ← Nat.pow_add, ← Nat.pow_add, ← Nat.pow_add, ← Nat.pow_add]
  congr 2
  omega
