/-! FLOATS: no NaN comes of numbers -/
set_option maxRecDepth 100000

theorem fq_tails : FP.Core.b32.tails = 8388608 := by decide
theorem fq_exps : FP.Core.b32.exps = 256 := by decide
theorem fq_qmin : FP.Core.b32.qmin = -149 := by decide
theorem fq_qmax : FP.Core.b32.qmax = 104 := by decide
theorem fq_p : 2 ^ FP.Core.b32.p = 16777216 := by decide
/-- what rounding gives -/
def fqR (s : Bool) (R : FP.Core.Datum) : Prop := R = .inf s ∨ ∃ c q, R = .fin s c q ∧ c < 16777216 ∧ -149 ≤ q ∧ q ≤ 104
theorem fq_rr (s : Bool) (num den : Nat) (e : Int) : fqR s (FP.Core.roundRatio FP.Core.b32 s num den e) := by
  unfold FP.Core.roundRatio
  split
  · exact Or.inr ⟨0, FP.Core.b32.qmin, rfl, by omega, by rw [fq_qmin]; omega, by rw [fq_qmin]; omega⟩
  · have hq : -149 ≤ FP.Core.quantum FP.Core.b32 num den e := by
      unfold FP.Core.quantum
      rw [fq_qmin]
      exact Int.le_max_left _ _
    unfold FP.Core.roundAt FP.Core.settle FP.Core.bound
    rw [fq_p, fq_qmax, fq_tails]
    split
    · split
      · exact Or.inr ⟨_, _, rfl, ‹_›, hq, ‹_›⟩
      · exact Or.inl rfl
    · split
      · exact Or.inr ⟨_, _, rfl, by omega, by omega, ‹_›⟩
      · exact Or.inl rfl
/-- its bits -/
theorem fq_enc {s : Bool} {R : FP.Core.Datum} (h : fqR s R) : ∃ m, FP.Core.encode FP.Core.b32 R = s.toNat * 2147483648 + m ∧ m ≤ 2139095040 := by
  rcases h with rfl | ⟨c, q, rfl, h1, h2, h3⟩
  · refine ⟨2139095040, ?_, Nat.le_refl _⟩
    simp only [FP.Core.encode, FP.Core.assemble, fq_tails, fq_exps]
    omega
  · simp only [FP.Core.encode, FP.Core.assemble, fq_tails, fq_exps, fq_qmin]
    split
    · exact ⟨c, by omega, by omega⟩
    · refine ⟨((q - (-149)).toNat + 1) * 8388608 + (c - 8388608), ?_, ?_⟩
      · rw [Nat.add_mul, Nat.mul_assoc]
        omega
      · have he : (q - (-149)).toNat + 1 ≤ 254 := by omega
        generalize (q - (-149)).toNat + 1 = E at he
        omega
/-- no NaN -/
def fNn (x : UInt32) : Prop := x.toNat % 2147483648 ≤ 2139095040
def fFi (x : UInt32) : Prop := x.toNat % 2147483648 < 2139095040
theorem fNn_of {s : Bool} {R : FP.Core.Datum} (h : fqR s R) : fNn (UInt32.ofNat (FP.Core.encode FP.Core.b32 R)) := by
  obtain ⟨m, h1, h2⟩ := fq_enc h
  unfold fNn
  have hs : s.toNat ≤ 1 := Bool.toNat_le s
  have hl : s.toNat * 2147483648 + m < 4294967296 := by
    have := Nat.mul_le_mul_right 2147483648 hs
    omega
  rw [h1, UInt32.toNat_ofNat', Nat.mod_eq_of_lt (show s.toNat * 2147483648 + m < 2 ^ 32 from hl)]
  have : s.toNat = 0 ∨ s.toNat = 1 := by omega
  rcases this with e | e
  · rw [e]; omega
  · rw [e]; omega
theorem gf_ok {x : UInt32} (h : fNn x) : gf x = some x := by
  refine if_pos ?_
  rw [UInt32.le_iff_toNat_le, UInt32.toNat_and]
  have h1 : (0x7fffffff : UInt32).toNat = 2 ^ 31 - 1 := by decide
  have h2 : (0x7f800000 : UInt32).toNat = 2139095040 := by decide
  rw [h1, h2, Nat.and_two_pow_sub_one_eq_mod]
  exact h
/-- what bits that are a number stand for -/
theorem fq_dec {x : UInt32} (h : fNn x) : fqR (FP.Core.fieldS FP.Core.b32 x.toNat) (FP.Core.decode FP.Core.b32 x.toNat) := by
  unfold fNn at h
  unfold FP.Core.decode FP.Core.fieldE FP.Core.fieldT
  rw [fq_tails, fq_exps, fq_qmin]
  have hE : x.toNat / 8388608 % 256 = x.toNat % 2147483648 / 8388608 := by omega
  have hT : x.toNat % 8388608 = x.toNat % 2147483648 % 8388608 := by omega
  rw [hE, hT]
  split
  · rw [if_pos (by omega)]
    exact Or.inl rfl
  · split
    · exact Or.inr ⟨_, _, rfl, by omega, by omega, by omega⟩
    · exact Or.inr ⟨_, _, rfl, by omega, by omega, by omega⟩
theorem fq_decF {x : UInt32} (h : fFi x) : ∃ c q, FP.Core.decode FP.Core.b32 x.toNat = .fin (FP.Core.fieldS FP.Core.b32 x.toNat) c q ∧ c < 16777216 ∧ -149 ≤ q ∧ q ≤ 104 := by
  unfold fFi at h
  unfold FP.Core.decode FP.Core.fieldE FP.Core.fieldT
  rw [fq_tails, fq_exps, fq_qmin]
  have hE : x.toNat / 8388608 % 256 = x.toNat % 2147483648 / 8388608 := by omega
  have hT : x.toNat % 8388608 = x.toNat % 2147483648 % 8388608 := by omega
  rw [hE, hT, if_neg (by omega)]
  split
  · exact ⟨_, _, rfl, by omega, by omega, by omega⟩
  · exact ⟨_, _, rfl, by omega, by omega, by omega⟩
theorem fFi.n {x : UInt32} (h : fFi x) : fNn x := Nat.le_of_lt h
theorem fq_add {x y : UInt32} (hx : fNn x) (hy : fFi y) : fNn (FP.fadd x y) := by
  obtain ⟨c, q, h1, -⟩ := fq_decF hy
  show fNn (UInt32.ofNat (FP.Core.encode FP.Core.b32 (FP.Core.round FP.Core.b32 (FP.Core.exactSum (FP.Core.decode FP.Core.b32 x.toNat) (FP.Core.decode FP.Core.b32 y.toNat)))))
  rw [h1]
  rcases fq_dec hx with h2 | ⟨c2, q2, h2, -⟩
  · rw [h2]
    exact fNn_of (Or.inl rfl)
  · rw [h2]
    exact fNn_of (fq_rr _ _ _ _)
theorem fq_div {x y : UInt32} (hx : fNn x) {s : Bool} {c : Nat} {q : Int} (hy : FP.Core.decode FP.Core.b32 y.toNat = .fin s c q) (hc : c ≠ 0) : fNn (FP.fdiv x y) := by
  show fNn (UInt32.ofNat (FP.Core.encode FP.Core.b32 (FP.Core.quotient FP.Core.b32 (FP.Core.decode FP.Core.b32 x.toNat) (FP.Core.decode FP.Core.b32 y.toNat))))
  rw [hy]
  rcases fq_dec hx with h2 | ⟨c2, q2, h2, -⟩
  · rw [h2]
    exact fNn_of (Or.inl rfl)
  · rw [h2]
    show fNn (UInt32.ofNat (FP.Core.encode FP.Core.b32 (if c = 0 then (if c2 = 0 then .nan else .inf (_ != s)) else FP.Core.roundRatio FP.Core.b32 (_ != s) c2 c (q2 - q))))
    rw [if_neg hc]
    exact fNn_of (fq_rr _ _ _ _)

theorem dq_tails : FP.Core.b64.tails = 4503599627370496 := by decide
theorem dq_exps : FP.Core.b64.exps = 2048 := by decide
theorem dq_qmin : FP.Core.b64.qmin = -1074 := by decide
theorem dq_qmax : FP.Core.b64.qmax = 971 := by decide
theorem dq_p : 2 ^ FP.Core.b64.p = 9007199254740992 := by decide
/-- what rounding gives -/
def dqR (s : Bool) (R : FP.Core.Datum) : Prop := R = .inf s ∨ ∃ c q, R = .fin s c q ∧ c < 9007199254740992 ∧ -1074 ≤ q ∧ q ≤ 971
theorem dq_rr (s : Bool) (num den : Nat) (e : Int) : dqR s (FP.Core.roundRatio FP.Core.b64 s num den e) := by
  unfold FP.Core.roundRatio
  split
  · exact Or.inr ⟨0, FP.Core.b64.qmin, rfl, by omega, by rw [dq_qmin]; omega, by rw [dq_qmin]; omega⟩
  · have hq : -1074 ≤ FP.Core.quantum FP.Core.b64 num den e := by
      unfold FP.Core.quantum
      rw [dq_qmin]
      exact Int.le_max_left _ _
    unfold FP.Core.roundAt FP.Core.settle FP.Core.bound
    rw [dq_p, dq_qmax, dq_tails]
    split
    · split
      · exact Or.inr ⟨_, _, rfl, ‹_›, hq, ‹_›⟩
      · exact Or.inl rfl
    · split
      · exact Or.inr ⟨_, _, rfl, by omega, by omega, ‹_›⟩
      · exact Or.inl rfl
/-- its bits -/
theorem dq_enc {s : Bool} {R : FP.Core.Datum} (h : dqR s R) : ∃ m, FP.Core.encode FP.Core.b64 R = s.toNat * 9223372036854775808 + m ∧ m ≤ 9218868437227405312 := by
  rcases h with rfl | ⟨c, q, rfl, h1, h2, h3⟩
  · refine ⟨9218868437227405312, ?_, Nat.le_refl _⟩
    simp only [FP.Core.encode, FP.Core.assemble, dq_tails, dq_exps]
    omega
  · simp only [FP.Core.encode, FP.Core.assemble, dq_tails, dq_exps, dq_qmin]
    split
    · exact ⟨c, by omega, by omega⟩
    · refine ⟨((q - (-1074)).toNat + 1) * 4503599627370496 + (c - 4503599627370496), ?_, ?_⟩
      · rw [Nat.add_mul, Nat.mul_assoc]
        omega
      · have he : (q - (-1074)).toNat + 1 ≤ 2046 := by omega
        generalize (q - (-1074)).toNat + 1 = E at he
        omega
/-- no NaN -/
def dNn (x : UInt64) : Prop := x.toNat % 9223372036854775808 ≤ 9218868437227405312
def dFi (x : UInt64) : Prop := x.toNat % 9223372036854775808 < 9218868437227405312
theorem dNn_of {s : Bool} {R : FP.Core.Datum} (h : dqR s R) : dNn (UInt64.ofNat (FP.Core.encode FP.Core.b64 R)) := by
  obtain ⟨m, h1, h2⟩ := dq_enc h
  unfold dNn
  have hs : s.toNat ≤ 1 := Bool.toNat_le s
  have hl : s.toNat * 9223372036854775808 + m < 18446744073709551616 := by
    have := Nat.mul_le_mul_right 9223372036854775808 hs
    omega
  rw [h1, UInt64.toNat_ofNat', Nat.mod_eq_of_lt (show s.toNat * 9223372036854775808 + m < 2 ^ 64 from hl)]
  have : s.toNat = 0 ∨ s.toNat = 1 := by omega
  rcases this with e | e
  · rw [e]; omega
  · rw [e]; omega
theorem gd_ok {x : UInt64} (h : dNn x) : gd x = some x := by
  refine if_pos ?_
  rw [UInt64.le_iff_toNat_le, UInt64.toNat_and]
  have h1 : (0x7fffffffffffffff : UInt64).toNat = 2 ^ 63 - 1 := by decide
  have h2 : (0x7ff0000000000000 : UInt64).toNat = 9218868437227405312 := by decide
  rw [h1, h2, Nat.and_two_pow_sub_one_eq_mod]
  exact h
/-- what bits that are a number stand for -/
theorem dq_dec {x : UInt64} (h : dNn x) : dqR (FP.Core.fieldS FP.Core.b64 x.toNat) (FP.Core.decode FP.Core.b64 x.toNat) := by
  unfold dNn at h
  unfold FP.Core.decode FP.Core.fieldE FP.Core.fieldT
  rw [dq_tails, dq_exps, dq_qmin]
  have hE : x.toNat / 4503599627370496 % 2048 = x.toNat % 9223372036854775808 / 4503599627370496 := by omega
  have hT : x.toNat % 4503599627370496 = x.toNat % 9223372036854775808 % 4503599627370496 := by omega
  rw [hE, hT]
  split
  · rw [if_pos (by omega)]
    exact Or.inl rfl
  · split
    · exact Or.inr ⟨_, _, rfl, by omega, by omega, by omega⟩
    · exact Or.inr ⟨_, _, rfl, by omega, by omega, by omega⟩
theorem dq_decF {x : UInt64} (h : dFi x) : ∃ c q, FP.Core.decode FP.Core.b64 x.toNat = .fin (FP.Core.fieldS FP.Core.b64 x.toNat) c q ∧ c < 9007199254740992 ∧ -1074 ≤ q ∧ q ≤ 971 := by
  unfold dFi at h
  unfold FP.Core.decode FP.Core.fieldE FP.Core.fieldT
  rw [dq_tails, dq_exps, dq_qmin]
  have hE : x.toNat / 4503599627370496 % 2048 = x.toNat % 9223372036854775808 / 4503599627370496 := by omega
  have hT : x.toNat % 4503599627370496 = x.toNat % 9223372036854775808 % 4503599627370496 := by omega
  rw [hE, hT, if_neg (by omega)]
  split
  · exact ⟨_, _, rfl, by omega, by omega, by omega⟩
  · exact ⟨_, _, rfl, by omega, by omega, by omega⟩
theorem dFi.n {x : UInt64} (h : dFi x) : dNn x := Nat.le_of_lt h
theorem dq_add {x y : UInt64} (hx : dNn x) (hy : dFi y) : dNn (FP.dadd x y) := by
  obtain ⟨c, q, h1, -⟩ := dq_decF hy
  show dNn (UInt64.ofNat (FP.Core.encode FP.Core.b64 (FP.Core.round FP.Core.b64 (FP.Core.exactSum (FP.Core.decode FP.Core.b64 x.toNat) (FP.Core.decode FP.Core.b64 y.toNat)))))
  rw [h1]
  rcases dq_dec hx with h2 | ⟨c2, q2, h2, -⟩
  · rw [h2]
    exact dNn_of (Or.inl rfl)
  · rw [h2]
    exact dNn_of (dq_rr _ _ _ _)
theorem dq_div {x y : UInt64} (hx : dNn x) {s : Bool} {c : Nat} {q : Int} (hy : FP.Core.decode FP.Core.b64 y.toNat = .fin s c q) (hc : c ≠ 0) : dNn (FP.ddiv x y) := by
  show dNn (UInt64.ofNat (FP.Core.encode FP.Core.b64 (FP.Core.quotient FP.Core.b64 (FP.Core.decode FP.Core.b64 x.toNat) (FP.Core.decode FP.Core.b64 y.toNat))))
  rw [hy]
  rcases dq_dec hx with h2 | ⟨c2, q2, h2, -⟩
  · rw [h2]
    exact dNn_of (Or.inl rfl)
  · rw [h2]
    show dNn (UInt64.ofNat (FP.Core.encode FP.Core.b64 (if c = 0 then (if c2 = 0 then .nan else .inf (_ != s)) else FP.Core.roundRatio FP.Core.b64 (_ != s) c2 c (q2 - q))))
    rw [if_neg hc]
    exact dNn_of (dq_rr _ _ _ _)
