/-! FLOATS: a good kick; margins; small numbers -/
set_option maxRecDepth 100000
theorem sg_f (c : Nat) : FP.Core.signed false c = (c : Int) := rfl
theorem sg_t (c : Nat) : FP.Core.signed true c = -(c : Int) := rfl
theorem fS_m {s : Bool} {m : Nat} (h : m < 2147483648) : FP.Core.fieldS FP.Core.b32 (s.toNat * 2147483648 + m) = s := by
  unfold FP.Core.fieldS
  rw [fq_tails, fq_exps]
  cases s with
  | false => rw [show (false.toNat * 2147483648 + m) / 8388608 / 256 % 2 = 0 from by simp only [Bool.toNat_false]; omega]; rfl
  | true => rw [show (true.toNat * 2147483648 + m) / 8388608 / 256 % 2 = 1 from by simp only [Bool.toNat_true]; omega]; rfl
/-- a rounded number that is at most 2^B -/
theorem fq_rnd {s : Bool} {c : Nat} {q B : Int} (h1 : -2 ≤ B) (h2 : B ≤ 1) (hq : q ≤ B) (hc : c ≤ 2 ^ (B - q).toNat) : fFi (UInt32.ofNat (FP.Core.encode FP.Core.b32 (FP.Core.roundRatio FP.Core.b32 s c 1 q))) ∧ ((s = false ∨ c = 0 ∧ s = false) → (((UInt32.ofNat (FP.Core.encode FP.Core.b32 (FP.Core.roundRatio FP.Core.b32 s c 1 q))).toNat : Nat) : Int) ≤ (127 + B) * 8388608) ∧ ∃ c' q', FP.Core.decode FP.Core.b32 (UInt32.ofNat (FP.Core.encode FP.Core.b32 (FP.Core.roundRatio FP.Core.b32 s c 1 q))).toNat = .fin s c' q' ∧ c' < 16777216 ∧ q' ≤ B - 23 ∧ c' ≤ 2 ^ (B - q').toNat := by
  obtain ⟨m, m1, m2⟩ := fq_E (s := s) h1 h2 hq hc
  rw [m1]
  have ht := of_m (s := s) (m := m) (by omega)
  have hmod : (UInt32.ofNat (s.toNat * 2147483648 + m)).toNat % 2147483648 = m := by rw [ht]; omega
  refine ⟨?_, fun hs => ?_, ?_⟩
  · unfold fFi
    rw [hmod]
    omega
  · have e : s = false := by rcases hs with e | ⟨-, e⟩ <;> exact e
    subst e
    rw [ht, show (false.toNat * 2147483648 + m : Nat) = m from by simp only [Bool.toNat_false]; omega]
    exact m2
  · obtain ⟨c', q', d1, d2, -, d4, d5, -⟩ := fq_val (x := UInt32.ofNat (s.toNat * 2147483648 + m)) (B := B) h1 h2 (by rw [hmod]; exact m2)
    rw [ht, fS_m (by omega)] at d1
    rw [ht]
    exact ⟨c', q', d1, d2, d4, d5⟩
theorem pw {a b : Int} (h : 0 ≤ a) (h2 : 0 ≤ b) : 2 ^ (a + b).toNat = 2 ^ a.toNat * 2 ^ b.toNat := by
  rw [show (a + b).toNat = a.toNat + b.toNat from by omega, Nat.pow_add]
theorem h_good {h : UInt32} (a : hOk h) : fNn (FP.fsub FP.fconst1 h) ∧ fNn (FP.fmul (FP.fsub FP.fconst1 h) 1048576000) ∧ fNn (FP.fadd h (FP.fmul (FP.fsub FP.fconst1 h) 1048576000)) ∧ hOk (FP.fadd h (FP.fmul (FP.fsub FP.fconst1 h) 1048576000)) := by
  -- the health
  have hhi : h.toNat ≤ 1065353216 ∨ 1065353216 < h.toNat := Nat.lt_or_ge _ _ |>.symm
  have hdec : ∃ c q, FP.Core.decode FP.Core.b32 h.toNat = .fin false c q ∧ -149 ≤ q ∧ q ≤ -22 ∧ c ≤ 2 ^ (1 - q).toNat ∧ ((q ≤ -23 ∧ c ≤ 2 ^ (0 - q).toNat) ∨ (8388608 ≤ c ∧ -23 ≤ q ∧ (q = -23 → 8388608 < c))) := by
    unfold hOk at a
    rcases hhi with hh | hh
    · obtain ⟨c, q, h1, h2, h3, h4, h5, -⟩ := fq_val (x := h) (B := 0) (by omega) (by omega) (by omega)
      rw [fS_pos (by omega)] at h1
      refine ⟨c, q, h1, h3, by omega, Nat.le_trans h5 (Nat.pow_le_pow_right (by omega) (by omega)), Or.inl ⟨by omega, h5⟩⟩
    · obtain ⟨c, q, h1, h2, h3, h4, h5, h6⟩ := fq_val (x := h) (B := 1) (by omega) (by omega) (by omega)
      rw [fS_pos (by omega)] at h1
      obtain ⟨z1, z2, z3⟩ := h6 (by omega)
      refine ⟨c, q, h1, h3, by omega, h5, Or.inr ⟨z1, by omega, fun z => z3 (by omega)⟩⟩
  obtain ⟨c, q, h1, h3, h4, h5, h6⟩ := hdec
  -- one less the health
  obtain ⟨s6, c6, q6, e6, hs6, hs6', hc6, hq6⟩ : ∃ s6 c6 q6, FP.fsub FP.fconst1 h = UInt32.ofNat (FP.Core.encode FP.Core.b32 (FP.Core.roundRatio FP.Core.b32 s6 c6 1 q6)) ∧ (s6 = true → 8388608 ≤ c ∧ -23 ≤ q) ∧ (8388608 ≤ c ∧ -23 ≤ q ∧ (q = -23 → 8388608 < c) → s6 = true) ∧ c6 ≤ 2 ^ (0 - q6).toNat ∧ q6 ≤ 0 := by
    have e : FP.fsub FP.fconst1 h = UInt32.ofNat (FP.Core.encode FP.Core.b32 (FP.Core.round FP.Core.b32 (FP.Core.exactSum (.fin false 8388608 (-23)) (.fin true c q)))) := by
      show UInt32.ofNat (FP.Core.encode FP.Core.b32 (FP.Core.round FP.Core.b32 (FP.Core.exactSum (FP.Core.decode FP.Core.b32 (UInt32.toNat FP.fconst1)) (FP.Core.negate (FP.Core.decode FP.Core.b32 h.toNat))))) = _
      rw [one_dec, h1]
      rfl
    refine ⟨_, _, _, e, ?_, ?_, ?_, by omega⟩
    · intro hs
      rcases h6 with ⟨z1, z2⟩ | ⟨z1, z2, -⟩
      · exfalso
        unfold FP.Core.sumSign FP.Core.sumUnits FP.Core.inUnits at hs
        rw [sg_f, sg_t, show min (-23 : Int) q = q from by omega, show (q - q).toNat = 0 from by omega, Nat.pow_zero, Nat.mul_one] at hs
        have e2 : 8388608 * 2 ^ (-23 - q).toNat = 2 ^ (0 - q).toNat := by
          rw [show (0 - q) = 23 + (-23 - q) from by omega, pw (by omega) (by omega)]
          rfl
        rw [e2] at hs
        split at hs
        · cases hs
        · have := of_decide_eq_true hs
          omega
      · exact ⟨z1, z2⟩
    · rintro ⟨z1, z2, z3⟩
      unfold FP.Core.sumSign FP.Core.sumUnits FP.Core.inUnits
      rw [sg_f, sg_t, show min (-23 : Int) q = -23 from by omega, show ((-23 : Int) - -23).toNat = 0 from by omega, Nat.pow_zero, Nat.mul_one]
      have hq : q = -23 ∨ q = -22 := by omega
      rcases hq with rfl | rfl
      · have := z3 rfl
        rw [show ((-23 : Int) - -23).toNat = 0 from by omega, Nat.pow_zero, Nat.mul_one, if_neg (by omega)]
        exact decide_eq_true (by omega)
      · rw [show ((-22 : Int) - -23).toNat = 1 from by omega, if_neg (by omega)]
        exact decide_eq_true (by omega)
    · unfold FP.Core.sumUnits FP.Core.inUnits
      rw [sg_f, sg_t]
      obtain ⟨E, hE⟩ : ∃ E, E = min (-23 : Int) q := ⟨_, rfl⟩
      rw [← hE]
      have e2 : 8388608 * 2 ^ (-23 - E).toNat = 2 ^ (0 - E).toNat := by
        rw [show (0 - E) = 23 + (-23 - E) from by omega, pw (by omega) (by omega)]
        rfl
      have e3 : c * 2 ^ (q - E).toNat ≤ 2 * 2 ^ (0 - E).toNat := by
        have := Nat.mul_le_mul_right (2 ^ (q - E).toNat) h5
        rw [← pw (by omega) (by omega), show (1 - q + (q - E)) = 1 + (0 - E) from by omega, pw (by omega) (by omega)] at this
        exact this
      rw [e2]
      omega
  obtain ⟨f6, -, c6', q6', d6, -, b6, v6⟩ := fq_rnd (s := s6) (B := 0) (by omega) (by omega) hq6 hc6
  rw [← e6] at f6 d6
  -- a quarter of that
  have e7 : FP.fmul (FP.fsub FP.fconst1 h) 1048576000 = UInt32.ofNat (FP.Core.encode FP.Core.b32 (FP.Core.roundRatio FP.Core.b32 s6 (c6' * 8388608) 1 (q6' + -25))) := by
    show UInt32.ofNat (FP.Core.encode FP.Core.b32 (FP.Core.round FP.Core.b32 (FP.Core.exactProduct (FP.Core.decode FP.Core.b32 (FP.fsub FP.fconst1 h).toNat) (FP.Core.decode FP.Core.b32 (UInt32.toNat 1048576000))))) = _
    rw [d6, quart_dec]
    show UInt32.ofNat (FP.Core.encode FP.Core.b32 (FP.Core.roundRatio FP.Core.b32 (s6 != false) (c6' * 8388608) 1 (q6' + -25))) = _
    rw [Bool.bne_false]
  obtain ⟨f7, -, c7, q7, d7, -, b7, v7⟩ := fq_rnd (s := s6) (c := c6' * 8388608) (q := q6' + -25) (B := -2) (by omega) (by omega) (by omega) (by
    rw [show (-2 - (q6' + -25)) = (0 - q6') + 23 from by omega, pw (by omega) (by omega)]
    exact Nat.mul_le_mul_right _ v6)
  rw [← e7] at f7 d7
  -- the sum
  have e8 : FP.fadd h (FP.fmul (FP.fsub FP.fconst1 h) 1048576000) = UInt32.ofNat (FP.Core.encode FP.Core.b32 (FP.Core.round FP.Core.b32 (FP.Core.exactSum (.fin false c q) (.fin s6 c7 q7)))) := by
    show UInt32.ofNat (FP.Core.encode FP.Core.b32 (FP.Core.round FP.Core.b32 (FP.Core.exactSum (FP.Core.decode FP.Core.b32 h.toNat) (FP.Core.decode FP.Core.b32 (FP.fmul (FP.fsub FP.fconst1 h) 1048576000).toNat)))) = _
    rw [h1, d7]
  obtain ⟨E, hE⟩ : ∃ E, E = min q q7 := ⟨_, rfl⟩
  have x1 : c * 2 ^ (q - E).toNat ≤ 2 ^ (1 - E).toNat := by
    have := Nat.mul_le_mul_right (2 ^ (q - E).toNat) h5
    rw [← pw (by omega) (by omega), show (1 - q + (q - E)) = (1 - E) from by omega] at this
    exact this
  have x2 : c7 * 2 ^ (q7 - E).toNat ≤ 2 ^ (-2 - E).toNat := by
    have := Nat.mul_le_mul_right (2 ^ (q7 - E).toNat) v7
    rw [← pw (by omega) (by omega), show (-2 - q7 + (q7 - E)) = (-2 - E) from by omega] at this
    exact this
  have x3 : 2 ^ (1 - E).toNat = 8 * 2 ^ (-2 - E).toNat := by
    rw [show (1 - E) = 3 + (-2 - E) from by omega, pw (by omega) (by omega)]
    rfl
  have x4 : 8388608 ≤ c ∧ -23 ≤ q → 2 ^ (-2 - E).toNat ≤ c * 2 ^ (q - E).toNat := by
    rintro ⟨y1, y2⟩
    have z1 : 2 ^ (-2 - E).toNat ≤ 2 ^ (23 + (q - E)).toNat := Nat.pow_le_pow_right (by omega) (by omega)
    rw [pw (by omega) (by omega)] at z1
    exact Nat.le_trans z1 (Nat.mul_le_mul_right _ y1)
  have x5 : (q ≤ -23 ∧ c ≤ 2 ^ (0 - q).toNat) → c * 2 ^ (q - E).toNat ≤ 4 * 2 ^ (-2 - E).toNat := by
    rintro ⟨y1, y2⟩
    have := Nat.mul_le_mul_right (2 ^ (q - E).toNat) y2
    rw [← pw (by omega) (by omega), show (0 - q + (q - E)) = 2 + (-2 - E) from by omega, pw (by omega) (by omega)] at this
    exact this
  have key : ∃ v, FP.Core.exactSum (.fin false c q) (.fin s6 c7 q7) = .fin false v E ∧ v ≤ 2 ^ (1 - E).toNat := by
    show ∃ v, FP.Core.Datum.fin (FP.Core.sumSign false s6 (FP.Core.sumUnits false c q s6 c7 q7 (min q q7))) (FP.Core.sumUnits false c q s6 c7 q7 (min q q7)).natAbs (min q q7) = .fin false v E ∧ v ≤ 2 ^ (1 - E).toNat
    rw [← hE]
    unfold FP.Core.sumSign FP.Core.sumUnits FP.Core.inUnits
    rw [sg_f]
    generalize hA : c * 2 ^ (q - E).toNat = A at *
    generalize hC : c7 * 2 ^ (q7 - E).toNat = C at *
    cases hs : s6 with
    | false =>
      rw [sg_f]
      refine ⟨((A : Int) + C).natAbs, ?_, ?_⟩
      · split
        · rfl
        · rw [decide_eq_false (by omega)]
      · rcases h6 with z | ⟨z1, z2, z3⟩
        · have := x5 z
          omega
        · exfalso
          -- above one the sign is minus
          have : s6 = true := hs6' ⟨z1, z2, z3⟩
          rw [this] at hs
          cases hs
    | true =>
      rw [sg_t]
      have := x4 (hs6 hs)
      refine ⟨((A : Int) + -C).natAbs, ?_, by omega⟩
      split
      · rfl
      · rw [decide_eq_false (by omega)]
  obtain ⟨v, k1, k2⟩ := key
  have e9 : FP.fadd h (FP.fmul (FP.fsub FP.fconst1 h) 1048576000) = UInt32.ofNat (FP.Core.encode FP.Core.b32 (FP.Core.roundRatio FP.Core.b32 false v 1 E)) := by
    rw [e8, k1]
    rfl
  obtain ⟨f8, b8, -⟩ := fq_rnd (s := false) (c := v) (q := E) (B := 1) (by omega) (by omega) (by omega) k2
  rw [← e9] at f8 b8
  refine ⟨f6.n, f7.n, f8.n, ?_⟩
  have := b8 (Or.inl rfl)
  unfold hOk
  omega
theorem i2f_dec {x : Int32} (h1 : -512 ≤ x.toInt) (h2 : x.toInt < 512) : ∃ s c q, FP.Core.decode FP.Core.b32 (FP.i2f x).toNat = .fin s c q ∧ c < 16777216 ∧ q ≤ 0 ∧ (x ≠ 0 → c ≠ 0 ∧ -24 ≤ q) := by
  have hx : x = nI (x.toInt + 512).toNat - 512 := by
    apply Int32.toInt_inj.mp
    rw [show (512 : Int32) = nI 512 from rfl, pk_sub_toInt (by omega) (by omega)]
    omega
  have hk := chk_tab (x.toInt + 512).toNat (by omega)
  rw [← hx] at hk
  unfold chkI at hk
  split at hk
  · rename_i s c q hd
    obtain ⟨z1, z2, z3⟩ := of_decide_eq_true hk
    exact ⟨s, c, q, hd, z1, z2, z3⟩
  · cases hk
theorem log2_24 {c : Nat} (h0 : c ≠ 0) (h : c < 16777216) : c.log2 ≤ 23 := by
  have hk1 : 2 ^ c.log2 ≤ c := Nat.log2_self_le h0
  have : 2 ^ c.log2 < 2 ^ 24 := Nat.lt_of_le_of_lt hk1 h
  have := (Nat.pow_lt_pow_iff_right (show 1 < 2 by omega)).mp this
  omega
theorem lead_le {c d : Nat} : FP.Core.leading c d ≤ (c.log2 : Int) := by
  unfold FP.Core.leading
  simp only
  split <;> omega
/-- a rounding that stays below the top is a number -/
theorem fq_small {s : Bool} {c d : Nat} {e : Int} (h : c ≠ 0 → FP.Core.quantum FP.Core.b32 c d e ≤ 103) : fFi (UInt32.ofNat (FP.Core.encode FP.Core.b32 (FP.Core.roundRatio FP.Core.b32 s c d e))) := by
  have hfin : ∃ c' q', FP.Core.roundRatio FP.Core.b32 s c d e = .fin s c' q' ∧ c' < 16777216 ∧ -149 ≤ q' ∧ q' ≤ 104 := by
    unfold FP.Core.roundRatio
    split
    · exact ⟨0, FP.Core.b32.qmin, rfl, by omega, by rw [fq_qmin]; omega, by rw [fq_qmin]; omega⟩
    · rename_i hc0
      have h := h hc0
      have hq : -149 ≤ FP.Core.quantum FP.Core.b32 c d e := by
        unfold FP.Core.quantum
        rw [fq_qmin]
        exact Int.le_max_left _ _
      unfold FP.Core.roundAt FP.Core.settle FP.Core.bound
      rw [fq_p, fq_qmax, fq_tails]
      split
      · rw [if_pos (by omega)]
        exact ⟨_, _, rfl, ‹_›, hq, by omega⟩
      · rw [if_pos (by omega)]
        exact ⟨_, _, rfl, by omega, by omega, by omega⟩
  obtain ⟨c', q', h1, h2, h3, h4⟩ := hfin
  rw [h1]
  have hm : ∃ m, FP.Core.encode FP.Core.b32 (.fin s c' q') = s.toNat * 2147483648 + m ∧ m < 2139095040 := by
    simp only [FP.Core.encode, FP.Core.assemble, fq_tails, fq_exps, fq_qmin]
    split
    · exact ⟨c', by omega, by omega⟩
    · refine ⟨((q' - (-149)).toNat + 1) * 8388608 + (c' - 8388608), ?_, ?_⟩
      · rw [Nat.add_mul, Nat.mul_assoc]
        omega
      · have he : (q' - (-149)).toNat + 1 ≤ 254 := by omega
        generalize (q' - (-149)).toNat + 1 = E at he
        omega
  obtain ⟨m, m1, m2⟩ := hm
  rw [m1]
  unfold fFi
  rw [of_m (by omega)]
  omega
/-- a margin: a number -/
theorem mg_ok {x y : Int32} (h1 : -512 ≤ x.toInt) (h2 : x.toInt < 512) (h3 : -512 ≤ y.toInt) (h4 : y.toInt < 512) (h0 : y ≠ 0) : fFi (FP.fdiv (FP.i2f x) (FP.i2f y)) := by
  obtain ⟨s, c, q, a1, a2, a3, -⟩ := i2f_dec h1 h2
  obtain ⟨t, e, r, b1, b2, b3, b4⟩ := i2f_dec h3 h4
  obtain ⟨b5, b6⟩ := b4 h0
  have e1 : FP.fdiv (FP.i2f x) (FP.i2f y) = UInt32.ofNat (FP.Core.encode FP.Core.b32 (FP.Core.roundRatio FP.Core.b32 (s != t) c e (q - r))) := by
    show UInt32.ofNat (FP.Core.encode FP.Core.b32 (FP.Core.quotient FP.Core.b32 (FP.Core.decode FP.Core.b32 (FP.i2f x).toNat) (FP.Core.decode FP.Core.b32 (FP.i2f y).toNat))) = _
    rw [a1, b1]
    show UInt32.ofNat (FP.Core.encode FP.Core.b32 (if e = 0 then (if c = 0 then .nan else .inf (s != t)) else FP.Core.roundRatio FP.Core.b32 (s != t) c e (q - r))) = _
    rw [if_neg b5]
  rw [e1]
  refine fq_small (fun hc => ?_)
  unfold FP.Core.quantum
  rw [fq_qmin]
  have := lead_le (c := c) (d := e)
  have := log2_24 hc a2
  have hp : ((FP.Core.b32.p : Nat) : Int) = 24 := rfl
  rw [hp]
  omega
