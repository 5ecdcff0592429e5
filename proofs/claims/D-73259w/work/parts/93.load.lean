/-! THE PLAIN LAW: load; more of floats -/
set_option maxRecDepth 100000
theorem f2d_fin {a : UInt32} (h : fFi a) : dFi (FP.f2d a) := by
  obtain ⟨c, q, h1, h2, h3, h4⟩ := fq_decF h
  have e : FP.f2d a = UInt64.ofNat (FP.Core.encode FP.Core.b64 (FP.Core.roundRatio FP.Core.b64 (FP.Core.fieldS FP.Core.b32 a.toNat) c 1 q)) := by
    unfold FP.f2d
    have hn : FP.Core.fIsNaN a = false := by
      unfold FP.Core.fIsNaN FP.Core.isNaN
      rw [h1]
      exact decide_eq_false (fun z => by cases z)
    rw [hn, if_neg (by decide)]
    show UInt64.ofNat (FP.Core.encode FP.Core.b64 (FP.Core.round FP.Core.b64 (FP.Core.decode FP.Core.b32 a.toNat))) = _
    rw [h1]
    rfl
  rw [e]
  generalize FP.Core.fieldS FP.Core.b32 a.toNat = s
  have hfin : ∃ c' q', FP.Core.roundRatio FP.Core.b64 s c 1 q = .fin s c' q' ∧ c' < 9007199254740992 ∧ -1074 ≤ q' ∧ q' ≤ 971 := by
    unfold FP.Core.roundRatio
    split
    · exact ⟨0, FP.Core.b64.qmin, rfl, by omega, by rw [dq_qmin]; omega, by rw [dq_qmin]; omega⟩
    · rename_i hc0
      have hq : -1074 ≤ FP.Core.quantum FP.Core.b64 c 1 q ∧ FP.Core.quantum FP.Core.b64 c 1 q ≤ 970 := by
        unfold FP.Core.quantum
        rw [dq_qmin]
        have := lead_le (c := c) (d := 1)
        have := log2_24 hc0 h2
        have hp : ((FP.Core.b64.p : Nat) : Int) = 53 := rfl
        rw [hp]
        omega
      unfold FP.Core.roundAt FP.Core.settle FP.Core.bound
      rw [dq_p, dq_qmax, dq_tails]
      split
      · rw [if_pos (by omega)]
        exact ⟨_, _, rfl, ‹_›, hq.1, by omega⟩
      · rw [if_pos (by omega)]
        exact ⟨_, _, rfl, by omega, by omega, by omega⟩
  obtain ⟨c', q', g1, g2, g3, g4⟩ := hfin
  rw [g1]
  have hm : ∃ m, FP.Core.encode FP.Core.b64 (.fin s c' q') = s.toNat * 9223372036854775808 + m ∧ m < 9218868437227405312 := by
    simp only [FP.Core.encode, FP.Core.assemble, dq_tails, dq_exps, dq_qmin]
    split
    · exact ⟨c', by omega, by omega⟩
    · refine ⟨((q' - (-1074)).toNat + 1) * 4503599627370496 + (c' - 4503599627370496), ?_, ?_⟩
      · rw [Nat.add_mul, Nat.mul_assoc]
        omega
      · have he : (q' - (-1074)).toNat + 1 ≤ 2046 := by omega
        generalize (q' - (-1074)).toNat + 1 = E at he
        omega
  obtain ⟨m, m1, m2⟩ := hm
  rw [m1]
  unfold dFi
  have hs : s.toNat ≤ 1 := Bool.toNat_le s
  rw [UInt64.toNat_ofNat', Nat.mod_eq_of_lt (show s.toNat * 9223372036854775808 + m < 2 ^ 64 by omega)]
  omega
/-- the mean of margins -/
theorem mean_ok {x : UInt64} (hx : dNn x) {n : Nat} (h0 : n ≠ 0) (hn : n < 256) : dNn (FP.ddiv x (FP.i2d (nI n))) := by
  have hk := chkD_tab n hn h0
  unfold chkD at hk
  split at hk
  · rename_i s c q hd
    exact dq_div hx hd (of_decide_eq_true hk)
  · cases hk
theorem Jf_bits (v : UInt32) : ∃ r, ∀ S d, Jf_floatToIntBits v S d = some r := by
  unfold Jf_floatToIntBits Jf_isNaN
  by_cases h : Op.cmpValue (FP.fcmp v v) .l = 0
  · refine ⟨UInt32.toInt32 v, fun S d => ?_⟩
    rw [if_pos h, Option.bind_some, if_neg (fun z => z rfl)]
  · refine ⟨2143289344, fun S d => ?_⟩
    rw [if_neg h, Option.bind_some, if_pos (by decide)]
theorem Jd_bits (v : UInt64) : ∃ r, ∀ S d, Jd_doubleToLongBits v S d = some r := by
  unfold Jd_doubleToLongBits Jd_isNaN
  by_cases h : Op.cmpValue (FP.dcmp v v) .l = 0
  · refine ⟨UInt64.toInt64 v, fun S d => ?_⟩
    rw [if_pos h, Option.bind_some, if_neg (fun z => z rfl)]
  · refine ⟨9221120237041090560, fun S d => ?_⟩
    rw [if_neg h, Option.bind_some, if_pos (by decide)]
theorem PL_19_Rel : PL_19 Rel := by
  intro n S1 d1 S2 d2 hn hR
  have hU := hR.up
  obtain ⟨rfl, q, hF, hN, hC⟩ := rel_at hR
  have h5 := hC.nt5
  unfold Ws_load Mo_load
  rw [hC.K, Mo_K, Option.bind_some, Option.bind_some, hC.T, Mo_isBoard_eq, Option.bind_some, Option.bind_some, hC.is, Option.bind_some]
  by_cases hb : mw d2 7 ≤ 0
  · simp only [if_pos hb, i10, eq_self, not_true_eq_false, not_false_eq_true, ↓reduceIte, Option.bind_some]
    exact ⟨_, _, rfl, rfl, hU⟩
  simp only [if_neg hb, i10, eq_self, not_true_eq_false, not_false_eq_true, ↓reduceIte, Option.bind_some]
  obtain ⟨d2', g1, g2, g3⟩ := lays_eq hC
  have hD := Kg.ce hC g2
  have hw4 : d2'.1 1 4 = nI q.nt := hD.wf.2.1.1
  have hend : Rel (n + 1) S1 d1 MoS d2' := hR.m g2.km
  rw [g1, bind2_some]
  refine loop2_FU (X := fun F (x : UInt32 × Int32) => Ws_load_h17 0 S1 d1 F x.1 x.2) (Y := fun F (x : UInt32 × Int32) => Mo_load_h18 0 MoS F x.1 x.2 d2') (Inv := fun i x y => x = y ∧ x.2 = nI i ∧ fNn x.1) (P := fun o p => ∃ a b2, o = some a ∧ p = some (a, b2) ∧ Rel (n + 1) S1 d1 MoS b2) (x := (FP.fconst0, 0)) (y := (FP.fconst0, 0)) q.nt (by omega) ⟨rfl, rfl, by unfold fNn; decide⟩ ?_ ?_
  · rintro i hi F G ⟨x1, x2⟩ ⟨y1, y2⟩ ⟨hxy, hx, hv⟩
    cases hxy
    have hx' : x2 = nI i := hx
    have hv' : fNn x1 := hv
    subst hx'
    left
    obtain ⟨p1, p2, p3⟩ := hD.per hi
    obtain ⟨l1, l2, l3⟩ := hD.lg hi
    obtain ⟨-, hf, -⟩ := hD.task hi
    have hm8 : d2'.1 8 i = nI (lgN (mw d2') i (q.nd i)) := (g3 i hi).1
    have hfp : d1.1 (q.tk i) 1 = nI (pN (mw d2') i) := (hf 1 (by omega)).trans p1
    have hq : fFi (FP.fdiv (FP.i2f (nI (lgN (mw d2') i (q.nd i)))) (FP.i2f (nI (pN (mw d2') i)))) := mg_ok (by rw [nI_toInt (by omega)]; omega) (by rw [nI_toInt (by omega)]; omega) (by rw [nI_toInt (by omega)]; omega) (by rw [nI_toInt (by omega)]; omega) (nI_ne0 (by omega) (by omega))
    have hsum := fq_add hv' hq
    show ∃ x' y' : UInt32 × Int32, Ws_load_h17 0 S1 d1 (F + 1) x1 (nI i) = _ ∧ Mo_load_h18 0 MoS (G + 1) x1 (nI i) d2' = _ ∧ _
    rw [Ws_load_h17, Mo_load_h18, hD.K, Option.bind_some, hD.tasks, Option.bind_some, if_neg (nI_ge hi (by omega)), hD.taskOf hi, Option.bind_some, hD.tK hi, Option.bind_some]
    unfold Ta_longest
    rw [hD.tK hi, Option.bind_some, show Ta_cost 8 (q.tk i) 0 1 S1 d1 = _ from hD.cost hi true, Option.bind_some, Option.bind_some, Option.bind_some, hD.tK hi, Option.bind_some, l1, hfp, gf_ok hq.n, Option.bind_some, gf_ok hsum, Option.bind_some, Mo_K, Option.bind_some, show aix MoS 50 (MoS.2.1 0 1) 4 = some (1, 4) from Mw 4 (by omega), Option.bind_some, hw4, if_neg (nI_ge hi (by omega)), MoS_R0_16, ma8 (show i < 5 by omega), Option.bind_some, Mo_period_eq hD hi, Option.bind_some, hm8, gf_ok hq.n, Option.bind_some, gf_ok hsum, Option.bind_some, nI_1]
    exact ⟨(_, nI (i + 1)), (_, nI (i + 1)), rfl, rfl, rfl, rfl, hsum⟩
  · rintro F G ⟨x1, x2⟩ ⟨y1, y2⟩ ⟨hxy, hx, hv⟩
    cases hxy
    have hx' : x2 = nI q.nt := hx
    subst hx'
    obtain ⟨r, hr⟩ := Jf_bits x1
    show ∃ a b2, Ws_load_h17 0 S1 d1 (F + 1) x1 (nI q.nt) = _ ∧ Mo_load_h18 0 MoS (G + 1) x1 (nI q.nt) d2' = _ ∧ _
    rw [Ws_load_h17, Mo_load_h18, hD.K, Option.bind_some, hD.tasks, Option.bind_some, if_pos (nI_le (Nat.le_refl _) (by omega)), hr, Option.bind_some, Mo_K, Option.bind_some, show aix MoS 50 (MoS.2.1 0 1) 4 = some (1, 4) from Mw 4 (by omega), Option.bind_some, hw4, if_pos (nI_le (Nat.le_refl _) (by omega)), hr, Option.bind_some]
    exact ⟨_, _, rfl, rfl, hend⟩
