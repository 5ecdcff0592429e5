/-! THE PLAIN LAW: the relation -/
set_option maxRecDepth 100000
/-- the number of a byte -/
abbrev ByteR (x : Int32) : Prop := -128 ≤ x.toInt ∧ x.toInt ≤ 127
theorem byteR_nar (x : Int32) : ByteR (vp_nar .byte x) := by
  rw [vp_nar_byte]
  unfold ByteR
  rw [Int8.toInt_toInt32]
  have h1 := Int8.le_toInt x.toInt8
  have h2 := Int8.toInt_lt x.toInt8
  omega
/-- a Told's places: itself, the tasks' list, its array, that array's length, the injections' list, its array, that array's length, the row over; the tasks' and injections' objects; how many watchers, tasks, injections, acts; the tasks' nodes -/
abbrev TdP : Type := (Nat × Nat × Nat × Nat × Nat × Nat × Nat × Nat) × (Nat → Nat) × (Nat → Nat) × (Nat × Nat × Nat × Nat) × (Nat → Nat)
def TdOk (S : Sp) (d : Dt) (w : Nat → Int32) (q : TdP) : Prop :=
  ToldT S d w q.1.1 q.2.2.2.1.1 q.2.2.2.1.2.1 q.2.2.2.1.2.2.1 q.2.2.2.1.2.2.2 q.2.2.2.2 q.1.2.1 q.1.2.2.1 q.1.2.2.2.1 q.1.2.2.2.2.1 q.1.2.2.2.2.2.1 q.1.2.2.2.2.2.2.1 q.1.2.2.2.2.2.2.2 q.2.1 q.2.2.1
/-- what is fixed in the component's memory -/
def WsFix (S : Sp) : Prop := (∀ i, i < 35 → S.1[i]? = WsL[i]?) ∧ (∀ k, k < 36 → k ≠ 0 → S.2.1 0 k = WsS.2.1 0 k) ∧ (∀ j, j < 4 → S.2.1 11 j = some (12 + j)) ∧ (∀ a, a < 4 → ∀ k, k ≤ a → S.2.1 (12 + a) k = some 0) ∧ ∀ t, t < 5 → S.2.1 16 t = some (30 + t)
/-- the injections' list of q is none of r's lists -/
def TdSep (q r : TdP) : Prop := q.1.2.2.2.2.1 ≠ r.1.2.1 ∧ q.1.2.2.2.2.1 ≠ r.1.2.2.2.2.1 ∧ q.1.2.2.2.2.2.1 ≠ r.1.2.2.1 ∧ q.1.2.2.2.2.2.1 ≠ r.1.2.2.2.2.2.1 ∧ r.2.2.2.1.2.2.2 ≤ 10
def RelN (S : Sp) (d1 d2 : Dt) (q : TdP) : Prop :=
  S.2.1 0 0 = some q.1.1 ∧ TdOk S d1 (mw d2) q ∧ (q.1.2.2.2.2.1 ≠ q.1.2.1 ∧ q.1.2.2.2.2.2.1 ≠ q.1.2.2.1 ∧ q.2.2.2.1.2.2.2 ≤ 10) ∧
  (∀ k, k < 3 → (d2.1 3 k = 0 ∧ S.2.1 7 k = none) ∨ (d2.1 3 k = 1 ∧ ∃ r, S.2.1 7 k = some r.1.1 ∧ TdOk S d1 (fun i => d2.1 2 (201 * k + i)) r ∧ TdSep q r)) ∧
  (∃ tp, tp ≤ 1000 ∧ d1.1 0 3 = nI tp ∧ d2.1 0 5 = nI tp) ∧ (∀ i, i < 1000 → d1.1 8 i = d2.1 4 i ∧ ByteR (d2.1 4 i)) ∧ d1.1 0 4 = d2.1 0 12 ∧ d1.1 0 5 = d2.1 0 13 ∧ d1.1 0 6 = -1 ∧
  ∀ t, t < q.2.2.2.1.2.1 → d1.1 25 t = mw d2 (11 + 7 * t + 2) ∧ d1.1 26 t = mw d2 (11 + 7 * t + 3)
def Rel (n : Nat) (S1 : Sp) (d1 : Dt) (S2 : Sp) (d2 : Dt) : Prop :=
  S2 = MoS ∧ WsFix S1 ∧ (S1.2.2.1 ≤ 35 + 17000 * n ∧ S1.2.2.2 ≤ 13506 + 76000 * n ∧ S1.1.length ≤ S1.2.2.1) ∧ ∃ q, RelN S1 d1 d2 q
theorem PLm_Rel : PLm Rel := by
  intro n S1 d1 S2 d2 h
  obtain ⟨h1, h2, ⟨h3, h4, h5⟩, h7⟩ := h
  exact ⟨h1, h2, ⟨by omega, by omega, h5⟩, h7⟩
theorem PLo_Rel : PLo Rel := by
  intro n S1 d1 S2 d2 hn h
  obtain ⟨rfl, h2, ⟨h3, h4, h5⟩, h7⟩ := h
  have e := MoS_c
  have e1 : MoS.2.2.1 = 42 := by rw [e]
  have e2 : MoS.2.2.2 = 19740 := by rw [e]
  have e3 : MoS.1.length = 42 := by rw [MoS_sh]; rfl
  refine ⟨isK_of (n := 0) (by rw [h2.1 0 (by omega)]; rfl), Mo_K, ?_, ?_, ?_, ?_⟩
  · have : S1.1.length ≤ 35 + 17000 * 64 := by omega
    exact Nat.le_trans this (by decide)
  · rw [e3]; decide
  · rw [e1]; omega
  · rw [e2]; omega
def q0 : TdP := ((1, 2, 3, 5, 4, 5, 18, 6), (fun _ => 0), (fun _ => 0), (0, 0, 0, 0), fun _ => 0)
theorem i_w : ∀ i, i < 201 → mw MoD i = 0 := by decide +kernel
theorem i_tape : ∀ i, i < 1000 → WsD.1 8 i = MoD.1 4 i ∧ ByteR (MoD.1 4 i) := by decide +kernel
theorem i_img : ∀ k, k < 3 → MoD.1 3 k = 0 ∧ WsS.2.1 7 k = none := by decide +kernel
theorem i_fld : WsD.1 0 3 = nI 0 ∧ MoD.1 0 5 = nI 0 ∧ WsD.1 0 4 = MoD.1 0 12 ∧ WsD.1 0 5 = MoD.1 0 13 ∧ WsD.1 0 6 = -1 := by decide +kernel
theorem i_told : WsD.1 1 3 = 0 ∧ WsD.1 1 4 = 0 ∧ WsD.1 1 5 = 0 ∧ WsD.1 1 6 = 0 ∧ WsD.1 1 7 = 0 ∧ WsD.1 1 8 = 0 ∧ WsD.1 2 2 = nI 0 ∧ WsD.1 4 2 = nI 0 := by decide +kernel
theorem i_lst : (∀ i, i < 5 → WsS.2.1 3 i = none) ∧ ∀ i, i < 18 → WsS.2.1 5 i = none := by decide +kernel
theorem i_fix : WsFix WsS := by
  refine ⟨fun i hi => by rw [WsS_sh], fun k _ _ => rfl, ?_, ?_, ?_⟩
  · decide +kernel
  · decide +kernel
  · decide +kernel
theorem i_sh {i : Nat} {sh : Nat × Nat} (h : WsL[i]? = some sh) : WsS.1[i]? = some sh := by rw [WsS_sh]; exact h
theorem PLi_Rel : PLi Rel := by
  obtain ⟨t1, t2, t3, t4, t5, t6, t7, t8⟩ := i_told
  obtain ⟨f1, f2, f3, f4, f5⟩ := i_fld
  refine ⟨WsS, WsD, MoS, MoD, WsI_eq, MoI_eq, rfl, i_fix, ?_, q0, WsS_R0_0, ?_, ⟨by decide, by decide⟩, fun k hk => Or.inl (i_img k hk), ⟨0, by decide, f1, f2⟩, i_tape, f3, f4, f5, fun t ht => absurd ht (Nat.not_lt_zero _)⟩
  · have e := WsS_c
    have e1 : WsS.2.2.1 = 35 := by rw [e]
    have e2 : WsS.2.2.2 = 13506 := by rw [e]
    have e3 : WsS.1.length = 35 := by rw [WsS_sh]; rfl
    omega
  · refine ⟨i_sh rfl, WsS_R1_0, WsS_R1_1, WsS_R1_2, ⟨i_sh rfl, by decide, by decide⟩, ⟨i_sh rfl, WsS_R2_1, i_sh rfl, t7, by decide, fun i hi => absurd hi (Nat.not_lt_zero _), fun i hi _ => i_lst.1 i hi⟩, ⟨i_sh rfl, WsS_R4_1, i_sh rfl, t8, by decide, fun i hi => absurd hi (Nat.not_lt_zero _), fun i hi _ => i_lst.2 i hi⟩, by decide, by decide, fun t ht => absurd ht (Nat.not_lt_zero _), fun t ht => absurd ht (Nat.not_lt_zero _), fun t ht => absurd ht (Nat.not_lt_zero _), ?_⟩
    refine ⟨t1.trans (i_w 0 (by decide)).symm, t2.trans (i_w 1 (by decide)).symm, t3.trans (i_w 2 (by decide)).symm, t4.trans (i_w 3 (by decide)).symm, t5.trans (i_w 5 (by decide)).symm, t6.trans (i_w 7 (by decide)).symm, ⟨i_w 3 (by decide), by decide⟩, ⟨i_w 4 (by decide), by decide⟩, ⟨i_w 5 (by decide), i_w 6 (by decide), by decide, by decide, by decide⟩, ⟨0, 0, 0, 0, i_w 0 (by decide), by decide, i_w 1 (by decide), by decide, i_w 2 (by decide), by decide, i_w 7 (by decide), by decide, fun h => absurd h (by decide), fun _ => ⟨rfl, rfl, rfl⟩⟩, fun v hv => absurd hv (Nat.not_lt_zero _), fun v hv => absurd hv (Nat.not_lt_zero _), fun v hv => absurd hv (Nat.not_lt_zero _)⟩
