/-! THE JDK's small methods, printed -/
set_option maxRecDepth 100000
def Jp_checkIndex (p0 : Int32) (p1 : Int32) (p2 : Option Nat) (S : Sp) (d : Dt) : Option Int32 :=
  if p0 < 0 then
    none
  else
    if p0 < p1 then
      some p0
    else
      none
set_option maxHeartbeats 4000000 in
theorem Jp_checkIndex_fn (p0 : Int32) (p1 : Int32) (p2 : Option Nat) (S : Sp) (d : Dt) : Fn yJ4_checkIndex (ws_ yJ4_checkIndex cJ4_checkIndex 3 (some .int)) 0 0 [.int p0, .int p1, va_rf p2] S d rvI Λp (Jp_checkIndex p0 p1 p2 S d) := by
  refine Fn.ofJ (own := RJ4) (lv := [(0, .int p0), (1, .int p1), (2, va_rf p2)]) (by decide +kernel) rfl (by simp [cat_i, cat_l, cat_f, cat_d, rf_cat]) (by simp [lv_args, cat_i, cat_l, cat_f, cat_d, rf_cat]) ?_
  intro X F G hRm hR hI
  unfold Jp_checkIndex
  refine JR_iload_n (pc := 0) (k := 0) (i := 0) G rfl rfl dJ4_checkIndex_0 ?_
  refine JR_if_lt (pc := 1) (tgt := 9) G dJ4_checkIndex_1 (by decide) (fun c2 => ?_) (fun c2 => ?_)
  · exact J_no
  · refine JR_iload_n (pc := 4) (k := 0) (i := 0) G rfl rfl dJ4_checkIndex_4 ?_
    refine JR_iload_n (pc := 5) (k := 1) (i := 1) G rfl rfl dJ4_checkIndex_5 ?_
    refine JR_icmp_lt (pc := 6) (tgt := 16) G dJ4_checkIndex_6 (by decide) (fun c1 => ?_) (fun c1 => ?_)
    · refine JR_iload_n (pc := 16) (k := 0) (i := 0) G rfl rfl dJ4_checkIndex_16 ?_
      exact JR_iret (pc := 17) G hR dJ4_checkIndex_17 rfl rfl
    · exact J_no

def Jo_checkIndex (p0 : Int32) (p1 : Int32) (S : Sp) (d : Dt) : Option Int32 :=
  (Jp_checkIndex p0 p1 none S d).bind fun r1 =>
  some r1
set_option maxHeartbeats 4000000 in
theorem Jo_checkIndex_fn (p0 : Int32) (p1 : Int32) (S : Sp) (d : Dt) : Fn yJ3_checkIndex (ws_ yJ3_checkIndex cJ3_checkIndex 2 (some .int)) 1 22 [.int p0, .int p1] S d rvI Λp (Jo_checkIndex p0 p1 S d) := by
  refine Fn.ofJ (own := RJ3) (lv := [(0, .int p0), (1, .int p1)]) (by decide +kernel) rfl (by simp [cat_i, cat_l, cat_f, cat_d, rf_cat]) (by simp [lv_args, cat_i, cat_l, cat_f, cat_d, rf_cat]) ?_
  intro X F G hRm hR hI
  unfold Jo_checkIndex
  refine JR_iload_n (pc := 0) (k := 0) (i := 0) G rfl rfl dJ3_checkIndex_0 ?_
  refine JR_iload_n (pc := 1) (k := 1) (i := 1) G rfl rfl dJ3_checkIndex_1 ?_
  refine JR_null (pc := 2) G dJ3_checkIndex_2 ?_
  refine JPS_I (pc := 3) (as := [.int p0, .int p1, va_rf none]) (st' := []) G (Jp_checkIndex_fn p0 p1 none S d) (JC_S (n := 3) G hRm q442 q443 q151 q444 dd_J4_checkIndex ⟨by decide, by decide⟩ dJ3_checkIndex_3 rfl (Nat.le_of_ble_eq_true rfl)) rfl (fun r1 hr1 => ?_)
  exact JR_iret (pc := 6) G hR dJ3_checkIndex_6 rfl rfl

def Ji_bitCount (p0 : Int32) (S : Sp) (d : Dt) : Option Int32 :=
  (some (p0 - ((((Int32.toUInt32 p0) >>> ((Int32.toUInt32 1) &&& Int32.toUInt32 31)).toInt32) &&& 1431655765))).bind fun x1 =>
  (some ((x1 &&& 858993459) + ((((Int32.toUInt32 x1) >>> ((Int32.toUInt32 2) &&& Int32.toUInt32 31)).toInt32) &&& 858993459))).bind fun x2 =>
  (some ((x2 + (((Int32.toUInt32 x2) >>> ((Int32.toUInt32 4) &&& Int32.toUInt32 31)).toInt32)) &&& 252645135)).bind fun x3 =>
  (some (x3 + (((Int32.toUInt32 x3) >>> ((Int32.toUInt32 8) &&& Int32.toUInt32 31)).toInt32))).bind fun x4 =>
  (some (x4 + (((Int32.toUInt32 x4) >>> ((Int32.toUInt32 16) &&& Int32.toUInt32 31)).toInt32))).bind fun x5 =>
  some (x5 &&& 63)
set_option maxHeartbeats 4000000 in
theorem Ji_bitCount_fn (p0 : Int32) (S : Sp) (d : Dt) : Fn yJ14_bitCount (ws_ yJ14_bitCount cJ14_bitCount 1 (some .int)) 0 0 [.int p0] S d rvI Λp (Ji_bitCount p0 S d) := by
  refine Fn.ofJ (own := RJ14) (lv := [(0, .int p0)]) (by decide +kernel) rfl (by simp [cat_i, cat_l, cat_f, cat_d, rf_cat]) (by simp [lv_args, cat_i, cat_l, cat_f, cat_d, rf_cat]) ?_
  intro X F G hRm hR hI
  unfold Ji_bitCount
  refine JR_iload_n (pc := 0) (k := 0) (i := 0) G rfl rfl dJ14_bitCount_0 ?_
  refine JR_iload_n (pc := 1) (k := 0) (i := 0) G rfl rfl dJ14_bitCount_1 ?_
  refine JR_iconst (pc := 2) G ci_1 dJ14_bitCount_2 ?_
  refine JR_iushr (pc := 3) G dJ14_bitCount_3 ?_
  refine JR_ldcwI (pc := 4) G q1090 dJ14_bitCount_4 ?_
  refine JR_iand (pc := 7) G dJ14_bitCount_7 ?_
  refine JR_isub (pc := 8) G dJ14_bitCount_8 ?_
  refine J_nm (fun x1 hx1 => ?_)
  refine JR_istore_n (pc := 9) (k := 0) (i := 0) (lv' := [(0, .int x1)]) G rfl (by decide) rfl dJ14_bitCount_9 ?_
  refine JR_iload_n (pc := 10) (k := 0) (i := 0) G rfl rfl dJ14_bitCount_10 ?_
  refine JR_ldcwI (pc := 11) G q1091 dJ14_bitCount_11 ?_
  refine JR_iand (pc := 14) G dJ14_bitCount_14 ?_
  refine JR_iload_n (pc := 15) (k := 0) (i := 0) G rfl rfl dJ14_bitCount_15 ?_
  refine JR_iconst (pc := 16) G ci_2 dJ14_bitCount_16 ?_
  refine JR_iushr (pc := 17) G dJ14_bitCount_17 ?_
  refine JR_ldcwI (pc := 18) G q1091 dJ14_bitCount_18 ?_
  refine JR_iand (pc := 21) G dJ14_bitCount_21 ?_
  refine JR_iadd (pc := 22) G dJ14_bitCount_22 ?_
  refine J_nm (fun x2 hx2 => ?_)
  refine JR_istore_n (pc := 23) (k := 0) (i := 0) (lv' := [(0, .int x2)]) G rfl (by decide) rfl dJ14_bitCount_23 ?_
  refine JR_iload_n (pc := 24) (k := 0) (i := 0) G rfl rfl dJ14_bitCount_24 ?_
  refine JR_iload_n (pc := 25) (k := 0) (i := 0) G rfl rfl dJ14_bitCount_25 ?_
  refine JR_iconst (pc := 26) G ci_4 dJ14_bitCount_26 ?_
  refine JR_iushr (pc := 27) G dJ14_bitCount_27 ?_
  refine JR_iadd (pc := 28) G dJ14_bitCount_28 ?_
  refine JR_ldcwI (pc := 29) G q1092 dJ14_bitCount_29 ?_
  refine JR_iand (pc := 32) G dJ14_bitCount_32 ?_
  refine J_nm (fun x3 hx3 => ?_)
  refine JR_istore_n (pc := 33) (k := 0) (i := 0) (lv' := [(0, .int x3)]) G rfl (by decide) rfl dJ14_bitCount_33 ?_
  refine JR_iload_n (pc := 34) (k := 0) (i := 0) G rfl rfl dJ14_bitCount_34 ?_
  refine JR_iload_n (pc := 35) (k := 0) (i := 0) G rfl rfl dJ14_bitCount_35 ?_
  refine JR_bipush (pc := 36) (v := 8) G (by decide) dJ14_bitCount_36 ?_
  refine JR_iushr (pc := 38) G dJ14_bitCount_38 ?_
  refine JR_iadd (pc := 39) G dJ14_bitCount_39 ?_
  refine J_nm (fun x4 hx4 => ?_)
  refine JR_istore_n (pc := 40) (k := 0) (i := 0) (lv' := [(0, .int x4)]) G rfl (by decide) rfl dJ14_bitCount_40 ?_
  refine JR_iload_n (pc := 41) (k := 0) (i := 0) G rfl rfl dJ14_bitCount_41 ?_
  refine JR_iload_n (pc := 42) (k := 0) (i := 0) G rfl rfl dJ14_bitCount_42 ?_
  refine JR_bipush (pc := 43) (v := 16) G (by decide) dJ14_bitCount_43 ?_
  refine JR_iushr (pc := 45) G dJ14_bitCount_45 ?_
  refine JR_iadd (pc := 46) G dJ14_bitCount_46 ?_
  refine J_nm (fun x5 hx5 => ?_)
  refine JR_istore_n (pc := 47) (k := 0) (i := 0) (lv' := [(0, .int x5)]) G rfl (by decide) rfl dJ14_bitCount_47 ?_
  refine JR_iload_n (pc := 48) (k := 0) (i := 0) G rfl rfl dJ14_bitCount_48 ?_
  refine JR_bipush (pc := 49) (v := 63) G (by decide) dJ14_bitCount_49 ?_
  refine JR_iand (pc := 51) G dJ14_bitCount_51 ?_
  exact JR_iret (pc := 52) G hR dJ14_bitCount_52 rfl rfl

def Jas_newLength (p0 : Int32) (p1 : Int32) (p2 : Int32) (S : Sp) (d : Dt) : Option Int32 :=
  (some (p0 + (imax p1 p2))).bind fun x1 =>
  if x1 ≤ 0 then
    none
  else
    if 2147483639 < x1 then
      none
    else
      some x1
set_option maxHeartbeats 4000000 in
theorem Jas_newLength_fn (p0 : Int32) (p1 : Int32) (p2 : Int32) (S : Sp) (d : Dt) : Fn yJ12_newLength (ws_ yJ12_newLength cJ12_newLength 4 (some .int)) 1 23 [.int p0, .int p1, .int p2] S d rvI Λp (Jas_newLength p0 p1 p2 S d) := by
  refine Fn.ofJ (own := RJ12) (lv := [(0, .int p0), (1, .int p1), (2, .int p2)]) (by decide +kernel) rfl (by simp [cat_i, cat_l, cat_f, cat_d, rf_cat]) (by simp [lv_args, cat_i, cat_l, cat_f, cat_d, rf_cat]) ?_
  intro X F G hRm hR hI
  unfold Jas_newLength
  refine JR_iload_n (pc := 0) (k := 0) (i := 0) G rfl rfl dJ12_newLength_0 ?_
  refine JR_iload_n (pc := 1) (k := 1) (i := 1) G rfl rfl dJ12_newLength_1 ?_
  refine JR_iload_n (pc := 2) (k := 2) (i := 2) G rfl rfl dJ12_newLength_2 ?_
  refine JR_max (pc := 3) G hRm q878 q879 q154 q880 ⟨by decide, by decide⟩ (Nat.le_of_ble_eq_true rfl) dJ12_newLength_3 ?_
  refine JR_iadd (pc := 6) G dJ12_newLength_6 ?_
  refine J_nm (fun x1 hx1 => ?_)
  refine JR_istore_n (pc := 7) (k := 3) (i := 3) (lv' := [(3, .int x1), (0, .int p0), (1, .int p1), (2, .int p2)]) G rfl (by decide) rfl dJ12_newLength_7 ?_
  refine JR_iconst (pc := 8) G ci_0 dJ12_newLength_8 ?_
  refine JR_iload_n (pc := 9) (k := 3) (i := 3) G rfl rfl dJ12_newLength_9 ?_
  refine JR_icmp_ge (pc := 10) (tgt := 21) G dJ12_newLength_10 (by decide) (fun c3 => ?_) (fun c3 => ?_)
  · exact J_no
  · refine JR_iload_n (pc := 13) (k := 3) (i := 3) G rfl rfl dJ12_newLength_13 ?_
    refine JR_ldcI (pc := 14) G q881 dJ12_newLength_14 ?_
    refine JR_icmp_gt (pc := 16) (tgt := 21) G dJ12_newLength_16 (by decide) (fun c2 => ?_) (fun c2 => ?_)
    · exact J_no
    · refine JR_iload_n (pc := 19) (k := 3) (i := 3) G rfl rfl dJ12_newLength_19 ?_
      exact JR_iret (pc := 20) G hR dJ12_newLength_20 rfl rfl

def Jf_isNaN (p0 : UInt32) (S : Sp) (d : Dt) : Option Int32 :=
  if (Op.cmpValue (FP.fcmp p0 p0) .l) = 0 then
    some 0
  else
    some 1
set_option maxHeartbeats 4000000 in
theorem Jf_isNaN_fn (p0 : UInt32) (S : Sp) (d : Dt) : Fn yJ15_isNaN (ws_ yJ15_isNaN cJ15_isNaN 1 (some .boolean)) 0 0 [.float p0] S d rvI Λp (Jf_isNaN p0 S d) := by
  refine Fn.ofJF (own := RJ15) (lv := [(0, .float p0)]) (by decide +kernel) rfl (by simp [cat_i, cat_l, cat_f, cat_d, rf_cat]) (by simp [lv_args, cat_i, cat_l, cat_f, cat_d, rf_cat]) ?_
  intro X F G hRm hR hI
  unfold Jf_isNaN
  refine JR_fload_n (pc := 0) (k := 0) (i := 0) G rfl rfl dJ15_isNaN_0 ?_
  refine JR_fload_n (pc := 1) (k := 0) (i := 0) G rfl rfl dJ15_isNaN_1 ?_
  refine JR_fcmp (pc := 2) G dJ15_isNaN_2 ?_
  refine JR_if_eq (pc := 3) (tgt := 10) G dJ15_isNaN_3 (by decide) (fun c1 => ?_) (fun c1 => ?_)
  · refine JR_iconst (pc := 10) G ci_0 dJ15_isNaN_10 ?_
    exact JR_zret (pc := 11) G hR dJ15_isNaN_11 (Or.inl rfl) rfl rfl
  · refine JR_iconst (pc := 6) G ci_1 dJ15_isNaN_6 ?_
    refine JR_goto (pc := 7) (tgt := 11) G dJ15_isNaN_7 (by decide) ?_
    exact JR_zret (pc := 11) G hR dJ15_isNaN_11 (Or.inr rfl) rfl rfl

def Jf_floatToIntBits (p0 : UInt32) (S : Sp) (d : Dt) : Option Int32 :=
  (Jf_isNaN p0 S d).bind fun r1 =>
  if ¬ r1 = 0 then
    some 2143289344
  else
    some (UInt32.toInt32 p0)
set_option maxHeartbeats 4000000 in
theorem Jf_floatToIntBits_fn (p0 : UInt32) (S : Sp) (d : Dt) : Fn yJ15_floatToIntBits (ws_ yJ15_floatToIntBits cJ15_floatToIntBits 1 (some .int)) 1 23 [.float p0] S d rvI Λp (Jf_floatToIntBits p0 S d) := by
  refine Fn.ofJF (own := RJ15) (lv := [(0, .float p0)]) (by decide +kernel) rfl (by simp [cat_i, cat_l, cat_f, cat_d, rf_cat]) (by simp [lv_args, cat_i, cat_l, cat_f, cat_d, rf_cat]) ?_
  intro X F G hRm hR hI
  unfold Jf_floatToIntBits
  refine JR_fload_n (pc := 0) (k := 0) (i := 0) G rfl rfl dJ15_floatToIntBits_0 ?_
  refine JPS_I (pc := 1) (as := [.float p0]) (st' := []) G (Jf_isNaN_fn p0 S d) (JC_S (n := 1) G hRm q1136 q1137 q169 q1138 dd_J15_isNaN ⟨by decide, by decide⟩ dJ15_floatToIntBits_1 rfl (Nat.le_of_ble_eq_true rfl)) rfl (fun r1 hr1 => ?_)
  refine JR_if_ne (pc := 4) (tgt := 12) G dJ15_floatToIntBits_4 (by decide) (fun c2 => ?_) (fun c2 => ?_)
  · refine JR_ldcI (pc := 12) G q1142 dJ15_floatToIntBits_12 ?_
    exact JR_iret (pc := 14) G hR dJ15_floatToIntBits_14 rfl rfl
  · refine JR_fload_n (pc := 7) (k := 0) (i := 0) G rfl rfl dJ15_floatToIntBits_7 ?_
    refine JR_fraw (pc := 8) G hRm q1139 q1141 q1140 q169 ⟨by decide, by decide⟩ (Nat.le_of_ble_eq_true rfl) dJ15_floatToIntBits_8 ?_
    exact JR_iret (pc := 11) G hR dJ15_floatToIntBits_11 rfl rfl

def Jd_isNaN (p0 : UInt64) (S : Sp) (d : Dt) : Option Int32 :=
  if (Op.cmpValue (FP.dcmp p0 p0) .l) = 0 then
    some 0
  else
    some 1
set_option maxHeartbeats 4000000 in
theorem Jd_isNaN_fn (p0 : UInt64) (S : Sp) (d : Dt) : Fn yJ16_isNaN (ws_ yJ16_isNaN cJ16_isNaN 2 (some .boolean)) 0 0 [.double p0] S d rvI Λp (Jd_isNaN p0 S d) := by
  refine Fn.ofJ (own := RJ16) (lv := [(0, .double p0)]) (by decide +kernel) rfl (by simp [cat_i, cat_l, cat_f, cat_d, rf_cat]) (by simp [lv_args, cat_i, cat_l, cat_f, cat_d, rf_cat]) ?_
  intro X F G hRm hR hI
  unfold Jd_isNaN
  refine JR_dload_n (pc := 0) (k := 0) (i := 0) G rfl rfl dJ16_isNaN_0 ?_
  refine JR_dload_n (pc := 1) (k := 0) (i := 0) G rfl rfl dJ16_isNaN_1 ?_
  refine JR_dcmp (pc := 2) G dJ16_isNaN_2 ?_
  refine JR_if_eq (pc := 3) (tgt := 10) G dJ16_isNaN_3 (by decide) (fun c1 => ?_) (fun c1 => ?_)
  · refine JR_iconst (pc := 10) G ci_0 dJ16_isNaN_10 ?_
    exact JR_zret (pc := 11) G hR dJ16_isNaN_11 (Or.inl rfl) rfl rfl
  · refine JR_iconst (pc := 6) G ci_1 dJ16_isNaN_6 ?_
    refine JR_goto (pc := 7) (tgt := 11) G dJ16_isNaN_7 (by decide) ?_
    exact JR_zret (pc := 11) G hR dJ16_isNaN_11 (Or.inr rfl) rfl rfl

def Jd_doubleToLongBits (p0 : UInt64) (S : Sp) (d : Dt) : Option Int64 :=
  (Jd_isNaN p0 S d).bind fun r1 =>
  if ¬ r1 = 0 then
    some 9221120237041090560
  else
    some (UInt64.toInt64 p0)
set_option maxHeartbeats 4000000 in
theorem Jd_doubleToLongBits_fn (p0 : UInt64) (S : Sp) (d : Dt) : Fn yJ16_doubleToLongBits (ws_ yJ16_doubleToLongBits cJ16_doubleToLongBits 2 (some .long)) 1 23 [.double p0] S d rvL Λp (Jd_doubleToLongBits p0 S d) := by
  refine Fn.ofJ (own := RJ16) (lv := [(0, .double p0)]) (by decide +kernel) rfl (by simp [cat_i, cat_l, cat_f, cat_d, rf_cat]) (by simp [lv_args, cat_i, cat_l, cat_f, cat_d, rf_cat]) ?_
  intro X F G hRm hR hI
  unfold Jd_doubleToLongBits
  refine JR_dload_n (pc := 0) (k := 0) (i := 0) G rfl rfl dJ16_doubleToLongBits_0 ?_
  refine JPS_I (pc := 1) (as := [.double p0]) (st' := []) G (Jd_isNaN_fn p0 S d) (JC_S (n := 1) G hRm q1369 q1370 q171 q1371 dd_J16_isNaN ⟨by decide, by decide⟩ dJ16_doubleToLongBits_1 rfl (Nat.le_of_ble_eq_true rfl)) rfl (fun r1 hr1 => ?_)
  refine JR_if_ne (pc := 4) (tgt := 12) G dJ16_doubleToLongBits_4 (by decide) (fun c2 => ?_) (fun c2 => ?_)
  · refine JR_ldc2 (pc := 12) G q1375 dJ16_doubleToLongBits_12 ?_
    exact JR_lret (pc := 15) G hR dJ16_doubleToLongBits_15 rfl rfl
  · refine JR_dload_n (pc := 7) (k := 0) (i := 0) G rfl rfl dJ16_doubleToLongBits_7 ?_
    refine JR_draw (pc := 8) G hRm q1372 q1374 q1373 q171 ⟨by decide, by decide⟩ (Nat.le_of_ble_eq_true rfl) dJ16_doubleToLongBits_8 ?_
    exact JR_lret (pc := 11) G hR dJ16_doubleToLongBits_11 rfl rfl
