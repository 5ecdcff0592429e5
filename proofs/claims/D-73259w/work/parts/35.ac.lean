/-! THE COMPONENT, printed: what the rungs reach -/
set_option maxRecDepth 100000
def Jl_elementData (this : Nat) (p1 : Int32) (S : Sp) (d : Dt) : Option (Option Nat) :=
  (isK S 16 (some this)).bind fun z1 =>
  (aix S 58 (S.2.1 z1 1) p1).bind fun q2 =>
  some (S.2.1 q2.1 q2.2)
set_option maxHeartbeats 4000000 in
theorem Jl_elementData_fn (this : Nat) (p1 : Int32) (S : Sp) (d : Dt) : Fn yJ2_elementData (ws_ yJ2_elementData cJ2_elementData 2 (some (.object "java/lang/Object"))) 0 0 [va_rf (some this), .int p1] S d rvR Λp (Jl_elementData this p1 S d) := by
  refine Fn.ofJ (own := RJ2) (lv := [(0, va_rf (some this)), (1, .int p1)]) (by decide +kernel) rfl (by simp [cat_i, cat_l, cat_f, cat_d, rf_cat]) (by simp [lv_args, cat_i, cat_l, cat_f, cat_d, rf_cat]) ?_
  intro X F G hRm hR hI
  unfold Jl_elementData
  refine JR_aload_n (pc := 0) (k := 0) (i := 0) (o := some this) G rfl rfl dJ2_elementData_0 ?_
  refine J_bd (fun z1 hz1 => ?_)
  refine JR_gR (pc := 1) (k := 1) G cl_J2 in_J2 (by decide) (by decide) rfl (Or.inl rfl) q204 hz1 dJ2_elementData_1 ?_
  refine JR_iload_n (pc := 4) (k := 1) (i := 1) G rfl rfl dJ2_elementData_4 ?_
  refine J_bd (fun q2 hq2 => ?_)
  refine JR_aaload (pc := 5) (t := 8) G (by decide) rfl hq2 dJ2_elementData_5 ?_
  exact JR_aret (pc := 6) G hR ⟨_, rfl, Or.inl ⟨_, rfl⟩⟩ dJ2_elementData_6 rfl rfl

def Jl_get (this : Nat) (p1 : Int32) (S : Sp) (d : Dt) : Option (Option Nat) :=
  (isK S 16 (some this)).bind fun z1 =>
  (Jo_checkIndex p1 (d.1 z1 2) S d).bind fun r2 =>
  (Jl_elementData this p1 S d).bind fun r3 =>
  some r3
set_option maxHeartbeats 4000000 in
theorem Jl_get_fn (this : Nat) (p1 : Int32) (S : Sp) (d : Dt) : Fn yJ2_get (ws_ yJ2_get cJ2_get 2 (some (.object "java/lang/Object"))) 2 43 [va_rf (some this), .int p1] S d rvR Λp (Jl_get this p1 S d) := by
  refine Fn.ofJ (own := RJ2) (lv := [(0, va_rf (some this)), (1, .int p1)]) (by decide +kernel) rfl (by simp [cat_i, cat_l, cat_f, cat_d, rf_cat]) (by simp [lv_args, cat_i, cat_l, cat_f, cat_d, rf_cat]) ?_
  intro X F G hRm hR hI
  unfold Jl_get
  refine JR_iload_n (pc := 0) (k := 1) (i := 1) G rfl rfl dJ2_get_0 ?_
  refine JR_aload_n (pc := 1) (k := 0) (i := 0) (o := some this) G rfl rfl dJ2_get_1 ?_
  refine J_bd (fun z1 hz1 => ?_)
  refine JR_gI (pc := 2) (k := 2) G cl_J2 in_J2 (by decide) (by decide) rfl (Or.inl rfl) q205 hz1 dJ2_get_2 ?_
  refine JPS_I (pc := 5) (as := [.int p1, .int (d.1 z1 2)]) (st' := []) G (Jo_checkIndex_fn p1 (d.1 z1 2) S d) (JC_S (n := 2) G hRm q439 q440 q150 q441 dd_J3_checkIndex ⟨by decide, by decide⟩ dJ2_get_5 rfl (Nat.le_of_ble_eq_true rfl)) rfl (fun r2 hr2 => ?_)
  refine JR_pop (pc := 8) G rfl dJ2_get_8 ?_
  refine JR_aload_n (pc := 9) (k := 0) (i := 0) (o := some this) G rfl rfl dJ2_get_9 ?_
  refine JR_iload_n (pc := 10) (k := 1) (i := 1) G rfl rfl dJ2_get_10 ?_
  refine JPV_R (pc := 11) (as := [.int p1]) (st' := []) (o := some this) G (Jl_elementData_fn this p1 S d) (JC_V (n := 1) G hRm cl_J2 q445 q446 q447 q141 q448 ⟨rfl, dd_J2_elementData⟩ ⟨by decide, by decide⟩ dJ2_get_11 hz1 rfl (Nat.le_of_ble_eq_true rfl)) rfl (fun r3 hr3 => ?_)
  exact JR_aret (pc := 14) G hR ⟨_, rfl, Or.inl ⟨_, rfl⟩⟩ dJ2_get_14 rfl rfl

def Ws_taskOf (this : Nat) (p1 : Int32) (S : Sp) (d : Dt) : Option (Option Nat) :=
  (isK S 0 (some this)).bind fun z1 =>
  (isK S 1 (S.2.1 z1 0)).bind fun z2 =>
  (isK S 16 (S.2.1 z2 0)).bind fun z3 =>
  (Jl_get z3 p1 S d).bind fun r4 =>
  (isK S 12 r4).bind fun z5 =>
  some (some z5)
set_option maxHeartbeats 4000000 in
theorem Ws_taskOf_fn (this : Nat) (p1 : Int32) (S : Sp) (d : Dt) : Fn yX0_taskOf (ws_ yX0_taskOf cX0_taskOf 2 (some (.object "WatchStack$Task"))) 3 64 [va_rf (some this), .int p1] S d rvR Λp (Ws_taskOf this p1 S d) := by
  refine Fn.ofJ (own := RX0) (lv := [(0, va_rf (some this)), (1, .int p1)]) (by decide +kernel) rfl (by simp [cat_i, cat_l, cat_f, cat_d, rf_cat]) (by simp [lv_args, cat_i, cat_l, cat_f, cat_d, rf_cat]) ?_
  intro X F G hRm hR hI
  unfold Ws_taskOf
  refine JR_aload_n (pc := 0) (k := 0) (i := 0) (o := some this) G rfl rfl dX0_taskOf_0 ?_
  refine J_bd (fun z1 hz1 => ?_)
  refine JR_gR (pc := 1) (k := 0) G cl_X0 in_X0 (by decide) (by decide) rfl (Or.inl rfl) q451 hz1 dX0_taskOf_1 ?_
  refine J_bd (fun z2 hz2 => ?_)
  refine JR_gRN (pc := 4) (k := 0) G cl_X1 in_X1 (by decide) (by decide) rfl (Or.inl rfl) q217 hz2 dX0_taskOf_4 ?_
  refine JR_iload_n (pc := 7) (k := 1) (i := 1) G rfl rfl dX0_taskOf_7 ?_
  refine J_bd (fun z3 hz3 => ?_)
  refine J_stk (st' := [.int p1, va_rf (some z3)]) (by rw [(isK_at hz3).1]) ?_
  refine JPV_R (pc := 8) (as := [.int p1]) (st' := []) (o := some z3) G (Jl_get_fn z3 p1 S d) (JC_V (n := 1) G hRm cl_J2 q435 q436 q437 q141 q438 ⟨rfl, dd_J2_get⟩ ⟨by decide, by decide⟩ dX0_taskOf_8 (isK_s hz3) rfl (Nat.le_of_ble_eq_true rfl)) rfl (fun r4 hr4 => ?_)
  refine J_bd (fun z5 hz5 => ?_)
  refine JR_castE (pc := 11) G cl_X13 q449 hz5 dX0_taskOf_11 ?_
  exact JR_aret (pc := 14) G hR ⟨_, rfl, Or.inl ⟨_, rfl⟩⟩ dX0_taskOf_14 rfl rfl

def Li_begins (this : Nat) (p1 : Int32) (S : Sp) (d : Dt) : Option (Unit × Dt) :=
  (isK S 8 (some this)).bind fun z1 =>
  (some (dI d z1 0 0)).bind fun d2 =>
  (some (dI d2 z1 1 1)).bind fun d3 =>
  (some (dI d3 z1 5 p1)).bind fun d4 =>
  (some (dI d4 z1 6 (p1 - 1))).bind fun d5 =>
  (some (dI d5 z1 8 1)).bind fun d6 =>
  some ((), d6)
set_option maxHeartbeats 4000000 in
theorem Li_begins_fn (this : Nat) (p1 : Int32) (S : Sp) (d : Dt) : Fn yX9_begins (ws_ yX9_begins cX9_begins 2 none) 0 0 [va_rf (some this), .int p1] S d rvU Λw (Li_begins this p1 S d) := by
  refine Fn.ofJ (own := RX9) (lv := [(0, va_rf (some this)), (1, .int p1)]) (by decide +kernel) rfl (by simp [cat_i, cat_l, cat_f, cat_d, rf_cat]) (by simp [lv_args, cat_i, cat_l, cat_f, cat_d, rf_cat]) ?_
  intro X F G hRm hR hI
  unfold Li_begins
  refine JR_aload_n (pc := 0) (k := 0) (i := 0) (o := some this) G rfl rfl dX9_begins_0 ?_
  refine JR_iconst (pc := 1) G ci_0 dX9_begins_1 ?_
  refine J_bd (fun z1 hz1 => ?_)
  refine JW_pI (pc := 2) (k := 0) G cl_X9 in_X9 tyX9_ok nmX9 (by decide) (by decide) rfl (Or.inl rfl) rfl q338 rfl rfl hz1 (fun _ => rfl) dX9_begins_2 ?_
  refine J_nmD (fun d2 hd2 => ?_)
  refine JR_aload_n (pc := 5) (k := 0) (i := 0) (o := some this) G rfl rfl dX9_begins_5 ?_
  refine JR_iconst (pc := 6) G ci_1 dX9_begins_6 ?_
  refine JW_pI (pc := 7) (k := 1) G cl_X9 in_X9 tyX9_ok nmX9 (by decide) (by decide) rfl (Or.inl rfl) rfl q340 rfl rfl hz1 (fun _ => rfl) dX9_begins_7 ?_
  refine J_nmD (fun d3 hd3 => ?_)
  refine JR_aload_n (pc := 10) (k := 0) (i := 0) (o := some this) G rfl rfl dX9_begins_10 ?_
  refine JR_iload_n (pc := 11) (k := 1) (i := 1) G rfl rfl dX9_begins_11 ?_
  refine JW_pI (pc := 12) (k := 5) G cl_X9 in_X9 tyX9_ok nmX9 (by decide) (by decide) rfl (Or.inl rfl) rfl q348 rfl rfl hz1 (fun _ => rfl) dX9_begins_12 ?_
  refine J_nmD (fun d4 hd4 => ?_)
  refine JR_aload_n (pc := 15) (k := 0) (i := 0) (o := some this) G rfl rfl dX9_begins_15 ?_
  refine JR_iload_n (pc := 16) (k := 1) (i := 1) G rfl rfl dX9_begins_16 ?_
  refine JR_iconst (pc := 17) G ci_1 dX9_begins_17 ?_
  refine JR_isub (pc := 18) G dX9_begins_18 ?_
  refine JW_pI (pc := 19) (k := 6) G cl_X9 in_X9 tyX9_ok nmX9 (by decide) (by decide) rfl (Or.inl rfl) rfl q350 rfl rfl hz1 (fun _ => rfl) dX9_begins_19 ?_
  refine J_nmD (fun d5 hd5 => ?_)
  refine JR_aload_n (pc := 22) (k := 0) (i := 0) (o := some this) G rfl rfl dX9_begins_22 ?_
  refine JR_iconst (pc := 23) G ci_1 dX9_begins_23 ?_
  refine JW_pI (pc := 24) (k := 8) G cl_X9 in_X9 tyX9_ok nmX9 (by decide) (by decide) rfl (Or.inl rfl) rfl q354 rfl rfl hz1 (fun _ => rfl) dX9_begins_24 ?_
  refine J_nmD (fun d6 hd6 => ?_)
  exact JR_vret (pc := 27) G hR dX9_begins_27 rfl rfl

def Ru_restarts (this : Nat) (p1 : Int32) (S : Sp) (d : Dt) : Option (Unit × Dt) :=
  (isRg S 2 (some this)).bind fun z1 =>
  (isK S 0 (S.2.1 z1 0)).bind fun z2 =>
  (aix S 57 (S.2.1 z2 12) p1).bind fun q3 =>
  (Ws_taskOf z2 p1 S d).bind fun r4 =>
  (isK S 12 r4).bind fun z5 =>
  (gz (d.1 z5 1)).bind fun u6 =>
  (Ws_taskOf z2 p1 S d).bind fun r7 =>
  (isK S 12 r7).bind fun z8 =>
  (isK S 8 (S.2.1 q3.1 q3.2)).bind fun z9 =>
  bind2 (Li_begins z9 ((((d.1 z2 25) / (d.1 z5 1)) + 1) * (d.1 z8 1)) S d) fun _ d10 =>
  some ((), d10)
set_option maxHeartbeats 4000000 in
theorem Ru_restarts_fn (this : Nat) (p1 : Int32) (S : Sp) (d : Dt) : Fn yX2_restarts (ws_ yX2_restarts cX2_restarts 2 none) 4 85 [va_rf (some this), .int p1] S d rvU Λw (Ru_restarts this p1 S d) := by
  refine Fn.ofJ (own := RX2) (lv := [(0, va_rf (some this)), (1, .int p1)]) (by decide +kernel) rfl (by simp [cat_i, cat_l, cat_f, cat_d, rf_cat]) (by simp [lv_args, cat_i, cat_l, cat_f, cat_d, rf_cat]) ?_
  intro X F G hRm hR hI
  unfold Ru_restarts
  refine JR_aload_n (pc := 0) (k := 0) (i := 0) (o := some this) G rfl rfl dX2_restarts_0 ?_
  refine J_bd (fun z1 hz1 => ?_)
  refine JR_g2 (pc := 1) G q272 hz1 dX2_restarts_1 ?_
  refine J_bd (fun z2 hz2 => ?_)
  refine JR_gRN (pc := 4) (k := 12) G cl_X0 in_X0 (by decide) (by decide) rfl (Or.inl rfl) q463 hz2 dX2_restarts_4 ?_
  refine JR_iload_n (pc := 7) (k := 1) (i := 1) G rfl rfl dX2_restarts_7 ?_
  refine J_bd (fun q3 hq3 => ?_)
  refine JR_aaload (pc := 8) (t := 7) G (by decide) rfl hq3 dX2_restarts_8 ?_
  refine JR_aload_n (pc := 9) (k := 0) (i := 0) (o := some this) G rfl rfl dX2_restarts_9 ?_
  refine JR_g2 (pc := 10) G q272 hz1 dX2_restarts_10 ?_
  refine JR_gIN (pc := 13) (k := 25) G cl_X0 in_X0 (by decide) (by decide) rfl (Or.inl rfl) q480 hz2 dX2_restarts_13 ?_
  refine JR_aload_n (pc := 16) (k := 0) (i := 0) (o := some this) G rfl rfl dX2_restarts_16 ?_
  refine JR_g2 (pc := 17) G q272 hz1 dX2_restarts_17 ?_
  refine JR_iload_n (pc := 20) (k := 1) (i := 1) G rfl rfl dX2_restarts_20 ?_
  refine J_stk (st' := [.int p1, va_rf (some z2), .int (d.1 z2 25), va_rf (S.2.1 q3.1 q3.2)]) (by rw [(isK_at hz2).1]) ?_
  refine JPV_R (pc := 21) (as := [.int p1]) (st' := [.int (d.1 z2 25), va_rf (S.2.1 q3.1 q3.2)]) (o := some z2) G (Ws_taskOf_fn z2 p1 S d) (JC_VN (n := 1) G hRm cl_X0 q1237 q433 qs2 q137 q434 dd_X0_taskOf ⟨by decide, by decide⟩ dX2_restarts_21 (isK_s hz2) rfl (Nat.le_of_ble_eq_true rfl)) rfl (fun r4 hr4 => ?_)
  refine J_bd (fun z5 hz5 => ?_)
  refine JR_gIN (pc := 24) (k := 1) G cl_X13 in_X13 (by decide) (by decide) rfl (Or.inl rfl) q821 hz5 dX2_restarts_24 ?_
  refine J_bd (fun u6 hu6 => ?_)
  refine JR_idiv (pc := 27) G (gz_at hu6) dX2_restarts_27 ?_
  refine JR_iconst (pc := 28) G ci_1 dX2_restarts_28 ?_
  refine JR_iadd (pc := 29) G dX2_restarts_29 ?_
  refine JR_aload_n (pc := 30) (k := 0) (i := 0) (o := some this) G rfl rfl dX2_restarts_30 ?_
  refine JR_g2 (pc := 31) G q272 hz1 dX2_restarts_31 ?_
  refine JR_iload_n (pc := 34) (k := 1) (i := 1) G rfl rfl dX2_restarts_34 ?_
  refine J_stk (st' := [.int p1, va_rf (some z2), .int (((d.1 z2 25) / (d.1 z5 1)) + 1), va_rf (S.2.1 q3.1 q3.2)]) (by rw [(isK_at hz2).1]) ?_
  refine JPV_R (pc := 35) (as := [.int p1]) (st' := [.int (((d.1 z2 25) / (d.1 z5 1)) + 1), va_rf (S.2.1 q3.1 q3.2)]) (o := some z2) G (Ws_taskOf_fn z2 p1 S d) (JC_VN (n := 1) G hRm cl_X0 q1237 q433 qs2 q137 q434 dd_X0_taskOf ⟨by decide, by decide⟩ dX2_restarts_35 (isK_s hz2) rfl (Nat.le_of_ble_eq_true rfl)) rfl (fun r7 hr7 => ?_)
  refine J_bd (fun z8 hz8 => ?_)
  refine JR_gIN (pc := 38) (k := 1) G cl_X13 in_X13 (by decide) (by decide) rfl (Or.inl rfl) q821 hz8 dX2_restarts_38 ?_
  refine JR_imul (pc := 41) G dX2_restarts_41 ?_
  refine J_bd (fun z9 hz9 => ?_)
  refine J_stk (st' := [.int ((((d.1 z2 25) / (d.1 z5 1)) + 1) * (d.1 z8 1)), va_rf (some z9)]) (by rw [(isK_at hz9).1]) ?_
  refine JQV_U (pc := 42) (as := [.int ((((d.1 z2 25) / (d.1 z5 1)) + 1) * (d.1 z8 1))]) (st' := []) (o := some z9) G (Li_begins_fn z9 ((((d.1 z2 25) / (d.1 z5 1)) + 1) * (d.1 z8 1)) S d) (JC_V (n := 1) G hRm cl_X9 q1238 q1156 q1157 q149 q1158 ⟨rfl, dd_X9_begins⟩ ⟨by decide, by decide⟩ dX2_restarts_42 (isK_s hz9) rfl (Nat.le_of_ble_eq_true rfl)) rfl (fun _ _ => rfl) (fun _ d10 hd10 => ?_)
  exact JR_vret (pc := 45) G hR dX2_restarts_45 rfl rfl

def Ru_acts (this : Nat) (p1 : Int32) (p2 : Int32) (S : Sp) (d : Dt) : Option (Unit × Dt) :=
  (isRg S 2 (some this)).bind fun z1 =>
  bind2 (Ru_restarts this p1 S d) fun _ d2 =>
  some ((), d2)
set_option maxHeartbeats 4000000 in
theorem Ru_acts_fn (this : Nat) (p1 : Int32) (p2 : Int32) (S : Sp) (d : Dt) : Fn yX2_acts (ws_ yX2_acts cX2_acts 3 none) 5 106 [va_rf (some this), .int p1, .int p2] S d rvU Λw (Ru_acts this p1 p2 S d) := by
  refine Fn.ofJ (own := RX2) (lv := [(0, va_rf (some this)), (1, .int p1), (2, .int p2)]) (by decide +kernel) rfl (by simp [cat_i, cat_l, cat_f, cat_d, rf_cat]) (by simp [lv_args, cat_i, cat_l, cat_f, cat_d, rf_cat]) ?_
  intro X F G hRm hR hI
  unfold Ru_acts
  refine JR_aload_n (pc := 0) (k := 0) (i := 0) (o := some this) G rfl rfl dX2_acts_0 ?_
  refine JR_iload_n (pc := 1) (k := 1) (i := 1) G rfl rfl dX2_acts_1 ?_
  refine J_bd (fun z1 hz1 => ?_)
  refine JQV_U (pc := 2) (as := [.int p1]) (st' := []) (o := some this) G (Ru_restarts_fn this p1 S d) (JC_res G hRm q1229 ⟨by decide, by decide⟩ dX2_acts_2 hz1 rfl (Nat.le_of_ble_eq_true rfl)) rfl (fun _ _ => rfl) (fun _ d2 hd2 => ?_)
  exact JR_vret (pc := 5) G hR dX2_acts_5 rfl rfl

def Jl_size (this : Nat) (S : Sp) (d : Dt) : Option Int32 :=
  (isK S 16 (some this)).bind fun z1 =>
  some (d.1 z1 2)
set_option maxHeartbeats 4000000 in
theorem Jl_size_fn (this : Nat) (S : Sp) (d : Dt) : Fn yJ2_size (ws_ yJ2_size cJ2_size 1 (some .int)) 0 0 [va_rf (some this)] S d rvI Λp (Jl_size this S d) := by
  refine Fn.ofJ (own := RJ2) (lv := [(0, va_rf (some this))]) (by decide +kernel) rfl (by simp [cat_i, cat_l, cat_f, cat_d, rf_cat]) (by simp [lv_args, cat_i, cat_l, cat_f, cat_d, rf_cat]) ?_
  intro X F G hRm hR hI
  unfold Jl_size
  refine JR_aload_n (pc := 0) (k := 0) (i := 0) (o := some this) G rfl rfl dJ2_size_0 ?_
  refine J_bd (fun z1 hz1 => ?_)
  refine JR_gI (pc := 1) (k := 2) G cl_J2 in_J2 (by decide) (by decide) rfl (Or.inl rfl) q205 hz1 dJ2_size_1 ?_
  exact JR_iret (pc := 4) G hR dJ2_size_4 rfl rfl

def Ws_tasks (this : Nat) (S : Sp) (d : Dt) : Option Int32 :=
  (isK S 0 (some this)).bind fun z1 =>
  (isK S 1 (S.2.1 z1 0)).bind fun z2 =>
  (isK S 16 (S.2.1 z2 0)).bind fun z3 =>
  (Jl_size z3 S d).bind fun r4 =>
  some r4
set_option maxHeartbeats 4000000 in
theorem Ws_tasks_fn (this : Nat) (S : Sp) (d : Dt) : Fn yX0_tasks (ws_ yX0_tasks cX0_tasks 1 (some .int)) 1 20 [va_rf (some this)] S d rvI Λp (Ws_tasks this S d) := by
  refine Fn.ofJ (own := RX0) (lv := [(0, va_rf (some this))]) (by decide +kernel) rfl (by simp [cat_i, cat_l, cat_f, cat_d, rf_cat]) (by simp [lv_args, cat_i, cat_l, cat_f, cat_d, rf_cat]) ?_
  intro X F G hRm hR hI
  unfold Ws_tasks
  refine JR_aload_n (pc := 0) (k := 0) (i := 0) (o := some this) G rfl rfl dX0_tasks_0 ?_
  refine J_bd (fun z1 hz1 => ?_)
  refine JR_gR (pc := 1) (k := 0) G cl_X0 in_X0 (by decide) (by decide) rfl (Or.inl rfl) q451 hz1 dX0_tasks_1 ?_
  refine J_bd (fun z2 hz2 => ?_)
  refine JR_gRN (pc := 4) (k := 0) G cl_X1 in_X1 (by decide) (by decide) rfl (Or.inl rfl) q217 hz2 dX0_tasks_4 ?_
  refine J_bd (fun z3 hz3 => ?_)
  refine J_stk (st' := [va_rf (some z3)]) (by rw [(isK_at hz3).1]) ?_
  refine JPV_I (pc := 7) (as := []) (st' := []) (o := some z3) G (Jl_size_fn z3 S d) (JC_V (n := 0) G hRm cl_J2 q427 q428 q429 q141 q430 ⟨rfl, dd_J2_size⟩ ⟨by decide, by decide⟩ dX0_tasks_7 (isK_s hz3) rfl (Nat.le_of_ble_eq_true rfl)) rfl (fun r4 hr4 => ?_)
  exact JR_iret (pc := 10) G hR dX0_tasks_10 rfl rfl

def Gr_acts_h2 (this : Nat) (p1 : Int32) (p2 : Int32) (S : Sp) : Nat → Int32 → Dt → Option (Unit × Dt)
  | 0, _, _ => none
  | f + 1, v3, d =>
    (isRg S 3 (some this)).bind fun z1 =>
    (isK S 0 (S.2.1 z1 1)).bind fun z2 =>
    (Ws_tasks z2 S d).bind fun r3 =>
    if r3 ≤ v3 then
      some ((), d)
    else
      (Ws_taskOf z2 v3 S d).bind fun r4 =>
      (isK S 12 r4).bind fun z5 =>
      if ¬ (d.1 z5 0) = p2 then
        Gr_acts_h2 this p1 p2 S f (v3 + 1) d
      else
        bind2 (Ru_acts this v3 p2 S d) fun _ d6 =>
        Gr_acts_h2 this p1 p2 S f (v3 + 1) d6
def Gr_acts (this : Nat) (p1 : Int32) (p2 : Int32) (S : Sp) (d : Dt) : Option (Unit × Dt) :=
  Gr_acts_h2 this p1 p2 S FU 0 d
set_option maxHeartbeats 4000000 in
theorem Gr_acts_fn (this : Nat) (p1 : Int32) (p2 : Int32) (S : Sp) (d : Dt) : Fn yX3_acts (ws_ yX3_acts cX3_acts 4 none) 6 128 [va_rf (some this), .int p1, .int p2] S d rvU Λw (Gr_acts this p1 p2 S d) := by
  refine Fn.ofJ (own := RX3) (lv := [(0, va_rf (some this)), (1, .int p1), (2, .int p2)]) (by decide +kernel) rfl (by simp [cat_i, cat_l, cat_f, cat_d, rf_cat]) (by simp [lv_args, cat_i, cat_l, cat_f, cat_d, rf_cat]) ?_
  intro X F G hRm hR hI
  have hGr_acts_h2 : ∀ (f : Nat) (v3 : Int32) (d : Dt), J X F Λw S d 2 [(0, va_rf (some this)), (1, .int p1), (2, .int p2), (3, .int v3)] [] (Gr_acts_h2 this p1 p2 S f v3 d) := by
    intro  f
    induction f with
    | zero => intro v3 d; exact J_no
    | succ f ih =>
      intro v3 d
      unfold Gr_acts_h2
      refine JR_iload_n (pc := 2) (k := 3) (i := 3) G rfl rfl dX3_acts_2 ?_
      refine JR_aload_n (pc := 3) (k := 0) (i := 0) (o := some this) G rfl rfl dX3_acts_3 ?_
      refine J_bd (fun z1 hz1 => ?_)
      refine JR_g3 (pc := 4) G q283 hz1 dX3_acts_4 ?_
      refine J_bd (fun z2 hz2 => ?_)
      refine J_stk (st' := [va_rf (some z2), .int v3]) (by rw [(isK_at hz2).1]) ?_
      refine JPV_I (pc := 7) (as := []) (st' := [.int v3]) (o := some z2) G (Ws_tasks_fn z2 S d) (JC_VN (n := 0) G hRm cl_X0 q1225 q425 qs1 q137 q426 dd_X0_tasks ⟨by decide, by decide⟩ dX3_acts_7 (isK_s hz2) rfl (Nat.le_of_ble_eq_true rfl)) rfl (fun r3 hr3 => ?_)
      refine JR_icmp_ge (pc := 10) (tgt := 40) G dX3_acts_10 (by decide) (fun c8 => ?_) (fun c8 => ?_)
      · exact JR_vret (pc := 40) G hR dX3_acts_40 rfl rfl
      · refine JR_aload_n (pc := 13) (k := 0) (i := 0) (o := some this) G rfl rfl dX3_acts_13 ?_
        refine JR_g3 (pc := 14) G q283 hz1 dX3_acts_14 ?_
        refine JR_iload_n (pc := 17) (k := 3) (i := 3) G rfl rfl dX3_acts_17 ?_
        refine J_stk (st' := [.int v3, va_rf (some z2)]) (by rw [(isK_at hz2).1]) ?_
        refine JPV_R (pc := 18) (as := [.int v3]) (st' := []) (o := some z2) G (Ws_taskOf_fn z2 v3 S d) (JC_VN (n := 1) G hRm cl_X0 q1226 q433 qs2 q137 q434 dd_X0_taskOf ⟨by decide, by decide⟩ dX3_acts_18 (isK_s hz2) rfl (Nat.le_of_ble_eq_true rfl)) rfl (fun r4 hr4 => ?_)
        refine J_bd (fun z5 hz5 => ?_)
        refine JR_gIN (pc := 21) (k := 0) G cl_X13 in_X13 (by decide) (by decide) rfl (Or.inl rfl) q818 hz5 dX3_acts_21 ?_
        refine JR_iload_n (pc := 24) (k := 2) (i := 2) G rfl rfl dX3_acts_24 ?_
        refine JR_icmp_ne (pc := 25) (tgt := 34) G dX3_acts_25 (by decide) (fun c7 => ?_) (fun c7 => ?_)
        · refine JR_iinc (pc := 34) (i := 3) (v := v3 + 1) (lv' := [(3, .int (v3 + 1)), (0, va_rf (some this)), (1, .int p1), (2, .int p2)]) G rfl (congrArg (fun z => v3 + z) (by decide)) (by decide) rfl dX3_acts_34 ?_
          refine JR_goto (pc := 37) (tgt := 2) G dX3_acts_37 (by decide) ?_
          refine J_sub [1, 2, 3, 0] rfl ?_
          exact ih (v3 + 1) d
        · refine JR_aload_n (pc := 28) (k := 0) (i := 0) (o := some this) G rfl rfl dX3_acts_28 ?_
          refine JR_iload_n (pc := 29) (k := 3) (i := 3) G rfl rfl dX3_acts_29 ?_
          refine JR_iload_n (pc := 30) (k := 2) (i := 2) G rfl rfl dX3_acts_30 ?_
          refine JQV_U (pc := 31) (as := [.int v3, .int p2]) (st' := []) (o := some this) G (Ru_acts_fn this v3 p2 S d) (JC_sup2 G hRm q1227 ⟨by decide, by decide⟩ dX3_acts_31 hz1 rfl (Nat.le_of_ble_eq_true rfl)) rfl (fun _ _ => rfl) (fun _ d6 hd6 => ?_)
          refine JR_iinc (pc := 34) (i := 3) (v := v3 + 1) (lv' := [(3, .int (v3 + 1)), (0, va_rf (some this)), (1, .int p1), (2, .int p2)]) G rfl (congrArg (fun z => v3 + z) (by decide)) (by decide) rfl dX3_acts_34 ?_
          refine JR_goto (pc := 37) (tgt := 2) G dX3_acts_37 (by decide) ?_
          refine J_sub [1, 2, 3, 0] rfl ?_
          exact ih (v3 + 1) d6
  unfold Gr_acts
  refine JR_iconst (pc := 0) G ci_0 dX3_acts_0 ?_
  refine JR_istore_n (pc := 1) (k := 3) (i := 3) (lv' := [(3, .int 0), (0, va_rf (some this)), (1, .int p1), (2, .int p2)]) G rfl (by decide) rfl dX3_acts_1 ?_
  refine J_sub [1, 2, 3, 0] rfl ?_
  exact hGr_acts_h2 FU 0 d

def To_isUnder_h2 (this : Nat) (p1 : Int32) (p2 : Int32) (S : Sp) (d : Dt) : Nat → Int32 → Option Int32
  | 0, _ => none
  | f + 1, v3 =>
    if v3 = ((-1)) then
      some 0
    else
      if ¬ v3 = p2 then
        (isK S 1 (some this)).bind fun z1 =>
        (aix S 50 (S.2.1 z1 2) v3).bind fun q2 =>
        (some (d.1 q2.1 q2.2)).bind fun x3 =>
        To_isUnder_h2 this p1 p2 S d f x3
      else
        some 1
def To_isUnder (this : Nat) (p1 : Int32) (p2 : Int32) (S : Sp) (d : Dt) : Option Int32 :=
  To_isUnder_h2 this p1 p2 S d FU p1
set_option maxHeartbeats 4000000 in
theorem To_isUnder_fn (this : Nat) (p1 : Int32) (p2 : Int32) (S : Sp) (d : Dt) : Fn yX1_isUnder (ws_ yX1_isUnder cX1_isUnder 4 (some .boolean)) 0 0 [va_rf (some this), .int p1, .int p2] S d rvI Λp (To_isUnder this p1 p2 S d) := by
  refine Fn.ofJ (own := RX1) (lv := [(0, va_rf (some this)), (1, .int p1), (2, .int p2)]) (by decide +kernel) rfl (by simp [cat_i, cat_l, cat_f, cat_d, rf_cat]) (by simp [lv_args, cat_i, cat_l, cat_f, cat_d, rf_cat]) ?_
  intro X F G hRm hR hI
  have hTo_isUnder_h2 : ∀ (f : Nat) (v3 : Int32), J X F Λp S d 2 [(0, va_rf (some this)), (1, .int p1), (2, .int p2), (3, .int v3)] [] (To_isUnder_h2 this p1 p2 S d f v3) := by
    intro  f
    induction f with
    | zero => intro v3; exact J_no
    | succ f ih =>
      intro v3
      unfold To_isUnder_h2
      refine JR_iload_n (pc := 2) (k := 3) (i := 3) G rfl rfl dX1_isUnder_2 ?_
      refine JR_iconst (pc := 3) G ci_m1 dX1_isUnder_3 ?_
      refine JR_icmp_eq (pc := 4) (tgt := 24) G dX1_isUnder_4 (by decide) (fun c5 => ?_) (fun c5 => ?_)
      · refine JR_iconst (pc := 24) G ci_0 dX1_isUnder_24 ?_
        exact JR_zret (pc := 25) G hR dX1_isUnder_25 (Or.inl rfl) rfl rfl
      · refine JR_iload_n (pc := 7) (k := 3) (i := 3) G rfl rfl dX1_isUnder_7 ?_
        refine JR_iload_n (pc := 8) (k := 2) (i := 2) G rfl rfl dX1_isUnder_8 ?_
        refine JR_icmp_ne (pc := 9) (tgt := 14) G dX1_isUnder_9 (by decide) (fun c4 => ?_) (fun c4 => ?_)
        · refine JR_aload_n (pc := 14) (k := 0) (i := 0) (o := some this) G rfl rfl dX1_isUnder_14 ?_
          refine J_bd (fun z1 hz1 => ?_)
          refine JR_gR (pc := 15) (k := 2) G cl_X1 in_X1 (by decide) (by decide) rfl (Or.inl rfl) q222 hz1 dX1_isUnder_15 ?_
          refine JR_iload_n (pc := 18) (k := 3) (i := 3) G rfl rfl dX1_isUnder_18 ?_
          refine J_bd (fun q2 hq2 => ?_)
          refine JR_iaload (pc := 19) G hq2 dX1_isUnder_19 ?_
          refine J_nm (fun x3 hx3 => ?_)
          refine JR_istore_n (pc := 20) (k := 3) (i := 3) (lv' := [(3, .int x3), (0, va_rf (some this)), (1, .int p1), (2, .int p2)]) G rfl (by decide) rfl dX1_isUnder_20 ?_
          refine JR_goto (pc := 21) (tgt := 2) G dX1_isUnder_21 (by decide) ?_
          refine J_sub [1, 2, 3, 0] rfl ?_
          exact ih x3
        · refine JR_iconst (pc := 12) G ci_1 dX1_isUnder_12 ?_
          exact JR_zret (pc := 13) G hR dX1_isUnder_13 (Or.inr rfl) rfl rfl
  unfold To_isUnder
  refine JR_iload_n (pc := 0) (k := 1) (i := 1) G rfl rfl dX1_isUnder_0 ?_
  refine JR_istore_n (pc := 1) (k := 3) (i := 3) (lv' := [(3, .int p1), (0, va_rf (some this)), (1, .int p1), (2, .int p2)]) G rfl (by decide) rfl dX1_isUnder_1 ?_
  refine J_sub [1, 2, 3, 0] rfl ?_
  exact hTo_isUnder_h2 FU p1

def Wa_acts_h2 (this : Nat) (p1 : Int32) (p2 : Int32) (S : Sp) : Nat → Int32 → Dt → Option (Unit × Dt)
  | 0, _, _ => none
  | f + 1, v3, d =>
    (isRg S 4 (some this)).bind fun z1 =>
    (isK S 0 (S.2.1 z1 2)).bind fun z2 =>
    (isK S 1 (S.2.1 z2 0)).bind fun z3 =>
    if (d.1 z3 6) ≤ v3 then
      some ((), d)
    else
      (To_isUnder z3 v3 p2 S d).bind fun r4 =>
      if ¬ r4 = 0 then
        bind2 (Gr_acts this p1 v3 S d) fun _ d5 =>
        (aix S 50 (S.2.1 z2 14) v3).bind fun q6 =>
        (some (dI d5 q6.1 q6.2 (d5.1 z2 25))).bind fun d7 =>
        Wa_acts_h2 this p1 p2 S f (v3 + 1) d7
      else
        Wa_acts_h2 this p1 p2 S f (v3 + 1) d
def Wa_acts (this : Nat) (p1 : Int32) (p2 : Int32) (S : Sp) (d : Dt) : Option (Unit × Dt) :=
  Wa_acts_h2 this p1 p2 S FU 0 d
set_option maxHeartbeats 4000000 in
theorem Wa_acts_fn (this : Nat) (p1 : Int32) (p2 : Int32) (S : Sp) (d : Dt) : Fn yX4_acts (ws_ yX4_acts cX4_acts 4 none) 7 151 [va_rf (some this), .int p1, .int p2] S d rvU Λw (Wa_acts this p1 p2 S d) := by
  refine Fn.ofJ (own := RX4) (lv := [(0, va_rf (some this)), (1, .int p1), (2, .int p2)]) (by decide +kernel) rfl (by simp [cat_i, cat_l, cat_f, cat_d, rf_cat]) (by simp [lv_args, cat_i, cat_l, cat_f, cat_d, rf_cat]) ?_
  intro X F G hRm hR hI
  have hWa_acts_h2 : ∀ (f : Nat) (v3 : Int32) (d : Dt), J X F Λw S d 2 [(0, va_rf (some this)), (1, .int p1), (2, .int p2), (3, .int v3)] [] (Wa_acts_h2 this p1 p2 S f v3 d) := by
    intro  f
    induction f with
    | zero => intro v3 d; exact J_no
    | succ f ih =>
      intro v3 d
      unfold Wa_acts_h2
      refine JR_iload_n (pc := 2) (k := 3) (i := 3) G rfl rfl dX4_acts_2 ?_
      refine JR_aload_n (pc := 3) (k := 0) (i := 0) (o := some this) G rfl rfl dX4_acts_3 ?_
      refine J_bd (fun z1 hz1 => ?_)
      refine JR_g4 (pc := 4) G q294 hz1 dX4_acts_4 ?_
      refine J_bd (fun z2 hz2 => ?_)
      refine JR_gRN (pc := 7) (k := 0) G cl_X0 in_X0 (by decide) (by decide) rfl (Or.inl rfl) q450 hz2 dX4_acts_7 ?_
      refine J_bd (fun z3 hz3 => ?_)
      refine JR_gIN (pc := 10) (k := 6) G cl_X1 in_X1 (by decide) (by decide) rfl (Or.inl rfl) q234 hz3 dX4_acts_10 ?_
      refine JR_icmp_ge (pc := 13) (tgt := 62) G dX4_acts_13 (by decide) (fun c9 => ?_) (fun c9 => ?_)
      · exact JR_vret (pc := 62) G hR dX4_acts_62 rfl rfl
      · refine JR_aload_n (pc := 16) (k := 0) (i := 0) (o := some this) G rfl rfl dX4_acts_16 ?_
        refine JR_g4 (pc := 17) G q294 hz1 dX4_acts_17 ?_
        refine JR_gRN (pc := 20) (k := 0) G cl_X0 in_X0 (by decide) (by decide) rfl (Or.inl rfl) q450 hz2 dX4_acts_20 ?_
        refine JR_iload_n (pc := 23) (k := 3) (i := 3) G rfl rfl dX4_acts_23 ?_
        refine JR_iload_n (pc := 24) (k := 2) (i := 2) G rfl rfl dX4_acts_24 ?_
        refine J_stk (st' := [.int p2, .int v3, va_rf (some z3)]) (by rw [(isK_at hz3).1]) ?_
        refine JPV_I (pc := 25) (as := [.int v3, .int p2]) (st' := []) (o := some z3) G (To_isUnder_fn z3 v3 p2 S d) (JC_V (n := 2) G hRm cl_X1 q1218 q1219 q1220 q138 q1221 ⟨rfl, dd_X1_isUnder⟩ ⟨by decide, by decide⟩ dX4_acts_25 (isK_s hz3) rfl (Nat.le_of_ble_eq_true rfl)) rfl (fun r4 hr4 => ?_)
        refine JR_if_ne (pc := 28) (tgt := 34) G dX4_acts_28 (by decide) (fun c8 => ?_) (fun c8 => ?_)
        · refine JR_aload_n (pc := 34) (k := 0) (i := 0) (o := some this) G rfl rfl dX4_acts_34 ?_
          refine JR_iload_n (pc := 35) (k := 1) (i := 1) G rfl rfl dX4_acts_35 ?_
          refine JR_iload_n (pc := 36) (k := 3) (i := 3) G rfl rfl dX4_acts_36 ?_
          refine JQV_U (pc := 37) (as := [.int p1, .int v3]) (st' := []) (o := some this) G (Gr_acts_fn this p1 v3 S d) (JC_sup3 G hRm q1222 ⟨by decide, by decide⟩ dX4_acts_37 hz1 rfl (Nat.le_of_ble_eq_true rfl)) rfl (fun _ _ => rfl) (fun _ d5 hd5 => ?_)
          refine JR_aload_n (pc := 40) (k := 0) (i := 0) (o := some this) G rfl rfl dX4_acts_40 ?_
          refine JR_g4 (pc := 41) G q294 hz1 dX4_acts_41 ?_
          refine JR_gRN (pc := 44) (k := 14) G cl_X0 in_X0 (by decide) (by decide) rfl (Or.inl rfl) q466 hz2 dX4_acts_44 ?_
          refine JR_iload_n (pc := 47) (k := 3) (i := 3) G rfl rfl dX4_acts_47 ?_
          refine JR_aload_n (pc := 48) (k := 0) (i := 0) (o := some this) G rfl rfl dX4_acts_48 ?_
          refine JR_g4 (pc := 49) G q294 hz1 dX4_acts_49 ?_
          refine JR_gIN (pc := 52) (k := 25) G cl_X0 in_X0 (by decide) (by decide) rfl (Or.inl rfl) q479 hz2 dX4_acts_52 ?_
          refine J_bd (fun q6 hq6 => ?_)
          refine JW_iastore (pc := 55) G hq6 (fun _ => rfl) dX4_acts_55 ?_
          refine J_nmD (fun d7 hd7 => ?_)
          refine JR_iinc (pc := 56) (i := 3) (v := v3 + 1) (lv' := [(3, .int (v3 + 1)), (0, va_rf (some this)), (1, .int p1), (2, .int p2)]) G rfl (congrArg (fun z => v3 + z) (by decide)) (by decide) rfl dX4_acts_56 ?_
          refine JR_goto (pc := 59) (tgt := 2) G dX4_acts_59 (by decide) ?_
          refine J_sub [1, 2, 3, 0] rfl ?_
          exact ih (v3 + 1) d7
        · refine JR_goto (pc := 31) (tgt := 56) G dX4_acts_31 (by decide) ?_
          refine JR_iinc (pc := 56) (i := 3) (v := v3 + 1) (lv' := [(3, .int (v3 + 1)), (0, va_rf (some this)), (1, .int p1), (2, .int p2)]) G rfl (congrArg (fun z => v3 + z) (by decide)) (by decide) rfl dX4_acts_56 ?_
          refine JR_goto (pc := 59) (tgt := 2) G dX4_acts_59 (by decide) ?_
          refine J_sub [1, 2, 3, 0] rfl ?_
          exact ih (v3 + 1) d
  unfold Wa_acts
  refine JR_iconst (pc := 0) G ci_0 dX4_acts_0 ?_
  refine JR_istore_n (pc := 1) (k := 3) (i := 3) (lv' := [(3, .int 0), (0, va_rf (some this)), (1, .int p1), (2, .int p2)]) G rfl (by decide) rfl dX4_acts_1 ?_
  refine J_sub [1, 2, 3, 0] rfl ?_
  exact hWa_acts_h2 FU 0 d

def Rs_init (this : Nat) (S : Sp) (d : Dt) : Option (Unit × Sp × Dt) :=
  bind3 (Th_ER this none none 0 0 S d) fun _ S1 d2 =>
  some ((), S1, d2)
set_option maxHeartbeats 4000000 in
theorem Rs_init_fn (this : Nat) (S : Sp) (d : Dt) : Fn yX15_init (ws_ yX15_init cX15_init 1 none) 3 68 [va_rf (some this)] S d rvU Λa (Rs_init this S d) := by
  refine Fn.ofJ (own := RX15) (lv := [(0, va_rf (some this))]) (by decide +kernel) rfl (by simp [cat_i, cat_l, cat_f, cat_d, rf_cat]) (by simp [lv_args, cat_i, cat_l, cat_f, cat_d, rf_cat]) ?_
  intro X F G hRm hR hI
  unfold Rs_init
  refine JR_aload_n (pc := 0) (k := 0) (i := 0) (o := some this) G rfl rfl dX15_init_0 ?_
  refine JR_null (pc := 1) G dX15_init_1 ?_
  refine JR_null (pc := 2) G dX15_init_2 ?_
  refine JR_iconst (pc := 3) G ci_0 dX15_init_3 ?_
  refine JR_iconst (pc := 4) G ci_0 dX15_init_4 ?_
  refine JAV_U (pc := 5) (as := [va_rf none, va_rf none, .int 0, .int 0]) (st' := []) (o := some this) G (Th_ER_fn this none none 0 0 S d) (JC_I (n := 4) G hRm q1251 q756 q159 q757 rfl dd_J10_init ⟨by decide, by decide⟩ dX15_init_5 rfl (Nat.le_of_ble_eq_true rfl)) rfl (fun _ _ _ => rfl) (fun _ S1 d2 hd2 => ?_)
  exact JR_vret (pc := 8) G hR dX15_init_8 rfl rfl

def Bo_acts_b44 (this : Nat) (p1 : Int32) (p2 : Int32) (S : Sp) (d : Dt) : Option ((Unit ⊕ Nat) × Sp × Dt) :=
  bind2 (some (mmNew S (14, 0) 6, mmNewD S d)) fun S7 d8 =>
  bind3 (Rs_init S.1.length S7 d8) fun _ S9 d10 =>
  (isK S9 14 (some S.1.length)).bind fun z11 =>
  some (.inr z11, S9, d10)
def Bo_acts (this : Nat) (p1 : Int32) (p2 : Int32) (S : Sp) (d : Dt) : Option ((Unit ⊕ Nat) × Sp × Dt) :=
  (isRg S 5 (some this)).bind fun z1 =>
  bind2 (Wa_acts this p1 0 S d) fun _ d2 =>
  (isK S 0 (S.2.1 z1 3)).bind fun z3 =>
  (some (dI d2 z3 26 ((d2.1 z3 26) + 1))).bind fun d4 =>
  if ¬ (d4.1 z3 26) = 3 then
    Bo_acts_b44 this p1 p2 S d4
  else
    (some (dI d4 z3 27 (d4.1 z3 25))).bind fun d5 =>
    Bo_acts_b44 this p1 p2 S d5
set_option maxHeartbeats 4000000 in
theorem Bo_acts_fn (this : Nat) (p1 : Int32) (p2 : Int32) (S : Sp) (d : Dt) : FnX yX5_acts (ws_ yX5_acts cX5_acts 3 none) 8 174 [va_rf (some this), .int p1, .int p2] S d rvU "WatchStack$Reset" (Bo_acts this p1 p2 S d) := by
  refine FnX.ofJ (own := RX5) (lv := [(0, va_rf (some this)), (1, .int p1), (2, .int p2)]) (by decide +kernel) rfl (by simp [cat_i, cat_l, cat_f, cat_d, rf_cat]) (by simp [lv_args, cat_i, cat_l, cat_f, cat_d, rf_cat]) ?_
  intro X F G hRm hR
  have hBo_acts_b44 : ∀ (S : Sp) (d : Dt), J X F Λa S d 44 [(0, va_rf (some this)), (1, .int p1), (2, .int p2)] [] (Bo_acts_b44 this p1 p2 S d) := by
    intro S d
    unfold Bo_acts_b44
    refine JW_new (pc := 44) G cl_X15 in_X15 tyX15_ok (by decide) lg_X15 q1239 q1240 q170 (fun _ => rfl) dX5_acts_44 ?_
    refine J_nm2 (fun S7 d8 hS7 hd8 => ?_)
    refine JR_dup (pc := 47) G (rf_cat _) dX5_acts_47 ?_
    refine JAV_U (pc := 48) (as := []) (st' := [va_rf (some S.1.length)]) (o := some S.1.length) G (Rs_init_fn S.1.length S7 d8) (JC_I (n := 0) G hRm q1248 q1249 q170 q1250 rfl dd_X15_init ⟨by decide, by decide⟩ dX5_acts_48 rfl (Nat.le_of_ble_eq_true rfl)) rfl (fun _ _ _ => rfl) (fun _ S9 d10 hd10 => ?_)
    refine J_bd (fun z11 hz11 => ?_)
    refine J_stk (st' := [va_rf (some z11)]) (by rw [(isK_at hz11).1]) ?_
    refine JR_athrow (pc := 51) G cl_X15 dX5_acts_51 (isK_s hz11) ?_
    exact JX_out G hR
  unfold Bo_acts
  refine JR_aload_n (pc := 0) (k := 0) (i := 0) (o := some this) G rfl rfl dX5_acts_0 ?_
  refine JR_iload_n (pc := 1) (k := 1) (i := 1) G rfl rfl dX5_acts_1 ?_
  refine JR_iconst (pc := 2) G ci_0 dX5_acts_2 ?_
  refine J_bd (fun z1 hz1 => ?_)
  refine JQV_U (pc := 3) (as := [.int p1, .int 0]) (st' := []) (o := some this) G (Wa_acts_fn this p1 0 S d) (JC_sup4 G hRm q1215 ⟨by decide, by decide⟩ dX5_acts_3 hz1 rfl (Nat.le_of_ble_eq_true rfl)) rfl (fun _ _ => rfl) (fun _ d2 hd2 => ?_)
  refine JR_aload_n (pc := 6) (k := 0) (i := 0) (o := some this) G rfl rfl dX5_acts_6 ?_
  refine JR_g5 (pc := 7) G q306 hz1 dX5_acts_7 ?_
  refine JR_dup (pc := 10) G (rf_cat _) dX5_acts_10 ?_
  refine J_bd (fun z3 hz3 => ?_)
  refine JR_gIN (pc := 11) (k := 26) G cl_X0 in_X0 (by decide) (by decide) rfl (Or.inl rfl) q482 hz3 dX5_acts_11 ?_
  refine JR_iconst (pc := 14) G ci_1 dX5_acts_14 ?_
  refine JR_iadd (pc := 15) G dX5_acts_15 ?_
  refine JW_pIN (pc := 16) (k := 26) G cl_X0 in_X0 tyX0_ok nmX0 (by decide) (by decide) rfl (Or.inl rfl) rfl q482 rfl rfl hz3 (fun _ => rfl) dX5_acts_16 ?_
  refine J_nmD (fun d4 hd4 => ?_)
  refine JR_aload_n (pc := 19) (k := 0) (i := 0) (o := some this) G rfl rfl dX5_acts_19 ?_
  refine JR_g5 (pc := 20) G q306 hz1 dX5_acts_20 ?_
  refine JR_gIN (pc := 23) (k := 26) G cl_X0 in_X0 (by decide) (by decide) rfl (Or.inl rfl) q482 hz3 dX5_acts_23 ?_
  refine JR_iconst (pc := 26) G ci_3 dX5_acts_26 ?_
  refine JR_icmp_ne (pc := 27) (tgt := 44) G dX5_acts_27 (by decide) (fun c6 => ?_) (fun c6 => ?_)
  · exact hBo_acts_b44 S d4
  · refine JR_aload_n (pc := 30) (k := 0) (i := 0) (o := some this) G rfl rfl dX5_acts_30 ?_
    refine JR_g5 (pc := 31) G q306 hz1 dX5_acts_31 ?_
    refine JR_aload_n (pc := 34) (k := 0) (i := 0) (o := some this) G rfl rfl dX5_acts_34 ?_
    refine JR_g5 (pc := 35) G q306 hz1 dX5_acts_35 ?_
    refine JR_gIN (pc := 38) (k := 25) G cl_X0 in_X0 (by decide) (by decide) rfl (Or.inl rfl) q478 hz3 dX5_acts_38 ?_
    refine JW_pIN (pc := 41) (k := 27) G cl_X0 in_X0 tyX0_ok nmX0 (by decide) (by decide) rfl (Or.inl rfl) rfl q484 rfl rfl hz3 (fun _ => rfl) dX5_acts_41 ?_
    refine J_nmD (fun d5 hd5 => ?_)
    exact hBo_acts_b44 S d5
