/-! THE COMPONENT, printed -/
set_option maxRecDepth 100000
def Ws_question (this : Nat) (p1 : Int32) (p2 : Int32) (S : Sp) (d : Dt) : Option (Int32 × Sp × Dt) :=
  (isK S 0 (some this)).bind fun z1 =>
  (Ws_isThen this p1 p2 S d).bind fun r2 =>
  if r2 = 0 then
    some ((-2), S, d)
  else
    bind3 (Ws_then this p1 p2 S d) fun r3 S4 d5 =>
    (isK S4 8 r3).bind fun z6 =>
    some (d5.1 z6 8, S4, d5)
set_option maxHeartbeats 4000000 in
theorem Ws_question_fn (this : Nat) (p1 : Int32) (p2 : Int32) (S : Sp) (d : Dt) : Fn yX0_question (ws_ yX0_question cX0_question 3 (some .int)) 18 411 [va_rf (some this), .int p1, .int p2] S d rvI Λa (Ws_question this p1 p2 S d) := by
  refine Fn.ofJ (own := RX0) (lv := [(0, va_rf (some this)), (1, .int p1), (2, .int p2)]) (by decide +kernel) rfl (by simp [cat_i, cat_l, cat_f, cat_d, rf_cat]) (by simp [lv_args, cat_i, cat_l, cat_f, cat_d, rf_cat]) ?_
  intro X F G hRm hR hI
  unfold Ws_question
  refine JR_aload_n (pc := 0) (k := 0) (i := 0) (o := some this) G rfl rfl dX0_question_0 ?_
  refine JR_iload_n (pc := 1) (k := 1) (i := 1) G rfl rfl dX0_question_1 ?_
  refine JR_iload_n (pc := 2) (k := 2) (i := 2) G rfl rfl dX0_question_2 ?_
  refine J_bd (fun z1 hz1 => ?_)
  refine JPV_I (pc := 3) (as := [.int p1, .int p2]) (st' := []) (o := some this) G (Ws_isThen_fn this p1 p2 S d) (JC_V (n := 2) G hRm cl_X0 q1304 q1306 qs48 q137 q1307 ⟨rfl, dd_X0_isThen⟩ ⟨by decide, by decide⟩ dX0_question_3 hz1 rfl (Nat.le_of_ble_eq_true rfl)) rfl (fun r2 hr2 => ?_)
  refine JR_if_eq (pc := 6) (tgt := 21) G dX0_question_6 (by decide) (fun c7 => ?_) (fun c7 => ?_)
  · refine JR_bipush (pc := 21) (v := (-2)) G (by decide) dX0_question_21 ?_
    exact JR_iret (pc := 23) G hR dX0_question_23 rfl rfl
  · refine JR_aload_n (pc := 9) (k := 0) (i := 0) (o := some this) G rfl rfl dX0_question_9 ?_
    refine JR_iload_n (pc := 10) (k := 1) (i := 1) G rfl rfl dX0_question_10 ?_
    refine JR_iload_n (pc := 11) (k := 2) (i := 2) G rfl rfl dX0_question_11 ?_
    refine JAV_R (pc := 12) (as := [.int p1, .int p2]) (st' := []) (o := some this) G (Ws_then_fn this p1 p2 S d) (JC_V (n := 2) G hRm cl_X0 q1308 q1310 qs49 q137 q1311 ⟨rfl, dd_X0_then⟩ ⟨by decide, by decide⟩ dX0_question_12 hz1 rfl (Nat.le_of_ble_eq_true rfl)) rfl (fun _ _ _ => rfl) (fun r3 S4 d5 hd5 => ?_)
    refine J_bd (fun z6 hz6 => ?_)
    refine JR_gIN (pc := 15) (k := 8) G cl_X9 in_X9 (by decide) (by decide) rfl (Or.inl rfl) q355 hz6 dX0_question_15 ?_
    refine JR_goto (pc := 18) (tgt := 23) G dX0_question_18 (by decide) ?_
    exact JR_iret (pc := 23) G hR dX0_question_23 rfl rfl

def Ws_start (this : Nat) (p1 : Int32) (p2 : Int32) (S : Sp) (d : Dt) : Option (Int32 × Sp × Dt) :=
  (isK S 0 (some this)).bind fun z1 =>
  (Ws_isThen this p1 p2 S d).bind fun r2 =>
  if r2 = 0 then
    some ((-2), S, d)
  else
    bind3 (Ws_then this p1 p2 S d) fun r3 S4 d5 =>
    (isK S4 8 r3).bind fun z6 =>
    some (d5.1 z6 5, S4, d5)
set_option maxHeartbeats 4000000 in
theorem Ws_start_fn (this : Nat) (p1 : Int32) (p2 : Int32) (S : Sp) (d : Dt) : Fn yX0_start (ws_ yX0_start cX0_start 3 (some .int)) 18 411 [va_rf (some this), .int p1, .int p2] S d rvI Λa (Ws_start this p1 p2 S d) := by
  refine Fn.ofJ (own := RX0) (lv := [(0, va_rf (some this)), (1, .int p1), (2, .int p2)]) (by decide +kernel) rfl (by simp [cat_i, cat_l, cat_f, cat_d, rf_cat]) (by simp [lv_args, cat_i, cat_l, cat_f, cat_d, rf_cat]) ?_
  intro X F G hRm hR hI
  unfold Ws_start
  refine JR_aload_n (pc := 0) (k := 0) (i := 0) (o := some this) G rfl rfl dX0_start_0 ?_
  refine JR_iload_n (pc := 1) (k := 1) (i := 1) G rfl rfl dX0_start_1 ?_
  refine JR_iload_n (pc := 2) (k := 2) (i := 2) G rfl rfl dX0_start_2 ?_
  refine J_bd (fun z1 hz1 => ?_)
  refine JPV_I (pc := 3) (as := [.int p1, .int p2]) (st' := []) (o := some this) G (Ws_isThen_fn this p1 p2 S d) (JC_V (n := 2) G hRm cl_X0 q1304 q1306 qs48 q137 q1307 ⟨rfl, dd_X0_isThen⟩ ⟨by decide, by decide⟩ dX0_start_3 hz1 rfl (Nat.le_of_ble_eq_true rfl)) rfl (fun r2 hr2 => ?_)
  refine JR_if_eq (pc := 6) (tgt := 21) G dX0_start_6 (by decide) (fun c7 => ?_) (fun c7 => ?_)
  · refine JR_bipush (pc := 21) (v := (-2)) G (by decide) dX0_start_21 ?_
    exact JR_iret (pc := 23) G hR dX0_start_23 rfl rfl
  · refine JR_aload_n (pc := 9) (k := 0) (i := 0) (o := some this) G rfl rfl dX0_start_9 ?_
    refine JR_iload_n (pc := 10) (k := 1) (i := 1) G rfl rfl dX0_start_10 ?_
    refine JR_iload_n (pc := 11) (k := 2) (i := 2) G rfl rfl dX0_start_11 ?_
    refine JAV_R (pc := 12) (as := [.int p1, .int p2]) (st' := []) (o := some this) G (Ws_then_fn this p1 p2 S d) (JC_V (n := 2) G hRm cl_X0 q1308 q1310 qs49 q137 q1311 ⟨rfl, dd_X0_then⟩ ⟨by decide, by decide⟩ dX0_start_12 hz1 rfl (Nat.le_of_ble_eq_true rfl)) rfl (fun _ _ _ => rfl) (fun r3 S4 d5 hd5 => ?_)
    refine J_bd (fun z6 hz6 => ?_)
    refine JR_gIN (pc := 15) (k := 5) G cl_X9 in_X9 (by decide) (by decide) rfl (Or.inl rfl) q349 hz6 dX0_start_15 ?_
    refine JR_goto (pc := 18) (tgt := 23) G dX0_start_18 (by decide) ?_
    exact JR_iret (pc := 23) G hR dX0_start_23 rfl rfl

def Ws_memory (this : Nat) (p1 : Int32) (p2 : Int32) (S : Sp) (d : Dt) : Option (Int32 × Sp × Dt) :=
  (isK S 0 (some this)).bind fun z1 =>
  (Ws_isThen this p1 p2 S d).bind fun r2 =>
  if r2 = 0 then
    some ((-2), S, d)
  else
    bind3 (Ws_then this p1 p2 S d) fun r3 S4 d5 =>
    (isK S4 8 r3).bind fun z6 =>
    some (d5.1 z6 10, S4, d5)
set_option maxHeartbeats 4000000 in
theorem Ws_memory_fn (this : Nat) (p1 : Int32) (p2 : Int32) (S : Sp) (d : Dt) : Fn yX0_memory (ws_ yX0_memory cX0_memory 3 (some .int)) 18 411 [va_rf (some this), .int p1, .int p2] S d rvI Λa (Ws_memory this p1 p2 S d) := by
  refine Fn.ofJ (own := RX0) (lv := [(0, va_rf (some this)), (1, .int p1), (2, .int p2)]) (by decide +kernel) rfl (by simp [cat_i, cat_l, cat_f, cat_d, rf_cat]) (by simp [lv_args, cat_i, cat_l, cat_f, cat_d, rf_cat]) ?_
  intro X F G hRm hR hI
  unfold Ws_memory
  refine JR_aload_n (pc := 0) (k := 0) (i := 0) (o := some this) G rfl rfl dX0_memory_0 ?_
  refine JR_iload_n (pc := 1) (k := 1) (i := 1) G rfl rfl dX0_memory_1 ?_
  refine JR_iload_n (pc := 2) (k := 2) (i := 2) G rfl rfl dX0_memory_2 ?_
  refine J_bd (fun z1 hz1 => ?_)
  refine JPV_I (pc := 3) (as := [.int p1, .int p2]) (st' := []) (o := some this) G (Ws_isThen_fn this p1 p2 S d) (JC_V (n := 2) G hRm cl_X0 q1304 q1306 qs48 q137 q1307 ⟨rfl, dd_X0_isThen⟩ ⟨by decide, by decide⟩ dX0_memory_3 hz1 rfl (Nat.le_of_ble_eq_true rfl)) rfl (fun r2 hr2 => ?_)
  refine JR_if_eq (pc := 6) (tgt := 21) G dX0_memory_6 (by decide) (fun c7 => ?_) (fun c7 => ?_)
  · refine JR_bipush (pc := 21) (v := (-2)) G (by decide) dX0_memory_21 ?_
    exact JR_iret (pc := 23) G hR dX0_memory_23 rfl rfl
  · refine JR_aload_n (pc := 9) (k := 0) (i := 0) (o := some this) G rfl rfl dX0_memory_9 ?_
    refine JR_iload_n (pc := 10) (k := 1) (i := 1) G rfl rfl dX0_memory_10 ?_
    refine JR_iload_n (pc := 11) (k := 2) (i := 2) G rfl rfl dX0_memory_11 ?_
    refine JAV_R (pc := 12) (as := [.int p1, .int p2]) (st' := []) (o := some this) G (Ws_then_fn this p1 p2 S d) (JC_V (n := 2) G hRm cl_X0 q1308 q1310 qs49 q137 q1311 ⟨rfl, dd_X0_then⟩ ⟨by decide, by decide⟩ dX0_memory_12 hz1 rfl (Nat.le_of_ble_eq_true rfl)) rfl (fun _ _ _ => rfl) (fun r3 S4 d5 hd5 => ?_)
    refine J_bd (fun z6 hz6 => ?_)
    refine JR_gIN (pc := 15) (k := 10) G cl_X9 in_X9 (by decide) (by decide) rfl (Or.inl rfl) q359 hz6 dX0_memory_15 ?_
    refine JR_goto (pc := 18) (tgt := 23) G dX0_memory_18 (by decide) ?_
    exact JR_iret (pc := 23) G hR dX0_memory_23 rfl rfl

def Ws_health (this : Nat) (p1 : Int32) (p2 : Int32) (S : Sp) (d : Dt) : Option (Int32 × Sp × Dt) :=
  (isK S 0 (some this)).bind fun z1 =>
  (Ws_isThen this p1 p2 S d).bind fun r2 =>
  if r2 = 0 then
    some ((-2), S, d)
  else
    bind3 (Ws_then this p1 p2 S d) fun r3 S4 d5 =>
    (isK S4 8 r3).bind fun z6 =>
    (Jf_floatToIntBits (d5.2.1 z6 17) S4 d5).bind fun r7 =>
    some (r7, S4, d5)
set_option maxHeartbeats 4000000 in
theorem Ws_health_fn (this : Nat) (p1 : Int32) (p2 : Int32) (S : Sp) (d : Dt) : Fn yX0_health (ws_ yX0_health cX0_health 3 (some .int)) 18 411 [va_rf (some this), .int p1, .int p2] S d rvI Λa (Ws_health this p1 p2 S d) := by
  refine Fn.ofJ (own := RX0) (lv := [(0, va_rf (some this)), (1, .int p1), (2, .int p2)]) (by decide +kernel) rfl (by simp [cat_i, cat_l, cat_f, cat_d, rf_cat]) (by simp [lv_args, cat_i, cat_l, cat_f, cat_d, rf_cat]) ?_
  intro X F G hRm hR hI
  unfold Ws_health
  refine JR_aload_n (pc := 0) (k := 0) (i := 0) (o := some this) G rfl rfl dX0_health_0 ?_
  refine JR_iload_n (pc := 1) (k := 1) (i := 1) G rfl rfl dX0_health_1 ?_
  refine JR_iload_n (pc := 2) (k := 2) (i := 2) G rfl rfl dX0_health_2 ?_
  refine J_bd (fun z1 hz1 => ?_)
  refine JPV_I (pc := 3) (as := [.int p1, .int p2]) (st' := []) (o := some this) G (Ws_isThen_fn this p1 p2 S d) (JC_V (n := 2) G hRm cl_X0 q1304 q1306 qs48 q137 q1307 ⟨rfl, dd_X0_isThen⟩ ⟨by decide, by decide⟩ dX0_health_3 hz1 rfl (Nat.le_of_ble_eq_true rfl)) rfl (fun r2 hr2 => ?_)
  refine JR_if_eq (pc := 6) (tgt := 24) G dX0_health_6 (by decide) (fun c8 => ?_) (fun c8 => ?_)
  · refine JR_bipush (pc := 24) (v := (-2)) G (by decide) dX0_health_24 ?_
    exact JR_iret (pc := 26) G hR dX0_health_26 rfl rfl
  · refine JR_aload_n (pc := 9) (k := 0) (i := 0) (o := some this) G rfl rfl dX0_health_9 ?_
    refine JR_iload_n (pc := 10) (k := 1) (i := 1) G rfl rfl dX0_health_10 ?_
    refine JR_iload_n (pc := 11) (k := 2) (i := 2) G rfl rfl dX0_health_11 ?_
    refine JAV_R (pc := 12) (as := [.int p1, .int p2]) (st' := []) (o := some this) G (Ws_then_fn this p1 p2 S d) (JC_V (n := 2) G hRm cl_X0 q1308 q1310 qs49 q137 q1311 ⟨rfl, dd_X0_then⟩ ⟨by decide, by decide⟩ dX0_health_12 hz1 rfl (Nat.le_of_ble_eq_true rfl)) rfl (fun _ _ _ => rfl) (fun r3 S4 d5 hd5 => ?_)
    refine J_bd (fun z6 hz6 => ?_)
    refine JR_gFN (pc := 15) (k := 17) G cl_X9 in_X9 (by decide) (by decide) rfl (Or.inl rfl) q373 hz6 dX0_health_15 ?_
    refine JPS_I (pc := 18) (as := [.float (d5.2.1 z6 17)]) (st' := []) G (Jf_floatToIntBits_fn (d5.2.1 z6 17) S4 d5) (JC_S (n := 1) G hRm q1133 q1134 q169 q1135 dd_J15_floatToIntBits ⟨by decide, by decide⟩ dX0_health_18 rfl (Nat.le_of_ble_eq_true rfl)) rfl (fun r7 hr7 => ?_)
    refine JR_goto (pc := 21) (tgt := 26) G dX0_health_21 (by decide) ?_
    exact JR_iret (pc := 26) G hR dX0_health_26 rfl rfl

def Ws_tenths (this : Nat) (p1 : Int32) (p2 : Int32) (S : Sp) (d : Dt) : Option (Int32 × Sp × Dt) :=
  (isK S 0 (some this)).bind fun z1 =>
  (Ws_isThen this p1 p2 S d).bind fun r2 =>
  if r2 = 0 then
    some ((-2), S, d)
  else
    bind3 (Ws_then this p1 p2 S d) fun r3 S4 d5 =>
    (isK S4 8 r3).bind fun z6 =>
    (gf (FP.fmul (d5.2.1 z6 17) 1092616192)).bind fun g7 =>
    some (FP.f2i g7, S4, d5)
set_option maxHeartbeats 4000000 in
theorem Ws_tenths_fn (this : Nat) (p1 : Int32) (p2 : Int32) (S : Sp) (d : Dt) : Fn yX0_tenths (ws_ yX0_tenths cX0_tenths 3 (some .int)) 18 411 [va_rf (some this), .int p1, .int p2] S d rvI Λa (Ws_tenths this p1 p2 S d) := by
  refine Fn.ofJ (own := RX0) (lv := [(0, va_rf (some this)), (1, .int p1), (2, .int p2)]) (by decide +kernel) rfl (by simp [cat_i, cat_l, cat_f, cat_d, rf_cat]) (by simp [lv_args, cat_i, cat_l, cat_f, cat_d, rf_cat]) ?_
  intro X F G hRm hR hI
  unfold Ws_tenths
  refine JR_aload_n (pc := 0) (k := 0) (i := 0) (o := some this) G rfl rfl dX0_tenths_0 ?_
  refine JR_iload_n (pc := 1) (k := 1) (i := 1) G rfl rfl dX0_tenths_1 ?_
  refine JR_iload_n (pc := 2) (k := 2) (i := 2) G rfl rfl dX0_tenths_2 ?_
  refine J_bd (fun z1 hz1 => ?_)
  refine JPV_I (pc := 3) (as := [.int p1, .int p2]) (st' := []) (o := some this) G (Ws_isThen_fn this p1 p2 S d) (JC_V (n := 2) G hRm cl_X0 q1304 q1306 qs48 q137 q1307 ⟨rfl, dd_X0_isThen⟩ ⟨by decide, by decide⟩ dX0_tenths_3 hz1 rfl (Nat.le_of_ble_eq_true rfl)) rfl (fun r2 hr2 => ?_)
  refine JR_if_eq (pc := 6) (tgt := 26) G dX0_tenths_6 (by decide) (fun c8 => ?_) (fun c8 => ?_)
  · refine JR_bipush (pc := 26) (v := (-2)) G (by decide) dX0_tenths_26 ?_
    exact JR_iret (pc := 28) G hR dX0_tenths_28 rfl rfl
  · refine JR_aload_n (pc := 9) (k := 0) (i := 0) (o := some this) G rfl rfl dX0_tenths_9 ?_
    refine JR_iload_n (pc := 10) (k := 1) (i := 1) G rfl rfl dX0_tenths_10 ?_
    refine JR_iload_n (pc := 11) (k := 2) (i := 2) G rfl rfl dX0_tenths_11 ?_
    refine JAV_R (pc := 12) (as := [.int p1, .int p2]) (st' := []) (o := some this) G (Ws_then_fn this p1 p2 S d) (JC_V (n := 2) G hRm cl_X0 q1308 q1310 qs49 q137 q1311 ⟨rfl, dd_X0_then⟩ ⟨by decide, by decide⟩ dX0_tenths_12 hz1 rfl (Nat.le_of_ble_eq_true rfl)) rfl (fun _ _ _ => rfl) (fun r3 S4 d5 hd5 => ?_)
    refine J_bd (fun z6 hz6 => ?_)
    refine JR_gFN (pc := 15) (k := 17) G cl_X9 in_X9 (by decide) (by decide) rfl (Or.inl rfl) q373 hz6 dX0_tenths_15 ?_
    refine JR_ldcwF (pc := 18) G q1202 dX0_tenths_18 ?_
    refine J_bd (fun g7 hg7 => ?_)
    refine JR_fmul (pc := 21) G hg7 dX0_tenths_21 ?_
    refine JR_f2i (pc := 22) G dX0_tenths_22 ?_
    refine JR_goto (pc := 23) (tgt := 28) G dX0_tenths_23 (by decide) ?_
    exact JR_iret (pc := 28) G hR dX0_tenths_28 rfl rfl

def Ws_margin (this : Nat) (p1 : Int32) (p2 : Int32) (S : Sp) (d : Dt) : Option (Int32 × Sp × Dt) :=
  (isK S 0 (some this)).bind fun z1 =>
  (Ws_isThen this p1 p2 S d).bind fun r2 =>
  if ¬ r2 = 0 then
    bind3 (Ws_then this p1 p2 S d) fun r3 S4 d5 =>
    (isK S4 8 r3).bind fun z6 =>
    if ¬ (d5.1 z6 15) = 0 then
      (Jf_floatToIntBits (d5.2.1 z6 18) S4 d5).bind fun r7 =>
      some (r7, S4, d5)
    else
      some ((-1), S4, d5)
  else
    some ((-2), S, d)
set_option maxHeartbeats 4000000 in
theorem Ws_margin_fn (this : Nat) (p1 : Int32) (p2 : Int32) (S : Sp) (d : Dt) : Fn yX0_margin (ws_ yX0_margin cX0_margin 4 (some .int)) 18 411 [va_rf (some this), .int p1, .int p2] S d rvI Λa (Ws_margin this p1 p2 S d) := by
  refine Fn.ofJ (own := RX0) (lv := [(0, va_rf (some this)), (1, .int p1), (2, .int p2)]) (by decide +kernel) rfl (by simp [cat_i, cat_l, cat_f, cat_d, rf_cat]) (by simp [lv_args, cat_i, cat_l, cat_f, cat_d, rf_cat]) ?_
  intro X F G hRm hR hI
  unfold Ws_margin
  refine JR_aload_n (pc := 0) (k := 0) (i := 0) (o := some this) G rfl rfl dX0_margin_0 ?_
  refine JR_iload_n (pc := 1) (k := 1) (i := 1) G rfl rfl dX0_margin_1 ?_
  refine JR_iload_n (pc := 2) (k := 2) (i := 2) G rfl rfl dX0_margin_2 ?_
  refine J_bd (fun z1 hz1 => ?_)
  refine JPV_I (pc := 3) (as := [.int p1, .int p2]) (st' := []) (o := some this) G (Ws_isThen_fn this p1 p2 S d) (JC_V (n := 2) G hRm cl_X0 q1304 q1306 qs48 q137 q1307 ⟨rfl, dd_X0_isThen⟩ ⟨by decide, by decide⟩ dX0_margin_3 hz1 rfl (Nat.le_of_ble_eq_true rfl)) rfl (fun r2 hr2 => ?_)
  refine JR_if_ne (pc := 6) (tgt := 12) G dX0_margin_6 (by decide) (fun c9 => ?_) (fun c9 => ?_)
  · refine JR_aload_n (pc := 12) (k := 0) (i := 0) (o := some this) G rfl rfl dX0_margin_12 ?_
    refine JR_iload_n (pc := 13) (k := 1) (i := 1) G rfl rfl dX0_margin_13 ?_
    refine JR_iload_n (pc := 14) (k := 2) (i := 2) G rfl rfl dX0_margin_14 ?_
    refine JAV_R (pc := 15) (as := [.int p1, .int p2]) (st' := []) (o := some this) G (Ws_then_fn this p1 p2 S d) (JC_V (n := 2) G hRm cl_X0 q1308 q1310 qs49 q137 q1311 ⟨rfl, dd_X0_then⟩ ⟨by decide, by decide⟩ dX0_margin_15 hz1 rfl (Nat.le_of_ble_eq_true rfl)) rfl (fun _ _ _ => rfl) (fun r3 S4 d5 hd5 => ?_)
    refine JR_astore_n (pc := 18) (k := 3) (i := 3) (lv' := [(3, va_rf r3), (0, va_rf (some this)), (1, .int p1), (2, .int p2)]) G rfl (by decide) rfl dX0_margin_18 ?_
    refine JR_aload_n (pc := 19) (k := 3) (i := 3) (o := r3) G rfl rfl dX0_margin_19 ?_
    refine J_bd (fun z6 hz6 => ?_)
    refine JR_gIN (pc := 20) (k := 15) G cl_X9 in_X9 (by decide) (by decide) rfl (Or.inl rfl) q369 hz6 dX0_margin_20 ?_
    refine JR_if_ne (pc := 23) (tgt := 30) G dX0_margin_23 (by decide) (fun c8 => ?_) (fun c8 => ?_)
    · refine JR_aload_n (pc := 30) (k := 3) (i := 3) (o := r3) G rfl rfl dX0_margin_30 ?_
      refine JR_gFN (pc := 31) (k := 18) G cl_X9 in_X9 (by decide) (by decide) rfl (Or.inl rfl) q375 hz6 dX0_margin_31 ?_
      refine JPS_I (pc := 34) (as := [.float (d5.2.1 z6 18)]) (st' := []) G (Jf_floatToIntBits_fn (d5.2.1 z6 18) S4 d5) (JC_S (n := 1) G hRm q1133 q1134 q169 q1135 dd_J15_floatToIntBits ⟨by decide, by decide⟩ dX0_margin_34 rfl (Nat.le_of_ble_eq_true rfl)) rfl (fun r7 hr7 => ?_)
      exact JR_iret (pc := 37) G hR dX0_margin_37 rfl rfl
    · refine JR_iconst (pc := 26) G ci_m1 dX0_margin_26 ?_
      refine JR_goto (pc := 27) (tgt := 37) G dX0_margin_27 (by decide) ?_
      exact JR_iret (pc := 37) G hR dX0_margin_37 rfl rfl
  · refine JR_bipush (pc := 9) (v := (-2)) G (by decide) dX0_margin_9 ?_
    exact JR_iret (pc := 11) G hR dX0_margin_11 rfl rfl

def Ws_mean (this : Nat) (p1 : Int32) (p2 : Int32) (S : Sp) (d : Dt) : Option (Int64 × Sp × Dt) :=
  (isK S 0 (some this)).bind fun z1 =>
  (Ws_isThen this p1 p2 S d).bind fun r2 =>
  if ¬ r2 = 0 then
    bind3 (Ws_then this p1 p2 S d) fun r3 S4 d5 =>
    (isK S4 8 r3).bind fun z6 =>
    if ¬ (d5.1 z6 15) = 0 then
      (gd (FP.ddiv (d5.2.2 z6 19) (FP.i2d (d5.1 z6 15)))).bind fun g7 =>
      (Jd_doubleToLongBits g7 S4 d5).bind fun r8 =>
      some (r8, S4, d5)
    else
      some ((-1), S4, d5)
  else
    some ((-2), S, d)
set_option maxHeartbeats 4000000 in
theorem Ws_mean_fn (this : Nat) (p1 : Int32) (p2 : Int32) (S : Sp) (d : Dt) : Fn yX0_mean (ws_ yX0_mean cX0_mean 4 (some .long)) 18 411 [va_rf (some this), .int p1, .int p2] S d rvL Λa (Ws_mean this p1 p2 S d) := by
  refine Fn.ofJ (own := RX0) (lv := [(0, va_rf (some this)), (1, .int p1), (2, .int p2)]) (by decide +kernel) rfl (by simp [cat_i, cat_l, cat_f, cat_d, rf_cat]) (by simp [lv_args, cat_i, cat_l, cat_f, cat_d, rf_cat]) ?_
  intro X F G hRm hR hI
  unfold Ws_mean
  refine JR_aload_n (pc := 0) (k := 0) (i := 0) (o := some this) G rfl rfl dX0_mean_0 ?_
  refine JR_iload_n (pc := 1) (k := 1) (i := 1) G rfl rfl dX0_mean_1 ?_
  refine JR_iload_n (pc := 2) (k := 2) (i := 2) G rfl rfl dX0_mean_2 ?_
  refine J_bd (fun z1 hz1 => ?_)
  refine JPV_I (pc := 3) (as := [.int p1, .int p2]) (st' := []) (o := some this) G (Ws_isThen_fn this p1 p2 S d) (JC_V (n := 2) G hRm cl_X0 q1304 q1306 qs48 q137 q1307 ⟨rfl, dd_X0_isThen⟩ ⟨by decide, by decide⟩ dX0_mean_3 hz1 rfl (Nat.le_of_ble_eq_true rfl)) rfl (fun r2 hr2 => ?_)
  refine JR_if_ne (pc := 6) (tgt := 13) G dX0_mean_6 (by decide) (fun c10 => ?_) (fun c10 => ?_)
  · refine JR_aload_n (pc := 13) (k := 0) (i := 0) (o := some this) G rfl rfl dX0_mean_13 ?_
    refine JR_iload_n (pc := 14) (k := 1) (i := 1) G rfl rfl dX0_mean_14 ?_
    refine JR_iload_n (pc := 15) (k := 2) (i := 2) G rfl rfl dX0_mean_15 ?_
    refine JAV_R (pc := 16) (as := [.int p1, .int p2]) (st' := []) (o := some this) G (Ws_then_fn this p1 p2 S d) (JC_V (n := 2) G hRm cl_X0 q1308 q1310 qs49 q137 q1311 ⟨rfl, dd_X0_then⟩ ⟨by decide, by decide⟩ dX0_mean_16 hz1 rfl (Nat.le_of_ble_eq_true rfl)) rfl (fun _ _ _ => rfl) (fun r3 S4 d5 hd5 => ?_)
    refine JR_astore_n (pc := 19) (k := 3) (i := 3) (lv' := [(3, va_rf r3), (0, va_rf (some this)), (1, .int p1), (2, .int p2)]) G rfl (by decide) rfl dX0_mean_19 ?_
    refine JR_aload_n (pc := 20) (k := 3) (i := 3) (o := r3) G rfl rfl dX0_mean_20 ?_
    refine J_bd (fun z6 hz6 => ?_)
    refine JR_gIN (pc := 21) (k := 15) G cl_X9 in_X9 (by decide) (by decide) rfl (Or.inl rfl) q369 hz6 dX0_mean_21 ?_
    refine JR_if_ne (pc := 24) (tgt := 33) G dX0_mean_24 (by decide) (fun c9 => ?_) (fun c9 => ?_)
    · refine JR_aload_n (pc := 33) (k := 3) (i := 3) (o := r3) G rfl rfl dX0_mean_33 ?_
      refine JR_gDN (pc := 34) (k := 19) G cl_X9 in_X9 (by decide) (by decide) rfl (Or.inl rfl) q377 hz6 dX0_mean_34 ?_
      refine JR_aload_n (pc := 37) (k := 3) (i := 3) (o := r3) G rfl rfl dX0_mean_37 ?_
      refine JR_gIN (pc := 38) (k := 15) G cl_X9 in_X9 (by decide) (by decide) rfl (Or.inl rfl) q369 hz6 dX0_mean_38 ?_
      refine JR_i2d (pc := 41) G dX0_mean_41 ?_
      refine J_bd (fun g7 hg7 => ?_)
      refine JR_ddiv (pc := 42) G hg7 dX0_mean_42 ?_
      refine JPS_L (pc := 43) (as := [.double g7]) (st' := []) G (Jd_doubleToLongBits_fn g7 S4 d5) (JC_S (n := 1) G hRm q1366 q1367 q171 q1368 dd_J16_doubleToLongBits ⟨by decide, by decide⟩ dX0_mean_43 rfl (Nat.le_of_ble_eq_true rfl)) rfl (fun r8 hr8 => ?_)
      exact JR_lret (pc := 46) G hR dX0_mean_46 rfl rfl
    · refine JR_ldc2 (pc := 27) G q1365 dX0_mean_27 ?_
      refine JR_goto (pc := 30) (tgt := 46) G dX0_mean_30 (by decide) ?_
      exact JR_lret (pc := 46) G hR dX0_mean_46 rfl rfl
  · refine JR_ldc2 (pc := 9) G q1364 dX0_mean_9 ?_
    exact JR_lret (pc := 12) G hR dX0_mean_12 rfl rfl

def Ws_faults_2 (this : Nat) (p1 : Int32) (S : Sp) (d : Dt) : Option (Int32 × Sp × Dt) :=
  (isK S 0 (some this)).bind fun z1 =>
  (Ws_isTick this p1 S d).bind fun r2 =>
  if ¬ r2 = 0 then
    bind3 (Ws_runs this p1 ((-1)) S d) fun _ S3 d4 =>
    (isK S3 0 (some this)).bind fun z5 =>
    some (d4.1 z5 24, S3, d4)
  else
    some ((-2), S, d)
set_option maxHeartbeats 4000000 in
theorem Ws_faults_2_fn (this : Nat) (p1 : Int32) (S : Sp) (d : Dt) : Fn yX0_faults_2 (ws_ yX0_faults_2 cX0_faults_2 2 (some .int)) 16 366 [va_rf (some this), .int p1] S d rvI Λa (Ws_faults_2 this p1 S d) := by
  refine Fn.ofJ (own := RX0) (lv := [(0, va_rf (some this)), (1, .int p1)]) (by decide +kernel) rfl (by simp [cat_i, cat_l, cat_f, cat_d, rf_cat]) (by simp [lv_args, cat_i, cat_l, cat_f, cat_d, rf_cat]) ?_
  intro X F G hRm hR hI
  unfold Ws_faults_2
  refine JR_aload_n (pc := 0) (k := 0) (i := 0) (o := some this) G rfl rfl dX0_faults_2_0 ?_
  refine JR_iload_n (pc := 1) (k := 1) (i := 1) G rfl rfl dX0_faults_2_1 ?_
  refine J_bd (fun z1 hz1 => ?_)
  refine JPV_I (pc := 2) (as := [.int p1]) (st' := []) (o := some this) G (Ws_isTick_fn this p1 S d) (JC_V (n := 1) G hRm cl_X0 q1296 q1298 qs47 q137 q1299 ⟨rfl, dd_X0_isTick⟩ ⟨by decide, by decide⟩ dX0_faults_2_2 hz1 rfl (Nat.le_of_ble_eq_true rfl)) rfl (fun r2 hr2 => ?_)
  refine JR_if_ne (pc := 5) (tgt := 11) G dX0_faults_2_5 (by decide) (fun c6 => ?_) (fun c6 => ?_)
  · refine JR_aload_n (pc := 11) (k := 0) (i := 0) (o := some this) G rfl rfl dX0_faults_2_11 ?_
    refine JR_iload_n (pc := 12) (k := 1) (i := 1) G rfl rfl dX0_faults_2_12 ?_
    refine JR_iconst (pc := 13) G ci_m1 dX0_faults_2_13 ?_
    refine JAV_U (pc := 14) (as := [.int p1, .int ((-1))]) (st' := []) (o := some this) G (Ws_runs_fn this p1 ((-1)) S d) (JC_V (n := 2) G hRm cl_X0 q1147 q1149 qs31 q137 q1150 ⟨rfl, dd_X0_runs⟩ ⟨by decide, by decide⟩ dX0_faults_2_14 hz1 rfl (Nat.le_of_ble_eq_true rfl)) rfl (fun _ _ _ => rfl) (fun _ S3 d4 hd4 => ?_)
    refine JR_aload_n (pc := 17) (k := 0) (i := 0) (o := some this) G rfl rfl dX0_faults_2_17 ?_
    refine J_bd (fun z5 hz5 => ?_)
    refine JR_gI (pc := 18) (k := 24) G cl_X0 in_X0 (by decide) (by decide) rfl (Or.inl rfl) q477 hz5 dX0_faults_2_18 ?_
    exact JR_iret (pc := 21) G hR dX0_faults_2_21 rfl rfl
  · refine JR_bipush (pc := 8) (v := (-2)) G (by decide) dX0_faults_2_8 ?_
    exact JR_iret (pc := 10) G hR dX0_faults_2_10 rfl rfl

def Ws_record (this : Nat) (p1 : Int32) (p2 : Int32) (S : Sp) (d : Dt) : Option (Int32 × Sp × Dt) :=
  (isK S 0 (some this)).bind fun z1 =>
  (isK S 1 (S.2.1 z1 0)).bind fun z2 =>
  (To_is z2 S d).bind fun r3 =>
  if r3 = 0 then
    some ((-2), S, d)
  else
    if p1 < 0 then
      some ((-2), S, d)
    else
      (Ws_in (Int32.toInt64 p2) 0 3 S d).bind fun r4 =>
      if ¬ r4 = 0 then
        bind3 (Ws_all this ((-1)) S d) fun r5 S6 d7 =>
        if p1 < r5 then
          if ¬ p2 = 0 then
            if ¬ p2 = 1 then
              if ¬ p2 = 2 then
                (isK S6 0 (some this)).bind fun z8 =>
                (aix S6 50 (S6.2.1 z8 20) p1).bind fun q9 =>
                some (d7.1 q9.1 q9.2, S6, d7)
              else
                (isK S6 0 (some this)).bind fun z10 =>
                (aix S6 50 (S6.2.1 z10 19) p1).bind fun q11 =>
                some (d7.1 q11.1 q11.2, S6, d7)
            else
              (isK S6 0 (some this)).bind fun z13 =>
              (aix S6 50 (S6.2.1 z13 18) p1).bind fun q14 =>
              some (d7.1 q14.1 q14.2, S6, d7)
          else
            (isK S6 0 (some this)).bind fun z16 =>
            (aix S6 50 (S6.2.1 z16 17) p1).bind fun q17 =>
            some (d7.1 q17.1 q17.2, S6, d7)
        else
          some ((-1), S6, d7)
      else
        some ((-2), S, d)
set_option maxHeartbeats 4000000 in
theorem Ws_record_fn (this : Nat) (p1 : Int32) (p2 : Int32) (S : Sp) (d : Dt) : Fn yX0_record (ws_ yX0_record cX0_record 3 (some .int)) 17 387 [va_rf (some this), .int p1, .int p2] S d rvI Λa (Ws_record this p1 p2 S d) := by
  refine Fn.ofJ (own := RX0) (lv := [(0, va_rf (some this)), (1, .int p1), (2, .int p2)]) (by decide +kernel) rfl (by simp [cat_i, cat_l, cat_f, cat_d, rf_cat]) (by simp [lv_args, cat_i, cat_l, cat_f, cat_d, rf_cat]) ?_
  intro X F G hRm hR hI
  unfold Ws_record
  refine JR_aload_n (pc := 0) (k := 0) (i := 0) (o := some this) G rfl rfl dX0_record_0 ?_
  refine J_bd (fun z1 hz1 => ?_)
  refine JR_gR (pc := 1) (k := 0) G cl_X0 in_X0 (by decide) (by decide) rfl (Or.inl rfl) q451 hz1 dX0_record_1 ?_
  refine J_bd (fun z2 hz2 => ?_)
  refine J_stk (st' := [va_rf (some z2)]) (by rw [(isK_at hz2).1]) ?_
  refine JPV_I (pc := 4) (as := []) (st' := []) (o := some z2) G (To_is_fn z2 S d) (JC_V (n := 0) G hRm cl_X1 q1105 q1106 q1107 q138 q1108 ⟨rfl, dd_X1_is⟩ ⟨by decide, by decide⟩ dX0_record_4 (isK_s hz2) rfl (Nat.le_of_ble_eq_true rfl)) rfl (fun r3 hr3 => ?_)
  refine JR_if_eq (pc := 7) (tgt := 26) G dX0_record_7 (by decide) (fun c22 => ?_) (fun c22 => ?_)
  · refine JR_bipush (pc := 26) (v := (-2)) G (by decide) dX0_record_26 ?_
    exact JR_iret (pc := 28) G hR dX0_record_28 rfl rfl
  · refine JR_iload_n (pc := 10) (k := 1) (i := 1) G rfl rfl dX0_record_10 ?_
    refine JR_if_lt (pc := 11) (tgt := 26) G dX0_record_11 (by decide) (fun c21 => ?_) (fun c21 => ?_)
    · refine JR_bipush (pc := 26) (v := (-2)) G (by decide) dX0_record_26 ?_
      exact JR_iret (pc := 28) G hR dX0_record_28 rfl rfl
    · refine JR_iload_n (pc := 14) (k := 2) (i := 2) G rfl rfl dX0_record_14 ?_
      refine JR_i2l (pc := 15) G dX0_record_15 ?_
      refine JR_lconst (pc := 16) G cl_0 dX0_record_16 ?_
      refine JR_ldc2 (pc := 17) G q1052 dX0_record_17 ?_
      refine JPS_I (pc := 20) (as := [.long (Int32.toInt64 p2), .long 0, .long 3]) (st' := []) G (Ws_in_fn (Int32.toInt64 p2) 0 3 S d) (JC_S (n := 3) G hRm q575 q576 q137 q577 dd_X0_in ⟨by decide, by decide⟩ dX0_record_20 rfl (Nat.le_of_ble_eq_true rfl)) rfl (fun r4 hr4 => ?_)
      refine JR_if_ne (pc := 23) (tgt := 29) G dX0_record_23 (by decide) (fun c20 => ?_) (fun c20 => ?_)
      · refine JR_iload_n (pc := 29) (k := 1) (i := 1) G rfl rfl dX0_record_29 ?_
        refine JR_aload_n (pc := 30) (k := 0) (i := 0) (o := some this) G rfl rfl dX0_record_30 ?_
        refine JR_iconst (pc := 31) G ci_m1 dX0_record_31 ?_
        refine JAV_I (pc := 32) (as := [.int ((-1))]) (st' := [.int p1]) (o := some this) G (Ws_all_fn this ((-1)) S d) (JC_V (n := 1) G hRm cl_X0 q1332 q1334 qs51 q137 q1335 ⟨rfl, dd_X0_all⟩ ⟨by decide, by decide⟩ dX0_record_32 hz1 rfl (Nat.le_of_ble_eq_true rfl)) rfl (fun _ _ _ => rfl) (fun r5 S6 d7 hd7 => ?_)
        refine JR_icmp_lt (pc := 35) (tgt := 40) G dX0_record_35 (by decide) (fun c19 => ?_) (fun c19 => ?_)
        · refine JR_iload_n (pc := 40) (k := 2) (i := 2) G rfl rfl dX0_record_40 ?_
          refine JR_if_ne (pc := 41) (tgt := 53) G dX0_record_41 (by decide) (fun c18 => ?_) (fun c18 => ?_)
          · refine JR_iload_n (pc := 53) (k := 2) (i := 2) G rfl rfl dX0_record_53 ?_
            refine JR_iconst (pc := 54) G ci_1 dX0_record_54 ?_
            refine JR_icmp_ne (pc := 55) (tgt := 67) G dX0_record_55 (by decide) (fun c15 => ?_) (fun c15 => ?_)
            · refine JR_iload_n (pc := 67) (k := 2) (i := 2) G rfl rfl dX0_record_67 ?_
              refine JR_iconst (pc := 68) G ci_2 dX0_record_68 ?_
              refine JR_icmp_ne (pc := 69) (tgt := 81) G dX0_record_69 (by decide) (fun c12 => ?_) (fun c12 => ?_)
              · refine JR_aload_n (pc := 81) (k := 0) (i := 0) (o := some this) G rfl rfl dX0_record_81 ?_
                refine J_bd (fun z8 hz8 => ?_)
                refine JR_gR (pc := 82) (k := 20) G cl_X0 in_X0 (by decide) (by decide) rfl (Or.inl rfl) q473 hz8 dX0_record_82 ?_
                refine JR_iload_n (pc := 85) (k := 1) (i := 1) G rfl rfl dX0_record_85 ?_
                refine J_bd (fun q9 hq9 => ?_)
                refine JR_iaload (pc := 86) G hq9 dX0_record_86 ?_
                exact JR_iret (pc := 87) G hR dX0_record_87 rfl rfl
              · refine JR_aload_n (pc := 72) (k := 0) (i := 0) (o := some this) G rfl rfl dX0_record_72 ?_
                refine J_bd (fun z10 hz10 => ?_)
                refine JR_gR (pc := 73) (k := 19) G cl_X0 in_X0 (by decide) (by decide) rfl (Or.inl rfl) q472 hz10 dX0_record_73 ?_
                refine JR_iload_n (pc := 76) (k := 1) (i := 1) G rfl rfl dX0_record_76 ?_
                refine J_bd (fun q11 hq11 => ?_)
                refine JR_iaload (pc := 77) G hq11 dX0_record_77 ?_
                refine JR_goto (pc := 78) (tgt := 87) G dX0_record_78 (by decide) ?_
                exact JR_iret (pc := 87) G hR dX0_record_87 rfl rfl
            · refine JR_aload_n (pc := 58) (k := 0) (i := 0) (o := some this) G rfl rfl dX0_record_58 ?_
              refine J_bd (fun z13 hz13 => ?_)
              refine JR_gR (pc := 59) (k := 18) G cl_X0 in_X0 (by decide) (by decide) rfl (Or.inl rfl) q471 hz13 dX0_record_59 ?_
              refine JR_iload_n (pc := 62) (k := 1) (i := 1) G rfl rfl dX0_record_62 ?_
              refine J_bd (fun q14 hq14 => ?_)
              refine JR_iaload (pc := 63) G hq14 dX0_record_63 ?_
              refine JR_goto (pc := 64) (tgt := 87) G dX0_record_64 (by decide) ?_
              exact JR_iret (pc := 87) G hR dX0_record_87 rfl rfl
          · refine JR_aload_n (pc := 44) (k := 0) (i := 0) (o := some this) G rfl rfl dX0_record_44 ?_
            refine J_bd (fun z16 hz16 => ?_)
            refine JR_gR (pc := 45) (k := 17) G cl_X0 in_X0 (by decide) (by decide) rfl (Or.inl rfl) q470 hz16 dX0_record_45 ?_
            refine JR_iload_n (pc := 48) (k := 1) (i := 1) G rfl rfl dX0_record_48 ?_
            refine J_bd (fun q17 hq17 => ?_)
            refine JR_iaload (pc := 49) G hq17 dX0_record_49 ?_
            refine JR_goto (pc := 50) (tgt := 87) G dX0_record_50 (by decide) ?_
            exact JR_iret (pc := 87) G hR dX0_record_87 rfl rfl
        · refine JR_iconst (pc := 38) G ci_m1 dX0_record_38 ?_
          exact JR_iret (pc := 39) G hR dX0_record_39 rfl rfl
      · refine JR_bipush (pc := 26) (v := (-2)) G (by decide) dX0_record_26 ?_
        exact JR_iret (pc := 28) G hR dX0_record_28 rfl rfl

def Ws_kinds_b59 (this : Nat) (p1 : Int32) (k36 : Int32 → Int32 → Int32 → Sp → Dt → Option (Int32 × Sp × Dt)) (v2 : Int32) (v4 : Int32) (s0 : Int32) (s1 : Int32) (S : Sp) (d : Dt) : Option (Int32 × Sp × Dt) :=
  (some (s1 + s0)).bind fun x14 =>
  k36 v2 x14 (v4 + 1) S d
def Ws_kinds_h36 (this : Nat) (p1 : Int32) : Nat → Int32 → Int32 → Int32 → Sp → Dt → Option (Int32 × Sp × Dt)
  | 0, _, _, _, _, _ => none
  | f + 1, v2, v3, v4, S, d =>
    if v2 ≤ v4 then
      some (v3, S, d)
    else
      (isK S 0 (some this)).bind fun z10 =>
      (aix S 50 (S.2.1 z10 18) v4).bind fun q11 =>
      Ws_kinds_b59 this p1 (Ws_kinds_h36 this p1 f) v2 v4 (if ¬ (d.1 q11.1 q11.2) = p1 then 0 else 1) v3 S d
def Ws_kinds (this : Nat) (p1 : Int32) (S : Sp) (d : Dt) : Option (Int32 × Sp × Dt) :=
  (isK S 0 (some this)).bind fun z1 =>
  (isK S 1 (S.2.1 z1 0)).bind fun z2 =>
  (To_is z2 S d).bind fun r3 =>
  if r3 = 0 then
    some ((-2), S, d)
  else
    (Ws_in (Int32.toInt64 p1) 1 7 S d).bind fun r4 =>
    if ¬ r4 = 0 then
      bind3 (Ws_all this ((-1)) S d) fun r5 S6 d7 =>
      Ws_kinds_h36 this p1 FU r5 0 0 S6 d7
    else
      some ((-2), S, d)
set_option maxHeartbeats 4000000 in
theorem Ws_kinds_fn (this : Nat) (p1 : Int32) (S : Sp) (d : Dt) : Fn yX0_kinds (ws_ yX0_kinds cX0_kinds 5 (some .int)) 17 387 [va_rf (some this), .int p1] S d rvI Λa (Ws_kinds this p1 S d) := by
  refine Fn.ofJ (own := RX0) (lv := [(0, va_rf (some this)), (1, .int p1)]) (by decide +kernel) rfl (by simp [cat_i, cat_l, cat_f, cat_d, rf_cat]) (by simp [lv_args, cat_i, cat_l, cat_f, cat_d, rf_cat]) ?_
  intro X F G hRm hR hI
  have hWs_kinds_b59 : ∀ (k36 : Int32 → Int32 → Int32 → Sp → Dt → Option (Int32 × Sp × Dt)) (hk36 : ∀ (v2 : Int32) (v3 : Int32) (v4 : Int32) (S : Sp) (d : Dt), J X F Λa S d 36 [(0, va_rf (some this)), (1, .int p1), (2, .int v2), (3, .int v3), (4, .int v4)] [] (k36 v2 v3 v4 S d)) (v2 : Int32) (v4 : Int32) (s0 : Int32) (s1 : Int32) (S : Sp) (d : Dt), J X F Λa S d 59 [(0, va_rf (some this)), (1, .int p1), (2, .int v2), (4, .int v4)] [.int s0, .int s1] (Ws_kinds_b59 this p1 k36 v2 v4 s0 s1 S d) := by
    intro k36 hk36 v2 v4 s0 s1 S d
    unfold Ws_kinds_b59
    refine JR_iadd (pc := 59) G dX0_kinds_59 ?_
    refine J_nm (fun x14 hx14 => ?_)
    refine JR_istore_n (pc := 60) (k := 3) (i := 3) (lv' := [(3, .int x14), (0, va_rf (some this)), (1, .int p1), (2, .int v2), (4, .int v4)]) G rfl (by decide) rfl dX0_kinds_60 ?_
    refine JR_iinc (pc := 61) (i := 4) (v := v4 + 1) (lv' := [(4, .int (v4 + 1)), (3, .int x14), (0, va_rf (some this)), (1, .int p1), (2, .int v2)]) G rfl (congrArg (fun z => v4 + z) (by decide)) (by decide) rfl dX0_kinds_61 ?_
    refine JR_goto (pc := 64) (tgt := 36) G dX0_kinds_64 (by decide) ?_
    refine J_sub [2, 3, 4, 1, 0] rfl ?_
    exact hk36 v2 x14 (v4 + 1) S d
  have hWs_kinds_h36 : ∀ (f : Nat) (v2 : Int32) (v3 : Int32) (v4 : Int32) (S : Sp) (d : Dt), J X F Λa S d 36 [(0, va_rf (some this)), (1, .int p1), (2, .int v2), (3, .int v3), (4, .int v4)] [] (Ws_kinds_h36 this p1 f v2 v3 v4 S d) := by
    intro  f
    induction f with
    | zero => intro v2 v3 v4 S d; exact J_no
    | succ f ih =>
      intro v2 v3 v4 S d
      unfold Ws_kinds_h36
      refine JR_iload (pc := 36) (i := 4) G rfl dX0_kinds_36 ?_
      refine JR_iload_n (pc := 38) (k := 2) (i := 2) G rfl rfl dX0_kinds_38 ?_
      refine JR_icmp_ge (pc := 39) (tgt := 67) G dX0_kinds_39 (by decide) (fun c13 => ?_) (fun c13 => ?_)
      · refine JR_iload_n (pc := 67) (k := 3) (i := 3) G rfl rfl dX0_kinds_67 ?_
        exact JR_iret (pc := 68) G hR dX0_kinds_68 rfl rfl
      · refine JR_iload_n (pc := 42) (k := 3) (i := 3) G rfl rfl dX0_kinds_42 ?_
        refine JR_aload_n (pc := 43) (k := 0) (i := 0) (o := some this) G rfl rfl dX0_kinds_43 ?_
        refine J_bd (fun z10 hz10 => ?_)
        refine JR_gR (pc := 44) (k := 18) G cl_X0 in_X0 (by decide) (by decide) rfl (Or.inl rfl) q471 hz10 dX0_kinds_44 ?_
        refine JR_iload (pc := 47) (i := 4) G rfl dX0_kinds_47 ?_
        refine J_bd (fun q11 hq11 => ?_)
        refine JR_iaload (pc := 49) G hq11 dX0_kinds_49 ?_
        refine JR_iload_n (pc := 50) (k := 1) (i := 1) G rfl rfl dX0_kinds_50 ?_
        refine J_eq (r' := if ¬ (d.1 q11.1 q11.2) = p1 then Ws_kinds_b59 this p1 (Ws_kinds_h36 this p1 f) v2 v4 0 v3 S d else Ws_kinds_b59 this p1 (Ws_kinds_h36 this p1 f) v2 v4 1 v3 S d) (by split <;> rfl) ?_
        refine JR_icmp_ne (pc := 51) (tgt := 58) G dX0_kinds_51 (by decide) (fun c12 => ?_) (fun c12 => ?_)
        · refine JR_iconst (pc := 58) G ci_0 dX0_kinds_58 ?_
          refine J_sub [0, 1, 2, 4] rfl ?_
          exact hWs_kinds_b59 (Ws_kinds_h36 this p1 f) ih v2 v4 0 v3 S d
        · refine JR_iconst (pc := 54) G ci_1 dX0_kinds_54 ?_
          refine JR_goto (pc := 55) (tgt := 59) G dX0_kinds_55 (by decide) ?_
          refine J_sub [0, 1, 2, 4] rfl ?_
          exact hWs_kinds_b59 (Ws_kinds_h36 this p1 f) ih v2 v4 1 v3 S d
  unfold Ws_kinds
  refine JR_aload_n (pc := 0) (k := 0) (i := 0) (o := some this) G rfl rfl dX0_kinds_0 ?_
  refine J_bd (fun z1 hz1 => ?_)
  refine JR_gR (pc := 1) (k := 0) G cl_X0 in_X0 (by decide) (by decide) rfl (Or.inl rfl) q451 hz1 dX0_kinds_1 ?_
  refine J_bd (fun z2 hz2 => ?_)
  refine J_stk (st' := [va_rf (some z2)]) (by rw [(isK_at hz2).1]) ?_
  refine JPV_I (pc := 4) (as := []) (st' := []) (o := some z2) G (To_is_fn z2 S d) (JC_V (n := 0) G hRm cl_X1 q1105 q1106 q1107 q138 q1108 ⟨rfl, dd_X1_is⟩ ⟨by decide, by decide⟩ dX0_kinds_4 (isK_s hz2) rfl (Nat.le_of_ble_eq_true rfl)) rfl (fun r3 hr3 => ?_)
  refine JR_if_eq (pc := 7) (tgt := 22) G dX0_kinds_7 (by decide) (fun c9 => ?_) (fun c9 => ?_)
  · refine JR_bipush (pc := 22) (v := (-2)) G (by decide) dX0_kinds_22 ?_
    exact JR_iret (pc := 24) G hR dX0_kinds_24 rfl rfl
  · refine JR_iload_n (pc := 10) (k := 1) (i := 1) G rfl rfl dX0_kinds_10 ?_
    refine JR_i2l (pc := 11) G dX0_kinds_11 ?_
    refine JR_lconst (pc := 12) G cl_1 dX0_kinds_12 ?_
    refine JR_ldc2 (pc := 13) G q1441 dX0_kinds_13 ?_
    refine JPS_I (pc := 16) (as := [.long (Int32.toInt64 p1), .long 1, .long 7]) (st' := []) G (Ws_in_fn (Int32.toInt64 p1) 1 7 S d) (JC_S (n := 3) G hRm q575 q576 q137 q577 dd_X0_in ⟨by decide, by decide⟩ dX0_kinds_16 rfl (Nat.le_of_ble_eq_true rfl)) rfl (fun r4 hr4 => ?_)
    refine JR_if_ne (pc := 19) (tgt := 25) G dX0_kinds_19 (by decide) (fun c8 => ?_) (fun c8 => ?_)
    · refine JR_aload_n (pc := 25) (k := 0) (i := 0) (o := some this) G rfl rfl dX0_kinds_25 ?_
      refine JR_iconst (pc := 26) G ci_m1 dX0_kinds_26 ?_
      refine JAV_I (pc := 27) (as := [.int ((-1))]) (st' := []) (o := some this) G (Ws_all_fn this ((-1)) S d) (JC_V (n := 1) G hRm cl_X0 q1332 q1334 qs51 q137 q1335 ⟨rfl, dd_X0_all⟩ ⟨by decide, by decide⟩ dX0_kinds_27 hz1 rfl (Nat.le_of_ble_eq_true rfl)) rfl (fun _ _ _ => rfl) (fun r5 S6 d7 hd7 => ?_)
      refine JR_istore_n (pc := 30) (k := 2) (i := 2) (lv' := [(2, .int r5), (0, va_rf (some this)), (1, .int p1)]) G rfl (by decide) rfl dX0_kinds_30 ?_
      refine JR_iconst (pc := 31) G ci_0 dX0_kinds_31 ?_
      refine JR_istore_n (pc := 32) (k := 3) (i := 3) (lv' := [(3, .int 0), (2, .int r5), (0, va_rf (some this)), (1, .int p1)]) G rfl (by decide) rfl dX0_kinds_32 ?_
      refine JR_iconst (pc := 33) G ci_0 dX0_kinds_33 ?_
      refine JR_istore (pc := 34) (i := 4) (lv' := [(4, .int 0), (3, .int 0), (2, .int r5), (0, va_rf (some this)), (1, .int p1)]) G (by decide) rfl dX0_kinds_34 ?_
      refine J_sub [3, 4, 2, 1, 0] rfl ?_
      exact hWs_kinds_h36 FU r5 0 0 S6 d7
    · refine JR_bipush (pc := 22) (v := (-2)) G (by decide) dX0_kinds_22 ?_
      exact JR_iret (pc := 24) G hR dX0_kinds_24 rfl rfl

def Ws_levels_b60 (this : Nat) (p1 : Int32) (p2 : Int32) (k34 : Int32 → Int32 → Sp → Dt → Option (Int32 × Sp × Dt)) (v4 : Int32) (s0 : Int32) (s1 : Int32) (S : Sp) (d : Dt) : Option (Int32 × Sp × Dt) :=
  (some (s1 + s0)).bind fun x12 =>
  k34 x12 (v4 + 1) S d
def Ws_levels_h34 (this : Nat) (p1 : Int32) (p2 : Int32) : Nat → Int32 → Int32 → Sp → Dt → Option (Int32 × Sp × Dt)
  | 0, _, _, _, _ => none
  | f + 1, v3, v4, S, d =>
    (isK S 0 (some this)).bind fun z8 =>
    if (d.1 z8 24) ≤ v4 then
      some (v3, S, d)
    else
      (aix S 50 (S.2.1 z8 20) v4).bind fun q9 =>
      Ws_levels_b60 this p1 p2 (Ws_levels_h34 this p1 p2 f) v4 (if ¬ (d.1 q9.1 q9.2) = p1 then 0 else 1) v3 S d
def Ws_levels (this : Nat) (p1 : Int32) (p2 : Int32) (S : Sp) (d : Dt) : Option (Int32 × Sp × Dt) :=
  (isK S 0 (some this)).bind fun z1 =>
  (Ws_isTick this p2 S d).bind fun r2 =>
  if r2 = 0 then
    some ((-2), S, d)
  else
    (Ws_in (Int32.toInt64 p1) 0 3 S d).bind fun r3 =>
    if ¬ r3 = 0 then
      bind3 (Ws_runs this p2 ((-1)) S d) fun _ S4 d5 =>
      Ws_levels_h34 this p1 p2 FU 0 0 S4 d5
    else
      some ((-2), S, d)
set_option maxHeartbeats 4000000 in
theorem Ws_levels_fn (this : Nat) (p1 : Int32) (p2 : Int32) (S : Sp) (d : Dt) : Fn yX0_levels (ws_ yX0_levels cX0_levels 5 (some .int)) 16 366 [va_rf (some this), .int p1, .int p2] S d rvI Λa (Ws_levels this p1 p2 S d) := by
  refine Fn.ofJ (own := RX0) (lv := [(0, va_rf (some this)), (1, .int p1), (2, .int p2)]) (by decide +kernel) rfl (by simp [cat_i, cat_l, cat_f, cat_d, rf_cat]) (by simp [lv_args, cat_i, cat_l, cat_f, cat_d, rf_cat]) ?_
  intro X F G hRm hR hI
  have hWs_levels_b60 : ∀ (k34 : Int32 → Int32 → Sp → Dt → Option (Int32 × Sp × Dt)) (hk34 : ∀ (v3 : Int32) (v4 : Int32) (S : Sp) (d : Dt), J X F Λa S d 34 [(0, va_rf (some this)), (1, .int p1), (2, .int p2), (3, .int v3), (4, .int v4)] [] (k34 v3 v4 S d)) (v4 : Int32) (s0 : Int32) (s1 : Int32) (S : Sp) (d : Dt), J X F Λa S d 60 [(0, va_rf (some this)), (1, .int p1), (2, .int p2), (4, .int v4)] [.int s0, .int s1] (Ws_levels_b60 this p1 p2 k34 v4 s0 s1 S d) := by
    intro k34 hk34 v4 s0 s1 S d
    unfold Ws_levels_b60
    refine JR_iadd (pc := 60) G dX0_levels_60 ?_
    refine J_nm (fun x12 hx12 => ?_)
    refine JR_istore_n (pc := 61) (k := 3) (i := 3) (lv' := [(3, .int x12), (0, va_rf (some this)), (1, .int p1), (2, .int p2), (4, .int v4)]) G rfl (by decide) rfl dX0_levels_61 ?_
    refine JR_iinc (pc := 62) (i := 4) (v := v4 + 1) (lv' := [(4, .int (v4 + 1)), (3, .int x12), (0, va_rf (some this)), (1, .int p1), (2, .int p2)]) G rfl (congrArg (fun z => v4 + z) (by decide)) (by decide) rfl dX0_levels_62 ?_
    refine JR_goto (pc := 65) (tgt := 34) G dX0_levels_65 (by decide) ?_
    refine J_sub [2, 3, 4, 1, 0] rfl ?_
    exact hk34 x12 (v4 + 1) S d
  have hWs_levels_h34 : ∀ (f : Nat) (v3 : Int32) (v4 : Int32) (S : Sp) (d : Dt), J X F Λa S d 34 [(0, va_rf (some this)), (1, .int p1), (2, .int p2), (3, .int v3), (4, .int v4)] [] (Ws_levels_h34 this p1 p2 f v3 v4 S d) := by
    intro  f
    induction f with
    | zero => intro v3 v4 S d; exact J_no
    | succ f ih =>
      intro v3 v4 S d
      unfold Ws_levels_h34
      refine JR_iload (pc := 34) (i := 4) G rfl dX0_levels_34 ?_
      refine JR_aload_n (pc := 36) (k := 0) (i := 0) (o := some this) G rfl rfl dX0_levels_36 ?_
      refine J_bd (fun z8 hz8 => ?_)
      refine JR_gI (pc := 37) (k := 24) G cl_X0 in_X0 (by decide) (by decide) rfl (Or.inl rfl) q477 hz8 dX0_levels_37 ?_
      refine JR_icmp_ge (pc := 40) (tgt := 68) G dX0_levels_40 (by decide) (fun c11 => ?_) (fun c11 => ?_)
      · refine JR_iload_n (pc := 68) (k := 3) (i := 3) G rfl rfl dX0_levels_68 ?_
        exact JR_iret (pc := 69) G hR dX0_levels_69 rfl rfl
      · refine JR_iload_n (pc := 43) (k := 3) (i := 3) G rfl rfl dX0_levels_43 ?_
        refine JR_aload_n (pc := 44) (k := 0) (i := 0) (o := some this) G rfl rfl dX0_levels_44 ?_
        refine JR_gR (pc := 45) (k := 20) G cl_X0 in_X0 (by decide) (by decide) rfl (Or.inl rfl) q473 hz8 dX0_levels_45 ?_
        refine JR_iload (pc := 48) (i := 4) G rfl dX0_levels_48 ?_
        refine J_bd (fun q9 hq9 => ?_)
        refine JR_iaload (pc := 50) G hq9 dX0_levels_50 ?_
        refine JR_iload_n (pc := 51) (k := 1) (i := 1) G rfl rfl dX0_levels_51 ?_
        refine J_eq (r' := if ¬ (d.1 q9.1 q9.2) = p1 then Ws_levels_b60 this p1 p2 (Ws_levels_h34 this p1 p2 f) v4 0 v3 S d else Ws_levels_b60 this p1 p2 (Ws_levels_h34 this p1 p2 f) v4 1 v3 S d) (by split <;> rfl) ?_
        refine JR_icmp_ne (pc := 52) (tgt := 59) G dX0_levels_52 (by decide) (fun c10 => ?_) (fun c10 => ?_)
        · refine JR_iconst (pc := 59) G ci_0 dX0_levels_59 ?_
          refine J_sub [0, 1, 2, 4] rfl ?_
          exact hWs_levels_b60 (Ws_levels_h34 this p1 p2 f) ih v4 0 v3 S d
        · refine JR_iconst (pc := 55) G ci_1 dX0_levels_55 ?_
          refine JR_goto (pc := 56) (tgt := 60) G dX0_levels_56 (by decide) ?_
          refine J_sub [0, 1, 2, 4] rfl ?_
          exact hWs_levels_b60 (Ws_levels_h34 this p1 p2 f) ih v4 1 v3 S d
  unfold Ws_levels
  refine JR_aload_n (pc := 0) (k := 0) (i := 0) (o := some this) G rfl rfl dX0_levels_0 ?_
  refine JR_iload_n (pc := 1) (k := 2) (i := 2) G rfl rfl dX0_levels_1 ?_
  refine J_bd (fun z1 hz1 => ?_)
  refine JPV_I (pc := 2) (as := [.int p2]) (st' := []) (o := some this) G (Ws_isTick_fn this p2 S d) (JC_V (n := 1) G hRm cl_X0 q1296 q1298 qs47 q137 q1299 ⟨rfl, dd_X0_isTick⟩ ⟨by decide, by decide⟩ dX0_levels_2 hz1 rfl (Nat.le_of_ble_eq_true rfl)) rfl (fun r2 hr2 => ?_)
  refine JR_if_eq (pc := 5) (tgt := 20) G dX0_levels_5 (by decide) (fun c7 => ?_) (fun c7 => ?_)
  · refine JR_bipush (pc := 20) (v := (-2)) G (by decide) dX0_levels_20 ?_
    exact JR_iret (pc := 22) G hR dX0_levels_22 rfl rfl
  · refine JR_iload_n (pc := 8) (k := 1) (i := 1) G rfl rfl dX0_levels_8 ?_
    refine JR_i2l (pc := 9) G dX0_levels_9 ?_
    refine JR_lconst (pc := 10) G cl_0 dX0_levels_10 ?_
    refine JR_ldc2 (pc := 11) G q1052 dX0_levels_11 ?_
    refine JPS_I (pc := 14) (as := [.long (Int32.toInt64 p1), .long 0, .long 3]) (st' := []) G (Ws_in_fn (Int32.toInt64 p1) 0 3 S d) (JC_S (n := 3) G hRm q575 q576 q137 q577 dd_X0_in ⟨by decide, by decide⟩ dX0_levels_14 rfl (Nat.le_of_ble_eq_true rfl)) rfl (fun r3 hr3 => ?_)
    refine JR_if_ne (pc := 17) (tgt := 23) G dX0_levels_17 (by decide) (fun c6 => ?_) (fun c6 => ?_)
    · refine JR_aload_n (pc := 23) (k := 0) (i := 0) (o := some this) G rfl rfl dX0_levels_23 ?_
      refine JR_iload_n (pc := 24) (k := 2) (i := 2) G rfl rfl dX0_levels_24 ?_
      refine JR_iconst (pc := 25) G ci_m1 dX0_levels_25 ?_
      refine JAV_U (pc := 26) (as := [.int p2, .int ((-1))]) (st' := []) (o := some this) G (Ws_runs_fn this p2 ((-1)) S d) (JC_V (n := 2) G hRm cl_X0 q1147 q1149 qs31 q137 q1150 ⟨rfl, dd_X0_runs⟩ ⟨by decide, by decide⟩ dX0_levels_26 hz1 rfl (Nat.le_of_ble_eq_true rfl)) rfl (fun _ _ _ => rfl) (fun _ S4 d5 hd5 => ?_)
      refine JR_iconst (pc := 29) G ci_0 dX0_levels_29 ?_
      refine JR_istore_n (pc := 30) (k := 3) (i := 3) (lv' := [(3, .int 0), (0, va_rf (some this)), (1, .int p1), (2, .int p2)]) G rfl (by decide) rfl dX0_levels_30 ?_
      refine JR_iconst (pc := 31) G ci_0 dX0_levels_31 ?_
      refine JR_istore (pc := 32) (i := 4) (lv' := [(4, .int 0), (3, .int 0), (0, va_rf (some this)), (1, .int p1), (2, .int p2)]) G (by decide) rfl dX0_levels_32 ?_
      refine J_sub [2, 3, 4, 1, 0] rfl ?_
      exact hWs_levels_h34 FU 0 0 S4 d5
    · refine JR_bipush (pc := 20) (v := (-2)) G (by decide) dX0_levels_20 ?_
      exact JR_iret (pc := 22) G hR dX0_levels_22 rfl rfl

def Ws_halts (this : Nat) (S : Sp) (d : Dt) : Option (Int32 × Sp × Dt) :=
  (isK S 0 (some this)).bind fun z1 =>
  (isK S 1 (S.2.1 z1 0)).bind fun z2 =>
  (To_is z2 S d).bind fun r3 =>
  if ¬ r3 = 0 then
    bind3 (Ws_all this ((-1)) S d) fun r4 S5 d6 =>
    (isK S5 0 (some this)).bind fun z7 =>
    some (d6.1 z7 27, S5, d6)
  else
    some ((-2), S, d)
set_option maxHeartbeats 4000000 in
theorem Ws_halts_fn (this : Nat) (S : Sp) (d : Dt) : Fn yX0_halts (ws_ yX0_halts cX0_halts 1 (some .int)) 17 387 [va_rf (some this)] S d rvI Λa (Ws_halts this S d) := by
  refine Fn.ofJ (own := RX0) (lv := [(0, va_rf (some this))]) (by decide +kernel) rfl (by simp [cat_i, cat_l, cat_f, cat_d, rf_cat]) (by simp [lv_args, cat_i, cat_l, cat_f, cat_d, rf_cat]) ?_
  intro X F G hRm hR hI
  unfold Ws_halts
  refine JR_aload_n (pc := 0) (k := 0) (i := 0) (o := some this) G rfl rfl dX0_halts_0 ?_
  refine J_bd (fun z1 hz1 => ?_)
  refine JR_gR (pc := 1) (k := 0) G cl_X0 in_X0 (by decide) (by decide) rfl (Or.inl rfl) q451 hz1 dX0_halts_1 ?_
  refine J_bd (fun z2 hz2 => ?_)
  refine J_stk (st' := [va_rf (some z2)]) (by rw [(isK_at hz2).1]) ?_
  refine JPV_I (pc := 4) (as := []) (st' := []) (o := some z2) G (To_is_fn z2 S d) (JC_V (n := 0) G hRm cl_X1 q1105 q1106 q1107 q138 q1108 ⟨rfl, dd_X1_is⟩ ⟨by decide, by decide⟩ dX0_halts_4 (isK_s hz2) rfl (Nat.le_of_ble_eq_true rfl)) rfl (fun r3 hr3 => ?_)
  refine JR_if_ne (pc := 7) (tgt := 13) G dX0_halts_7 (by decide) (fun c8 => ?_) (fun c8 => ?_)
  · refine JR_aload_n (pc := 13) (k := 0) (i := 0) (o := some this) G rfl rfl dX0_halts_13 ?_
    refine JR_iconst (pc := 14) G ci_m1 dX0_halts_14 ?_
    refine JAV_I (pc := 15) (as := [.int ((-1))]) (st' := []) (o := some this) G (Ws_all_fn this ((-1)) S d) (JC_V (n := 1) G hRm cl_X0 q1332 q1334 qs51 q137 q1335 ⟨rfl, dd_X0_all⟩ ⟨by decide, by decide⟩ dX0_halts_15 hz1 rfl (Nat.le_of_ble_eq_true rfl)) rfl (fun _ _ _ => rfl) (fun r4 S5 d6 hd6 => ?_)
    refine JR_pop (pc := 18) G rfl dX0_halts_18 ?_
    refine JR_aload_n (pc := 19) (k := 0) (i := 0) (o := some this) G rfl rfl dX0_halts_19 ?_
    refine J_bd (fun z7 hz7 => ?_)
    refine JR_gI (pc := 20) (k := 27) G cl_X0 in_X0 (by decide) (by decide) rfl (Or.inl rfl) q485 hz7 dX0_halts_20 ?_
    exact JR_iret (pc := 23) G hR dX0_halts_23 rfl rfl
  · refine JR_bipush (pc := 10) (v := (-2)) G (by decide) dX0_halts_10 ?_
    exact JR_iret (pc := 12) G hR dX0_halts_12 rfl rfl

def Ws_sleeps (this : Nat) (p1 : Int32) (p2 : Int32) (S : Sp) (d : Dt) : Option (Int32 × Sp × Dt) :=
  (isK S 0 (some this)).bind fun z1 =>
  (isK S 1 (S.2.1 z1 0)).bind fun z2 =>
  (Ws_in (Int32.toInt64 p1) 0 (Int32.toInt64 ((d.1 z2 6) - 1)) S d).bind fun r3 =>
  if r3 = 0 then
    some ((-2), S, d)
  else
    (Ws_isTick this p2 S d).bind fun r4 =>
    if ¬ r4 = 0 then
      bind3 (Ws_runs this p2 ((-1)) S d) fun _ S5 d6 =>
      (isK S5 0 (some this)).bind fun z7 =>
      (Ws_isAsleep this p1 p2 S5 d6).bind fun r8 =>
      if r8 = 0 then
        some (0, S5, d6)
      else
        some (1, S5, d6)
    else
      some ((-2), S, d)
set_option maxHeartbeats 4000000 in
theorem Ws_sleeps_fn (this : Nat) (p1 : Int32) (p2 : Int32) (S : Sp) (d : Dt) : Fn yX0_sleeps (ws_ yX0_sleeps cX0_sleeps 3 (some .int)) 16 366 [va_rf (some this), .int p1, .int p2] S d rvI Λa (Ws_sleeps this p1 p2 S d) := by
  refine Fn.ofJ (own := RX0) (lv := [(0, va_rf (some this)), (1, .int p1), (2, .int p2)]) (by decide +kernel) rfl (by simp [cat_i, cat_l, cat_f, cat_d, rf_cat]) (by simp [lv_args, cat_i, cat_l, cat_f, cat_d, rf_cat]) ?_
  intro X F G hRm hR hI
  unfold Ws_sleeps
  refine JR_iload_n (pc := 0) (k := 1) (i := 1) G rfl rfl dX0_sleeps_0 ?_
  refine JR_i2l (pc := 1) G dX0_sleeps_1 ?_
  refine JR_lconst (pc := 2) G cl_0 dX0_sleeps_2 ?_
  refine JR_aload_n (pc := 3) (k := 0) (i := 0) (o := some this) G rfl rfl dX0_sleeps_3 ?_
  refine J_bd (fun z1 hz1 => ?_)
  refine JR_gR (pc := 4) (k := 0) G cl_X0 in_X0 (by decide) (by decide) rfl (Or.inl rfl) q451 hz1 dX0_sleeps_4 ?_
  refine J_bd (fun z2 hz2 => ?_)
  refine JR_gIN (pc := 7) (k := 6) G cl_X1 in_X1 (by decide) (by decide) rfl (Or.inl rfl) q237 hz2 dX0_sleeps_7 ?_
  refine JR_iconst (pc := 10) G ci_1 dX0_sleeps_10 ?_
  refine JR_isub (pc := 11) G dX0_sleeps_11 ?_
  refine JR_i2l (pc := 12) G dX0_sleeps_12 ?_
  refine JPS_I (pc := 13) (as := [.long (Int32.toInt64 p1), .long 0, .long (Int32.toInt64 ((d.1 z2 6) - 1))]) (st' := []) G (Ws_in_fn (Int32.toInt64 p1) 0 (Int32.toInt64 ((d.1 z2 6) - 1)) S d) (JC_S (n := 3) G hRm q575 q576 q137 q577 dd_X0_in ⟨by decide, by decide⟩ dX0_sleeps_13 rfl (Nat.le_of_ble_eq_true rfl)) rfl (fun r3 hr3 => ?_)
  refine JR_if_eq (pc := 16) (tgt := 27) G dX0_sleeps_16 (by decide) (fun c11 => ?_) (fun c11 => ?_)
  · refine JR_bipush (pc := 27) (v := (-2)) G (by decide) dX0_sleeps_27 ?_
    exact JR_iret (pc := 29) G hR dX0_sleeps_29 rfl rfl
  · refine JR_aload_n (pc := 19) (k := 0) (i := 0) (o := some this) G rfl rfl dX0_sleeps_19 ?_
    refine JR_iload_n (pc := 20) (k := 2) (i := 2) G rfl rfl dX0_sleeps_20 ?_
    refine JPV_I (pc := 21) (as := [.int p2]) (st' := []) (o := some this) G (Ws_isTick_fn this p2 S d) (JC_V (n := 1) G hRm cl_X0 q1296 q1298 qs47 q137 q1299 ⟨rfl, dd_X0_isTick⟩ ⟨by decide, by decide⟩ dX0_sleeps_21 hz1 rfl (Nat.le_of_ble_eq_true rfl)) rfl (fun r4 hr4 => ?_)
    refine JR_if_ne (pc := 24) (tgt := 30) G dX0_sleeps_24 (by decide) (fun c10 => ?_) (fun c10 => ?_)
    · refine JR_aload_n (pc := 30) (k := 0) (i := 0) (o := some this) G rfl rfl dX0_sleeps_30 ?_
      refine JR_iload_n (pc := 31) (k := 2) (i := 2) G rfl rfl dX0_sleeps_31 ?_
      refine JR_iconst (pc := 32) G ci_m1 dX0_sleeps_32 ?_
      refine JAV_U (pc := 33) (as := [.int p2, .int ((-1))]) (st' := []) (o := some this) G (Ws_runs_fn this p2 ((-1)) S d) (JC_V (n := 2) G hRm cl_X0 q1147 q1149 qs31 q137 q1150 ⟨rfl, dd_X0_runs⟩ ⟨by decide, by decide⟩ dX0_sleeps_33 hz1 rfl (Nat.le_of_ble_eq_true rfl)) rfl (fun _ _ _ => rfl) (fun _ S5 d6 hd6 => ?_)
      refine JR_aload_n (pc := 36) (k := 0) (i := 0) (o := some this) G rfl rfl dX0_sleeps_36 ?_
      refine JR_iload_n (pc := 37) (k := 1) (i := 1) G rfl rfl dX0_sleeps_37 ?_
      refine JR_iload_n (pc := 38) (k := 2) (i := 2) G rfl rfl dX0_sleeps_38 ?_
      refine J_bd (fun z7 hz7 => ?_)
      refine JPV_I (pc := 39) (as := [.int p1, .int p2]) (st' := []) (o := some this) G (Ws_isAsleep_fn this p1 p2 S5 d6) (JC_V (n := 2) G hRm cl_X0 q1277 q1279 qs45 q137 q1280 ⟨rfl, dd_X0_isAsleep⟩ ⟨by decide, by decide⟩ dX0_sleeps_39 hz7 rfl (Nat.le_of_ble_eq_true rfl)) rfl (fun r8 hr8 => ?_)
      refine JR_if_eq (pc := 42) (tgt := 49) G dX0_sleeps_42 (by decide) (fun c9 => ?_) (fun c9 => ?_)
      · refine JR_iconst (pc := 49) G ci_0 dX0_sleeps_49 ?_
        exact JR_iret (pc := 50) G hR dX0_sleeps_50 rfl rfl
      · refine JR_iconst (pc := 45) G ci_1 dX0_sleeps_45 ?_
        refine JR_goto (pc := 46) (tgt := 50) G dX0_sleeps_46 (by decide) ?_
        exact JR_iret (pc := 50) G hR dX0_sleeps_50 rfl rfl
    · refine JR_bipush (pc := 27) (v := (-2)) G (by decide) dX0_sleeps_27 ?_
      exact JR_iret (pc := 29) G hR dX0_sleeps_29 rfl rfl

def Ws_isRecordOf (this : Nat) (p1 : Int32) (p2 : Option Nat) (S : Sp) (d : Dt) : Option Int32 :=
  (isK S 13 p2).bind fun z1 =>
  if (d.1 z1 0) = 5 then
    (isK S 0 (some this)).bind fun z2 =>
    (aix S 50 (S.2.1 z2 18) p1).bind fun q3 =>
    if (d.1 q3.1 q3.2) < 6 then
      some 0
    else
      (aix S 50 (S.2.1 z2 19) p1).bind fun q4 =>
      if ¬ (d.1 q4.1 q4.2) = (d.1 z1 1) then
        some 0
      else
        some 1
  else
    (isK S 0 (some this)).bind fun z7 =>
    (aix S 50 (S.2.1 z7 18) p1).bind fun q8 =>
    if 6 ≤ (d.1 q8.1 q8.2) then
      some 0
    else
      (aix S 50 (S.2.1 z7 19) p1).bind fun q9 =>
      if ¬ (d.1 q9.1 q9.2) = (d.1 z1 1) then
        some 0
      else
        some 1
set_option maxHeartbeats 4000000 in
theorem Ws_isRecordOf_fn (this : Nat) (p1 : Int32) (p2 : Option Nat) (S : Sp) (d : Dt) : Fn yX0_isRecordOf (ws_ yX0_isRecordOf cX0_isRecordOf 3 (some .boolean)) 0 0 [va_rf (some this), .int p1, va_rf p2] S d rvI Λp (Ws_isRecordOf this p1 p2 S d) := by
  refine Fn.ofJ (own := RX0) (lv := [(0, va_rf (some this)), (1, .int p1), (2, va_rf p2)]) (by decide +kernel) rfl (by simp [cat_i, cat_l, cat_f, cat_d, rf_cat]) (by simp [lv_args, cat_i, cat_l, cat_f, cat_d, rf_cat]) ?_
  intro X F G hRm hR hI
  unfold Ws_isRecordOf
  refine JR_aload_n (pc := 0) (k := 2) (i := 2) (o := p2) G rfl rfl dX0_isRecordOf_0 ?_
  refine J_bd (fun z1 hz1 => ?_)
  refine JR_gIN (pc := 1) (k := 0) G cl_X14 in_X14 (by decide) (by decide) rfl (Or.inl rfl) q955 hz1 dX0_isRecordOf_1 ?_
  refine JR_iconst (pc := 4) G ci_5 dX0_isRecordOf_4 ?_
  refine JR_icmp_eq (pc := 5) (tgt := 38) G dX0_isRecordOf_5 (by decide) (fun c12 => ?_) (fun c12 => ?_)
  · refine JR_aload_n (pc := 38) (k := 0) (i := 0) (o := some this) G rfl rfl dX0_isRecordOf_38 ?_
    refine J_bd (fun z2 hz2 => ?_)
    refine JR_gR (pc := 39) (k := 18) G cl_X0 in_X0 (by decide) (by decide) rfl (Or.inl rfl) q471 hz2 dX0_isRecordOf_39 ?_
    refine JR_iload_n (pc := 42) (k := 1) (i := 1) G rfl rfl dX0_isRecordOf_42 ?_
    refine J_bd (fun q3 hq3 => ?_)
    refine JR_iaload (pc := 43) G hq3 dX0_isRecordOf_43 ?_
    refine JR_bipush (pc := 44) (v := 6) G (by decide) dX0_isRecordOf_44 ?_
    refine JR_icmp_lt (pc := 46) (tgt := 66) G dX0_isRecordOf_46 (by decide) (fun c6 => ?_) (fun c6 => ?_)
    · refine JR_iconst (pc := 66) G ci_0 dX0_isRecordOf_66 ?_
      exact JR_zret (pc := 67) G hR dX0_isRecordOf_67 (Or.inl rfl) rfl rfl
    · refine JR_aload_n (pc := 49) (k := 0) (i := 0) (o := some this) G rfl rfl dX0_isRecordOf_49 ?_
      refine JR_gR (pc := 50) (k := 19) G cl_X0 in_X0 (by decide) (by decide) rfl (Or.inl rfl) q472 hz2 dX0_isRecordOf_50 ?_
      refine JR_iload_n (pc := 53) (k := 1) (i := 1) G rfl rfl dX0_isRecordOf_53 ?_
      refine J_bd (fun q4 hq4 => ?_)
      refine JR_iaload (pc := 54) G hq4 dX0_isRecordOf_54 ?_
      refine JR_aload_n (pc := 55) (k := 2) (i := 2) (o := p2) G rfl rfl dX0_isRecordOf_55 ?_
      refine JR_gIN (pc := 56) (k := 1) G cl_X14 in_X14 (by decide) (by decide) rfl (Or.inl rfl) q957 hz1 dX0_isRecordOf_56 ?_
      refine JR_icmp_ne (pc := 59) (tgt := 66) G dX0_isRecordOf_59 (by decide) (fun c5 => ?_) (fun c5 => ?_)
      · refine JR_iconst (pc := 66) G ci_0 dX0_isRecordOf_66 ?_
        exact JR_zret (pc := 67) G hR dX0_isRecordOf_67 (Or.inl rfl) rfl rfl
      · refine JR_iconst (pc := 62) G ci_1 dX0_isRecordOf_62 ?_
        refine JR_goto (pc := 63) (tgt := 67) G dX0_isRecordOf_63 (by decide) ?_
        exact JR_zret (pc := 67) G hR dX0_isRecordOf_67 (Or.inr rfl) rfl rfl
  · refine JR_aload_n (pc := 8) (k := 0) (i := 0) (o := some this) G rfl rfl dX0_isRecordOf_8 ?_
    refine J_bd (fun z7 hz7 => ?_)
    refine JR_gR (pc := 9) (k := 18) G cl_X0 in_X0 (by decide) (by decide) rfl (Or.inl rfl) q471 hz7 dX0_isRecordOf_9 ?_
    refine JR_iload_n (pc := 12) (k := 1) (i := 1) G rfl rfl dX0_isRecordOf_12 ?_
    refine J_bd (fun q8 hq8 => ?_)
    refine JR_iaload (pc := 13) G hq8 dX0_isRecordOf_13 ?_
    refine JR_bipush (pc := 14) (v := 6) G (by decide) dX0_isRecordOf_14 ?_
    refine JR_icmp_ge (pc := 16) (tgt := 36) G dX0_isRecordOf_16 (by decide) (fun c11 => ?_) (fun c11 => ?_)
    · refine JR_iconst (pc := 36) G ci_0 dX0_isRecordOf_36 ?_
      exact JR_zret (pc := 37) G hR dX0_isRecordOf_37 (Or.inl rfl) rfl rfl
    · refine JR_aload_n (pc := 19) (k := 0) (i := 0) (o := some this) G rfl rfl dX0_isRecordOf_19 ?_
      refine JR_gR (pc := 20) (k := 19) G cl_X0 in_X0 (by decide) (by decide) rfl (Or.inl rfl) q472 hz7 dX0_isRecordOf_20 ?_
      refine JR_iload_n (pc := 23) (k := 1) (i := 1) G rfl rfl dX0_isRecordOf_23 ?_
      refine J_bd (fun q9 hq9 => ?_)
      refine JR_iaload (pc := 24) G hq9 dX0_isRecordOf_24 ?_
      refine JR_aload_n (pc := 25) (k := 2) (i := 2) (o := p2) G rfl rfl dX0_isRecordOf_25 ?_
      refine JR_gIN (pc := 26) (k := 1) G cl_X14 in_X14 (by decide) (by decide) rfl (Or.inl rfl) q957 hz1 dX0_isRecordOf_26 ?_
      refine JR_icmp_ne (pc := 29) (tgt := 36) G dX0_isRecordOf_29 (by decide) (fun c10 => ?_) (fun c10 => ?_)
      · refine JR_iconst (pc := 36) G ci_0 dX0_isRecordOf_36 ?_
        exact JR_zret (pc := 37) G hR dX0_isRecordOf_37 (Or.inl rfl) rfl rfl
      · refine JR_iconst (pc := 32) G ci_1 dX0_isRecordOf_32 ?_
        refine JR_goto (pc := 33) (tgt := 37) G dX0_isRecordOf_33 (by decide) ?_
        exact JR_zret (pc := 37) G hR dX0_isRecordOf_37 (Or.inr rfl) rfl rfl

def Ws_caughtOf_h47 (this : Nat) (p1 : Int32) : Nat → (Option Nat) → Int32 → Int32 → Int32 → Sp → Dt → Option (Int32 × Sp × Dt)
  | 0, _, _, _, _, _, _ => none
  | f + 1, v2, v3, v4, v5, S, d =>
    if v3 ≤ v5 then
      some ((-1), S, d)
    else
      if v4 = ((-1)) then
        some ((-1), S, d)
      else
        (isK S 0 (some this)).bind fun z13 =>
        (aix S 50 (S.2.1 z13 17) v5).bind fun q14 =>
        if (d.1 q14.1 q14.2) < v4 then
          Ws_caughtOf_h47 this p1 f v2 v3 v4 (v5 + 1) S d
        else
          (Ws_isRecordOf this v5 v2 S d).bind fun r15 =>
          if r15 = 0 then
            Ws_caughtOf_h47 this p1 f v2 v3 v4 (v5 + 1) S d
          else
            some ((d.1 q14.1 q14.2) - v4, S, d)
def Ws_caughtOf_b42 (this : Nat) (p1 : Int32) (v2 : Option Nat) (v3 : Int32) (s0 : Int32) (S : Sp) (d : Dt) : Option (Int32 × Sp × Dt) :=
  Ws_caughtOf_h47 this p1 FU v2 v3 s0 0 S d
def Ws_caughtOf (this : Nat) (p1 : Int32) (S : Sp) (d : Dt) : Option (Int32 × Sp × Dt) :=
  (isK S 0 (some this)).bind fun z1 =>
  (isK S 1 (S.2.1 z1 0)).bind fun z2 =>
  (isK S 16 (S.2.1 z2 1)).bind fun z3 =>
  (Jl_get z3 p1 S d).bind fun r4 =>
  (isK S 13 r4).bind fun z5 =>
  bind3 (Ws_all this ((-1)) S d) fun r6 S7 d8 =>
  (isK S7 13 (some z5)).bind fun z9 =>
  if ¬ (d8.1 z9 0) = 5 then
    (isK S7 0 (some this)).bind fun z10 =>
    (aix S7 50 (S7.2.1 z10 23) p1).bind fun q11 =>
    Ws_caughtOf_b42 this p1 (some z5) r6 (d8.1 q11.1 q11.2) S7 d8
  else
    Ws_caughtOf_b42 this p1 (some z5) r6 (d8.1 z9 2) S7 d8
set_option maxHeartbeats 4000000 in
theorem Ws_caughtOf_fn (this : Nat) (p1 : Int32) (S : Sp) (d : Dt) : Fn yX0_caughtOf (ws_ yX0_caughtOf cX0_caughtOf 6 (some .int)) 17 387 [va_rf (some this), .int p1] S d rvI Λa (Ws_caughtOf this p1 S d) := by
  refine Fn.ofJ (own := RX0) (lv := [(0, va_rf (some this)), (1, .int p1)]) (by decide +kernel) rfl (by simp [cat_i, cat_l, cat_f, cat_d, rf_cat]) (by simp [lv_args, cat_i, cat_l, cat_f, cat_d, rf_cat]) ?_
  intro X F G hRm hR hI
  have hWs_caughtOf_h47 : ∀ (f : Nat) (v2 : Option Nat) (v3 : Int32) (v4 : Int32) (v5 : Int32) (S : Sp) (d : Dt), J X F Λa S d 47 [(0, va_rf (some this)), (1, .int p1), (2, va_rf v2), (3, .int v3), (4, .int v4), (5, .int v5)] [] (Ws_caughtOf_h47 this p1 f v2 v3 v4 v5 S d) := by
    intro  f
    induction f with
    | zero => intro v2 v3 v4 v5 S d; exact J_no
    | succ f ih =>
      intro v2 v3 v4 v5 S d
      unfold Ws_caughtOf_h47
      refine JR_iload (pc := 47) (i := 5) G rfl dX0_caughtOf_47 ?_
      refine JR_iload_n (pc := 49) (k := 3) (i := 3) G rfl rfl dX0_caughtOf_49 ?_
      refine JR_icmp_ge (pc := 50) (tgt := 98) G dX0_caughtOf_50 (by decide) (fun c19 => ?_) (fun c19 => ?_)
      · refine JR_iconst (pc := 98) G ci_m1 dX0_caughtOf_98 ?_
        exact JR_iret (pc := 99) G hR dX0_caughtOf_99 rfl rfl
      · refine JR_iload (pc := 53) (i := 4) G rfl dX0_caughtOf_53 ?_
        refine JR_iconst (pc := 55) G ci_m1 dX0_caughtOf_55 ?_
        refine JR_icmp_eq (pc := 56) (tgt := 98) G dX0_caughtOf_56 (by decide) (fun c18 => ?_) (fun c18 => ?_)
        · refine JR_iconst (pc := 98) G ci_m1 dX0_caughtOf_98 ?_
          exact JR_iret (pc := 99) G hR dX0_caughtOf_99 rfl rfl
        · refine JR_aload_n (pc := 59) (k := 0) (i := 0) (o := some this) G rfl rfl dX0_caughtOf_59 ?_
          refine J_bd (fun z13 hz13 => ?_)
          refine JR_gR (pc := 60) (k := 17) G cl_X0 in_X0 (by decide) (by decide) rfl (Or.inl rfl) q470 hz13 dX0_caughtOf_60 ?_
          refine JR_iload (pc := 63) (i := 5) G rfl dX0_caughtOf_63 ?_
          refine J_bd (fun q14 hq14 => ?_)
          refine JR_iaload (pc := 65) G hq14 dX0_caughtOf_65 ?_
          refine JR_iload (pc := 66) (i := 4) G rfl dX0_caughtOf_66 ?_
          refine JR_icmp_lt (pc := 68) (tgt := 92) G dX0_caughtOf_68 (by decide) (fun c17 => ?_) (fun c17 => ?_)
          · refine JR_iinc (pc := 92) (i := 5) (v := v5 + 1) (lv' := [(5, .int (v5 + 1)), (0, va_rf (some this)), (1, .int p1), (2, va_rf v2), (3, .int v3), (4, .int v4)]) G rfl (congrArg (fun z => v5 + z) (by decide)) (by decide) rfl dX0_caughtOf_92 ?_
            refine JR_goto (pc := 95) (tgt := 47) G dX0_caughtOf_95 (by decide) ?_
            refine J_sub [1, 2, 3, 4, 5, 0] rfl ?_
            exact ih v2 v3 v4 (v5 + 1) S d
          · refine JR_aload_n (pc := 71) (k := 0) (i := 0) (o := some this) G rfl rfl dX0_caughtOf_71 ?_
            refine JR_iload (pc := 72) (i := 5) G rfl dX0_caughtOf_72 ?_
            refine JR_aload_n (pc := 74) (k := 2) (i := 2) (o := v2) G rfl rfl dX0_caughtOf_74 ?_
            refine JPV_I (pc := 75) (as := [.int v5, va_rf v2]) (st' := []) (o := some this) G (Ws_isRecordOf_fn this v5 v2 S d) (JC_V (n := 2) G hRm cl_X0 q1462 q1464 qs53 q137 q1465 ⟨rfl, dd_X0_isRecordOf⟩ ⟨by decide, by decide⟩ dX0_caughtOf_75 hz13 rfl (Nat.le_of_ble_eq_true rfl)) rfl (fun r15 hr15 => ?_)
            refine JR_if_eq (pc := 78) (tgt := 92) G dX0_caughtOf_78 (by decide) (fun c16 => ?_) (fun c16 => ?_)
            · refine JR_iinc (pc := 92) (i := 5) (v := v5 + 1) (lv' := [(5, .int (v5 + 1)), (0, va_rf (some this)), (1, .int p1), (2, va_rf v2), (3, .int v3), (4, .int v4)]) G rfl (congrArg (fun z => v5 + z) (by decide)) (by decide) rfl dX0_caughtOf_92 ?_
              refine JR_goto (pc := 95) (tgt := 47) G dX0_caughtOf_95 (by decide) ?_
              refine J_sub [1, 2, 3, 4, 5, 0] rfl ?_
              exact ih v2 v3 v4 (v5 + 1) S d
            · refine JR_aload_n (pc := 81) (k := 0) (i := 0) (o := some this) G rfl rfl dX0_caughtOf_81 ?_
              refine JR_gR (pc := 82) (k := 17) G cl_X0 in_X0 (by decide) (by decide) rfl (Or.inl rfl) q470 hz13 dX0_caughtOf_82 ?_
              refine JR_iload (pc := 85) (i := 5) G rfl dX0_caughtOf_85 ?_
              refine JR_iaload (pc := 87) G hq14 dX0_caughtOf_87 ?_
              refine JR_iload (pc := 88) (i := 4) G rfl dX0_caughtOf_88 ?_
              refine JR_isub (pc := 90) G dX0_caughtOf_90 ?_
              exact JR_iret (pc := 91) G hR dX0_caughtOf_91 rfl rfl
  have hWs_caughtOf_b42 : ∀ (v2 : Option Nat) (v3 : Int32) (s0 : Int32) (S : Sp) (d : Dt), J X F Λa S d 42 [(0, va_rf (some this)), (1, .int p1), (2, va_rf v2), (3, .int v3)] [.int s0] (Ws_caughtOf_b42 this p1 v2 v3 s0 S d) := by
    intro v2 v3 s0 S d
    unfold Ws_caughtOf_b42
    refine JR_istore (pc := 42) (i := 4) (lv' := [(4, .int s0), (0, va_rf (some this)), (1, .int p1), (2, va_rf v2), (3, .int v3)]) G (by decide) rfl dX0_caughtOf_42 ?_
    refine JR_iconst (pc := 44) G ci_0 dX0_caughtOf_44 ?_
    refine JR_istore (pc := 45) (i := 5) (lv' := [(5, .int 0), (4, .int s0), (0, va_rf (some this)), (1, .int p1), (2, va_rf v2), (3, .int v3)]) G (by decide) rfl dX0_caughtOf_45 ?_
    refine J_sub [2, 3, 4, 5, 1, 0] rfl ?_
    exact hWs_caughtOf_h47 FU v2 v3 s0 0 S d
  unfold Ws_caughtOf
  refine JR_aload_n (pc := 0) (k := 0) (i := 0) (o := some this) G rfl rfl dX0_caughtOf_0 ?_
  refine J_bd (fun z1 hz1 => ?_)
  refine JR_gR (pc := 1) (k := 0) G cl_X0 in_X0 (by decide) (by decide) rfl (Or.inl rfl) q451 hz1 dX0_caughtOf_1 ?_
  refine J_bd (fun z2 hz2 => ?_)
  refine JR_gRN (pc := 4) (k := 1) G cl_X1 in_X1 (by decide) (by decide) rfl (Or.inl rfl) q220 hz2 dX0_caughtOf_4 ?_
  refine JR_iload_n (pc := 7) (k := 1) (i := 1) G rfl rfl dX0_caughtOf_7 ?_
  refine J_bd (fun z3 hz3 => ?_)
  refine J_stk (st' := [.int p1, va_rf (some z3)]) (by rw [(isK_at hz3).1]) ?_
  refine JPV_R (pc := 8) (as := [.int p1]) (st' := []) (o := some z3) G (Jl_get_fn z3 p1 S d) (JC_V (n := 1) G hRm cl_J2 q435 q436 q437 q141 q438 ⟨rfl, dd_J2_get⟩ ⟨by decide, by decide⟩ dX0_caughtOf_8 (isK_s hz3) rfl (Nat.le_of_ble_eq_true rfl)) rfl (fun r4 hr4 => ?_)
  refine J_bd (fun z5 hz5 => ?_)
  refine JR_castE (pc := 11) G cl_X14 q1005 hz5 dX0_caughtOf_11 ?_
  refine JR_astore_n (pc := 14) (k := 2) (i := 2) (lv' := [(2, va_rf (some z5)), (0, va_rf (some this)), (1, .int p1)]) G rfl (by decide) rfl dX0_caughtOf_14 ?_
  refine JR_aload_n (pc := 15) (k := 0) (i := 0) (o := some this) G rfl rfl dX0_caughtOf_15 ?_
  refine JR_iconst (pc := 16) G ci_m1 dX0_caughtOf_16 ?_
  refine JAV_I (pc := 17) (as := [.int ((-1))]) (st' := []) (o := some this) G (Ws_all_fn this ((-1)) S d) (JC_V (n := 1) G hRm cl_X0 q1332 q1334 qs51 q137 q1335 ⟨rfl, dd_X0_all⟩ ⟨by decide, by decide⟩ dX0_caughtOf_17 hz1 rfl (Nat.le_of_ble_eq_true rfl)) rfl (fun _ _ _ => rfl) (fun r6 S7 d8 hd8 => ?_)
  refine JR_istore_n (pc := 20) (k := 3) (i := 3) (lv' := [(3, .int r6), (2, va_rf (some z5)), (0, va_rf (some this)), (1, .int p1)]) G rfl (by decide) rfl dX0_caughtOf_20 ?_
  refine JR_aload_n (pc := 21) (k := 2) (i := 2) (o := some z5) G rfl rfl dX0_caughtOf_21 ?_
  refine J_bd (fun z9 hz9 => ?_)
  refine JR_gIN (pc := 22) (k := 0) G cl_X14 in_X14 (by decide) (by decide) rfl (Or.inl rfl) q955 hz9 dX0_caughtOf_22 ?_
  refine JR_iconst (pc := 25) G ci_5 dX0_caughtOf_25 ?_
  refine JR_icmp_ne (pc := 26) (tgt := 36) G dX0_caughtOf_26 (by decide) (fun c12 => ?_) (fun c12 => ?_)
  · refine JR_aload_n (pc := 36) (k := 0) (i := 0) (o := some this) G rfl rfl dX0_caughtOf_36 ?_
    refine J_bd (fun z10 hz10 => ?_)
    refine JR_gR (pc := 37) (k := 23) G cl_X0 in_X0 (by decide) (by decide) rfl (Or.inl rfl) q476 hz10 dX0_caughtOf_37 ?_
    refine JR_iload_n (pc := 40) (k := 1) (i := 1) G rfl rfl dX0_caughtOf_40 ?_
    refine J_bd (fun q11 hq11 => ?_)
    refine JR_iaload (pc := 41) G hq11 dX0_caughtOf_41 ?_
    refine J_sub [2, 3, 1, 0] rfl ?_
    exact hWs_caughtOf_b42 (some z5) r6 (d8.1 q11.1 q11.2) S7 d8
  · refine JR_aload_n (pc := 29) (k := 2) (i := 2) (o := some z5) G rfl rfl dX0_caughtOf_29 ?_
    refine JR_gIN (pc := 30) (k := 2) G cl_X14 in_X14 (by decide) (by decide) rfl (Or.inl rfl) q959 hz9 dX0_caughtOf_30 ?_
    refine JR_goto (pc := 33) (tgt := 42) G dX0_caughtOf_33 (by decide) ?_
    refine J_sub [2, 3, 1, 0] rfl ?_
    exact hWs_caughtOf_b42 (some z5) r6 (d8.1 z9 2) S7 d8

def Ws_caught (this : Nat) (p1 : Int32) (S : Sp) (d : Dt) : Option (Int32 × Sp × Dt) :=
  (isK S 0 (some this)).bind fun z1 =>
  (Ws_isInjection this p1 S d).bind fun r2 =>
  if r2 = 0 then
    some ((-2), S, d)
  else
    bind3 (Ws_caughtOf this p1 S d) fun r3 S4 d5 =>
    some (r3, S4, d5)
set_option maxHeartbeats 4000000 in
theorem Ws_caught_fn (this : Nat) (p1 : Int32) (S : Sp) (d : Dt) : Fn yX0_caught (ws_ yX0_caught cX0_caught 2 (some .int)) 18 412 [va_rf (some this), .int p1] S d rvI Λa (Ws_caught this p1 S d) := by
  refine Fn.ofJ (own := RX0) (lv := [(0, va_rf (some this)), (1, .int p1)]) (by decide +kernel) rfl (by simp [cat_i, cat_l, cat_f, cat_d, rf_cat]) (by simp [lv_args, cat_i, cat_l, cat_f, cat_d, rf_cat]) ?_
  intro X F G hRm hR hI
  unfold Ws_caught
  refine JR_aload_n (pc := 0) (k := 0) (i := 0) (o := some this) G rfl rfl dX0_caught_0 ?_
  refine JR_iload_n (pc := 1) (k := 1) (i := 1) G rfl rfl dX0_caught_1 ?_
  refine J_bd (fun z1 hz1 => ?_)
  refine JPV_I (pc := 2) (as := [.int p1]) (st' := []) (o := some this) G (Ws_isInjection_fn this p1 S d) (JC_V (n := 1) G hRm cl_X0 q1001 q1003 qs22 q137 q1004 ⟨rfl, dd_X0_isInjection⟩ ⟨by decide, by decide⟩ dX0_caught_2 hz1 rfl (Nat.le_of_ble_eq_true rfl)) rfl (fun r2 hr2 => ?_)
  refine JR_if_eq (pc := 5) (tgt := 16) G dX0_caught_5 (by decide) (fun c6 => ?_) (fun c6 => ?_)
  · refine JR_bipush (pc := 16) (v := (-2)) G (by decide) dX0_caught_16 ?_
    exact JR_iret (pc := 18) G hR dX0_caught_18 rfl rfl
  · refine JR_aload_n (pc := 8) (k := 0) (i := 0) (o := some this) G rfl rfl dX0_caught_8 ?_
    refine JR_iload_n (pc := 9) (k := 1) (i := 1) G rfl rfl dX0_caught_9 ?_
    refine JAV_I (pc := 10) (as := [.int p1]) (st' := []) (o := some this) G (Ws_caughtOf_fn this p1 S d) (JC_V (n := 1) G hRm cl_X0 q1458 q1460 qs52 q137 q1461 ⟨rfl, dd_X0_caughtOf⟩ ⟨by decide, by decide⟩ dX0_caught_10 hz1 rfl (Nat.le_of_ble_eq_true rfl)) rfl (fun _ _ _ => rfl) (fun r3 S4 d5 hd5 => ?_)
    refine JR_goto (pc := 13) (tgt := 18) G dX0_caught_13 (by decide) ?_
    exact JR_iret (pc := 18) G hR dX0_caught_18 rfl rfl

def Ws_without (this : Nat) (p1 : Int32) (S : Sp) (d : Dt) : Option (Int32 × Sp × Dt) :=
  (isK S 0 (some this)).bind fun z1 =>
  (Ws_isInjection this p1 S d).bind fun r2 =>
  if r2 = 0 then
    some ((-2), S, d)
  else
    bind3 (Ws_all this p1 S d) fun r3 S4 d5 =>
    some (r3, S4, d5)
set_option maxHeartbeats 4000000 in
theorem Ws_without_fn (this : Nat) (p1 : Int32) (S : Sp) (d : Dt) : Fn yX0_without (ws_ yX0_without cX0_without 2 (some .int)) 17 387 [va_rf (some this), .int p1] S d rvI Λa (Ws_without this p1 S d) := by
  refine Fn.ofJ (own := RX0) (lv := [(0, va_rf (some this)), (1, .int p1)]) (by decide +kernel) rfl (by simp [cat_i, cat_l, cat_f, cat_d, rf_cat]) (by simp [lv_args, cat_i, cat_l, cat_f, cat_d, rf_cat]) ?_
  intro X F G hRm hR hI
  unfold Ws_without
  refine JR_aload_n (pc := 0) (k := 0) (i := 0) (o := some this) G rfl rfl dX0_without_0 ?_
  refine JR_iload_n (pc := 1) (k := 1) (i := 1) G rfl rfl dX0_without_1 ?_
  refine J_bd (fun z1 hz1 => ?_)
  refine JPV_I (pc := 2) (as := [.int p1]) (st' := []) (o := some this) G (Ws_isInjection_fn this p1 S d) (JC_V (n := 1) G hRm cl_X0 q1001 q1003 qs22 q137 q1004 ⟨rfl, dd_X0_isInjection⟩ ⟨by decide, by decide⟩ dX0_without_2 hz1 rfl (Nat.le_of_ble_eq_true rfl)) rfl (fun r2 hr2 => ?_)
  refine JR_if_eq (pc := 5) (tgt := 16) G dX0_without_5 (by decide) (fun c6 => ?_) (fun c6 => ?_)
  · refine JR_bipush (pc := 16) (v := (-2)) G (by decide) dX0_without_16 ?_
    exact JR_iret (pc := 18) G hR dX0_without_18 rfl rfl
  · refine JR_aload_n (pc := 8) (k := 0) (i := 0) (o := some this) G rfl rfl dX0_without_8 ?_
    refine JR_iload_n (pc := 9) (k := 1) (i := 1) G rfl rfl dX0_without_9 ?_
    refine JAV_I (pc := 10) (as := [.int p1]) (st' := []) (o := some this) G (Ws_all_fn this p1 S d) (JC_V (n := 1) G hRm cl_X0 q1332 q1334 qs51 q137 q1335 ⟨rfl, dd_X0_all⟩ ⟨by decide, by decide⟩ dX0_without_10 hz1 rfl (Nat.le_of_ble_eq_true rfl)) rfl (fun _ _ _ => rfl) (fun r3 S4 d5 hd5 => ?_)
    refine JR_goto (pc := 13) (tgt := 18) G dX0_without_13 (by decide) ?_
    exact JR_iret (pc := 18) G hR dX0_without_18 rfl rfl

def Ws_blame_h23 (this : Nat) : Nat → Int32 → Int32 → Int32 → Sp → Dt → Option (Int32 × Sp × Dt)
  | 0, _, _, _, _, _ => none
  | f + 1, v1, v2, v3, S, d =>
    (isK S 0 (some this)).bind fun z8 =>
    (isK S 1 (S.2.1 z8 0)).bind fun z9 =>
    (isK S 16 (S.2.1 z9 1)).bind fun z10 =>
    (Jl_size z10 S d).bind fun r11 =>
    if r11 ≤ v3 then
      some (v2, S, d)
    else
      bind3 (Ws_all this v3 S d) fun r12 S13 d14 =>
      Ws_blame_h23 this f (if r12 < v1 then r12 else v1) (if r12 < v1 then v3 else v2) (v3 + 1) S13 d14
def Ws_blame (this : Nat) (S : Sp) (d : Dt) : Option (Int32 × Sp × Dt) :=
  (isK S 0 (some this)).bind fun z1 =>
  (isK S 1 (S.2.1 z1 0)).bind fun z2 =>
  (To_is z2 S d).bind fun r3 =>
  if ¬ r3 = 0 then
    bind3 (Ws_all this ((-1)) S d) fun r4 S5 d6 =>
    Ws_blame_h23 this FU r4 ((-1)) 0 S5 d6
  else
    some ((-2), S, d)
set_option maxHeartbeats 4000000 in
theorem Ws_blame_fn (this : Nat) (S : Sp) (d : Dt) : Fn yX0_blame (ws_ yX0_blame cX0_blame 5 (some .int)) 17 387 [va_rf (some this)] S d rvI Λa (Ws_blame this S d) := by
  refine Fn.ofJ (own := RX0) (lv := [(0, va_rf (some this))]) (by decide +kernel) rfl (by simp [cat_i, cat_l, cat_f, cat_d, rf_cat]) (by simp [lv_args, cat_i, cat_l, cat_f, cat_d, rf_cat]) ?_
  intro X F G hRm hR hI
  have hWs_blame_h23 : ∀ (f : Nat) (v1 : Int32) (v2 : Int32) (v3 : Int32) (S : Sp) (d : Dt), J X F Λa S d 23 [(0, va_rf (some this)), (1, .int v1), (2, .int v2), (3, .int v3)] [] (Ws_blame_h23 this f v1 v2 v3 S d) := by
    intro  f
    induction f with
    | zero => intro v1 v2 v3 S d; exact J_no
    | succ f ih =>
      intro v1 v2 v3 S d
      unfold Ws_blame_h23
      refine JR_iload_n (pc := 23) (k := 3) (i := 3) G rfl rfl dX0_blame_23 ?_
      refine JR_aload_n (pc := 24) (k := 0) (i := 0) (o := some this) G rfl rfl dX0_blame_24 ?_
      refine J_bd (fun z8 hz8 => ?_)
      refine JR_gR (pc := 25) (k := 0) G cl_X0 in_X0 (by decide) (by decide) rfl (Or.inl rfl) q451 hz8 dX0_blame_25 ?_
      refine J_bd (fun z9 hz9 => ?_)
      refine JR_gRN (pc := 28) (k := 1) G cl_X1 in_X1 (by decide) (by decide) rfl (Or.inl rfl) q220 hz9 dX0_blame_28 ?_
      refine J_bd (fun z10 hz10 => ?_)
      refine J_stk (st' := [va_rf (some z10), .int v3]) (by rw [(isK_at hz10).1]) ?_
      refine JPV_I (pc := 31) (as := []) (st' := [.int v3]) (o := some z10) G (Jl_size_fn z10 S d) (JC_V (n := 0) G hRm cl_J2 q427 q428 q429 q141 q430 ⟨rfl, dd_J2_size⟩ ⟨by decide, by decide⟩ dX0_blame_31 (isK_s hz10) rfl (Nat.le_of_ble_eq_true rfl)) rfl (fun r11 hr11 => ?_)
      refine JR_icmp_ge (pc := 34) (tgt := 64) G dX0_blame_34 (by decide) (fun c16 => ?_) (fun c16 => ?_)
      · refine JR_iload_n (pc := 64) (k := 2) (i := 2) G rfl rfl dX0_blame_64 ?_
        exact JR_iret (pc := 65) G hR dX0_blame_65 rfl rfl
      · refine JR_aload_n (pc := 37) (k := 0) (i := 0) (o := some this) G rfl rfl dX0_blame_37 ?_
        refine JR_iload_n (pc := 38) (k := 3) (i := 3) G rfl rfl dX0_blame_38 ?_
        refine JAV_I (pc := 39) (as := [.int v3]) (st' := []) (o := some this) G (Ws_all_fn this v3 S d) (JC_V (n := 1) G hRm cl_X0 q1332 q1334 qs51 q137 q1335 ⟨rfl, dd_X0_all⟩ ⟨by decide, by decide⟩ dX0_blame_39 hz8 rfl (Nat.le_of_ble_eq_true rfl)) rfl (fun _ _ _ => rfl) (fun r12 S13 d14 hd14 => ?_)
        refine JR_istore (pc := 42) (i := 4) (lv' := [(4, .int r12), (0, va_rf (some this)), (1, .int v1), (2, .int v2), (3, .int v3)]) G (by decide) rfl dX0_blame_42 ?_
        refine JR_iload (pc := 44) (i := 4) G rfl dX0_blame_44 ?_
        refine JR_iload_n (pc := 46) (k := 1) (i := 1) G rfl rfl dX0_blame_46 ?_
        refine J_eq (r' := if r12 < v1 then Ws_blame_h23 this f r12 v3 (v3 + 1) S13 d14 else Ws_blame_h23 this f v1 v2 (v3 + 1) S13 d14) (by split <;> rfl) ?_
        refine JR_icmp_lt (pc := 47) (tgt := 53) G dX0_blame_47 (by decide) (fun c15 => ?_) (fun c15 => ?_)
        · refine JR_iload_n (pc := 53) (k := 3) (i := 3) G rfl rfl dX0_blame_53 ?_
          refine JR_istore_n (pc := 54) (k := 2) (i := 2) (lv' := [(2, .int v3), (4, .int r12), (0, va_rf (some this)), (1, .int v1), (3, .int v3)]) G rfl (by decide) rfl dX0_blame_54 ?_
          refine JR_iload (pc := 55) (i := 4) G rfl dX0_blame_55 ?_
          refine JR_istore_n (pc := 57) (k := 1) (i := 1) (lv' := [(1, .int r12), (2, .int v3), (4, .int r12), (0, va_rf (some this)), (3, .int v3)]) G rfl (by decide) rfl dX0_blame_57 ?_
          refine JR_iinc (pc := 58) (i := 3) (v := v3 + 1) (lv' := [(3, .int (v3 + 1)), (1, .int r12), (2, .int v3), (4, .int r12), (0, va_rf (some this))]) G rfl (congrArg (fun z => v3 + z) (by decide)) (by decide) rfl dX0_blame_58 ?_
          refine JR_goto (pc := 61) (tgt := 23) G dX0_blame_61 (by decide) ?_
          refine J_sub [4, 1, 2, 0] rfl ?_
          exact ih r12 v3 (v3 + 1) S13 d14
        · refine JR_goto (pc := 50) (tgt := 58) G dX0_blame_50 (by decide) ?_
          refine JR_iinc (pc := 58) (i := 3) (v := v3 + 1) (lv' := [(3, .int (v3 + 1)), (4, .int r12), (0, va_rf (some this)), (1, .int v1), (2, .int v2)]) G rfl (congrArg (fun z => v3 + z) (by decide)) (by decide) rfl dX0_blame_58 ?_
          refine JR_goto (pc := 61) (tgt := 23) G dX0_blame_61 (by decide) ?_
          refine J_sub [2, 3, 4, 0] rfl ?_
          exact ih v1 v2 (v3 + 1) S13 d14
  unfold Ws_blame
  refine JR_aload_n (pc := 0) (k := 0) (i := 0) (o := some this) G rfl rfl dX0_blame_0 ?_
  refine J_bd (fun z1 hz1 => ?_)
  refine JR_gR (pc := 1) (k := 0) G cl_X0 in_X0 (by decide) (by decide) rfl (Or.inl rfl) q451 hz1 dX0_blame_1 ?_
  refine J_bd (fun z2 hz2 => ?_)
  refine J_stk (st' := [va_rf (some z2)]) (by rw [(isK_at hz2).1]) ?_
  refine JPV_I (pc := 4) (as := []) (st' := []) (o := some z2) G (To_is_fn z2 S d) (JC_V (n := 0) G hRm cl_X1 q1105 q1106 q1107 q138 q1108 ⟨rfl, dd_X1_is⟩ ⟨by decide, by decide⟩ dX0_blame_4 (isK_s hz2) rfl (Nat.le_of_ble_eq_true rfl)) rfl (fun r3 hr3 => ?_)
  refine JR_if_ne (pc := 7) (tgt := 13) G dX0_blame_7 (by decide) (fun c7 => ?_) (fun c7 => ?_)
  · refine JR_aload_n (pc := 13) (k := 0) (i := 0) (o := some this) G rfl rfl dX0_blame_13 ?_
    refine JR_iconst (pc := 14) G ci_m1 dX0_blame_14 ?_
    refine JAV_I (pc := 15) (as := [.int ((-1))]) (st' := []) (o := some this) G (Ws_all_fn this ((-1)) S d) (JC_V (n := 1) G hRm cl_X0 q1332 q1334 qs51 q137 q1335 ⟨rfl, dd_X0_all⟩ ⟨by decide, by decide⟩ dX0_blame_15 hz1 rfl (Nat.le_of_ble_eq_true rfl)) rfl (fun _ _ _ => rfl) (fun r4 S5 d6 hd6 => ?_)
    refine JR_istore_n (pc := 18) (k := 1) (i := 1) (lv' := [(1, .int r4), (0, va_rf (some this))]) G rfl (by decide) rfl dX0_blame_18 ?_
    refine JR_iconst (pc := 19) G ci_m1 dX0_blame_19 ?_
    refine JR_istore_n (pc := 20) (k := 2) (i := 2) (lv' := [(2, .int ((-1))), (1, .int r4), (0, va_rf (some this))]) G rfl (by decide) rfl dX0_blame_20 ?_
    refine JR_iconst (pc := 21) G ci_0 dX0_blame_21 ?_
    refine JR_istore_n (pc := 22) (k := 3) (i := 3) (lv' := [(3, .int 0), (2, .int ((-1))), (1, .int r4), (0, va_rf (some this))]) G rfl (by decide) rfl dX0_blame_22 ?_
    refine J_sub [3, 2, 1, 0] rfl ?_
    exact hWs_blame_h23 FU r4 ((-1)) 0 S5 d6
  · refine JR_bipush (pc := 10) (v := (-2)) G (by decide) dX0_blame_10 ?_
    exact JR_iret (pc := 12) G hR dX0_blame_12 rfl rfl

def Ws_allWith (this : Nat) (p1 : Int32) (p2 : Int32) (p3 : Int32) (S : Sp) (d : Dt) : Option (Int32 × Sp × Dt) :=
  (isK S 0 (some this)).bind fun z1 =>
  (arI S (S.2.1 z1 21)).bind fun q2 =>
  bind2 (some (mmNew S (50, q2.2) q2.2, mmCln S d q2.1)) fun S3 d4 =>
  (aln S3 50 (some S.1.length)).bind fun n5 =>
  (isK S3 0 (some this)).bind fun z6 =>
  (arI S3 (S3.2.1 z6 22)).bind fun q7 =>
  bind2 (some (mmNew S3 (50, q7.2) q7.2, mmCln S3 d4 q7.1)) fun S8 d9 =>
  (aln S8 50 (some S3.1.length)).bind fun n10 =>
  (isK S8 0 (some this)).bind fun z11 =>
  (aix S8 50 (S8.2.1 z11 21) p1).bind fun q12 =>
  (some (dI d9 q12.1 q12.2 p2)).bind fun d13 =>
  (aix S8 50 (S8.2.1 z11 22) p1).bind fun q14 =>
  (some (dI d13 q14.1 q14.2 p3)).bind fun d15 =>
  bind3 (Ws_all this ((-1)) S8 d15) fun r16 S17 d18 =>
  (isK S17 0 (some this)).bind fun z19 =>
  (gcp S17 50 (some S.1.length) (S17.2.1 z19 21) 0 0 5).bind fun q20 =>
  (some ((c2 d18.1 q20.1 q20.2 (Int32.toNatClampNeg 0) (Int32.toNatClampNeg 0) (Int32.toNatClampNeg 5), d18.2))).bind fun d21 =>
  (gcp S17 50 (some S3.1.length) (S17.2.1 z19 22) 0 0 5).bind fun q22 =>
  (some ((c2 d21.1 q22.1 q22.2 (Int32.toNatClampNeg 0) (Int32.toNatClampNeg 0) (Int32.toNatClampNeg 5), d21.2))).bind fun d23 =>
  some (r16, S17, d23)
set_option maxHeartbeats 4000000 in
theorem Ws_allWith_fn (this : Nat) (p1 : Int32) (p2 : Int32) (p3 : Int32) (S : Sp) (d : Dt) : Fn yX0_allWith (wsW_ yX0_allWith cX0_allWith 8 (some .int) [((24), (45), (72), (0)), ((72), (74), (72), (0))]) 17 387 [va_rf (some this), .int p1, .int p2, .int p3] S d rvI Λa (Ws_allWith this p1 p2 p3 S d) := by
  refine Fn.ofJH (own := RX0) (lv := [(0, va_rf (some this)), (1, .int p1), (2, .int p2), (3, .int p3)]) (by decide +kernel) rfl (by simp [cat_i, cat_l, cat_f, cat_d, rf_cat]) (by simp [lv_args, cat_i, cat_l, cat_f, cat_d, rf_cat]) ?_
  intro X F G hRm hR hE
  unfold Ws_allWith
  refine JR_aload_n (pc := 0) (k := 0) (i := 0) (o := some this) G rfl rfl dX0_allWith_0 ?_
  refine J_bd (fun z1 hz1 => ?_)
  refine JR_gR (pc := 1) (k := 21) G cl_X0 in_X0 (by decide) (by decide) rfl (Or.inl rfl) q474 hz1 dX0_allWith_1 ?_
  refine J_bd (fun q2 hq2 => ?_)
  refine JW_clone (pc := 4) G hRm q1483 q1484 q1485 q1486 q1487 q1488 ⟨by decide, by decide⟩ (Nat.le_of_ble_eq_true rfl) (arI_at hq2).1 (arI_at hq2).2 (fun _ => rfl) dX0_allWith_4 ?_
  refine J_nm2 (fun S3 d4 hS3 hd4 => ?_)
  refine J_bd (fun n5 hn5 => ?_)
  refine JR_castI (pc := 7) G q1489 hn5 dX0_allWith_7 ?_
  refine JR_astore (pc := 10) (i := 4) (lv' := [(4, va_rf (some S.1.length)), (0, va_rf (some this)), (1, .int p1), (2, .int p2), (3, .int p3)]) G (by decide) rfl dX0_allWith_10 ?_
  refine JR_aload_n (pc := 12) (k := 0) (i := 0) (o := some this) G rfl rfl dX0_allWith_12 ?_
  refine J_bd (fun z6 hz6 => ?_)
  refine JR_gR (pc := 13) (k := 22) G cl_X0 in_X0 (by decide) (by decide) rfl (Or.inl rfl) q475 hz6 dX0_allWith_13 ?_
  refine J_bd (fun q7 hq7 => ?_)
  refine JW_clone (pc := 16) G hRm q1483 q1484 q1485 q1486 q1487 q1488 ⟨by decide, by decide⟩ (Nat.le_of_ble_eq_true rfl) (arI_at hq7).1 (arI_at hq7).2 (fun _ => rfl) dX0_allWith_16 ?_
  refine J_nm2 (fun S8 d9 hS8 hd9 => ?_)
  refine J_bd (fun n10 hn10 => ?_)
  refine JR_castI (pc := 19) G q1489 hn10 dX0_allWith_19 ?_
  refine JR_astore (pc := 22) (i := 5) (lv' := [(5, va_rf (some S3.1.length)), (4, va_rf (some S.1.length)), (0, va_rf (some this)), (1, .int p1), (2, .int p2), (3, .int p3)]) G (by decide) rfl dX0_allWith_22 ?_
  refine JR_aload_n (pc := 24) (k := 0) (i := 0) (o := some this) G rfl rfl dX0_allWith_24 ?_
  refine J_bd (fun z11 hz11 => ?_)
  refine JR_gR (pc := 25) (k := 21) G cl_X0 in_X0 (by decide) (by decide) rfl (Or.inl rfl) q474 hz11 dX0_allWith_25 ?_
  refine JR_iload_n (pc := 28) (k := 1) (i := 1) G rfl rfl dX0_allWith_28 ?_
  refine JR_iload_n (pc := 29) (k := 2) (i := 2) G rfl rfl dX0_allWith_29 ?_
  refine J_bd (fun q12 hq12 => ?_)
  refine JW_iastore (pc := 30) G hq12 (fun _ => rfl) dX0_allWith_30 ?_
  refine J_nmD (fun d13 hd13 => ?_)
  refine JR_aload_n (pc := 31) (k := 0) (i := 0) (o := some this) G rfl rfl dX0_allWith_31 ?_
  refine JR_gR (pc := 32) (k := 22) G cl_X0 in_X0 (by decide) (by decide) rfl (Or.inl rfl) q475 hz11 dX0_allWith_32 ?_
  refine JR_iload_n (pc := 35) (k := 1) (i := 1) G rfl rfl dX0_allWith_35 ?_
  refine JR_iload_n (pc := 36) (k := 3) (i := 3) G rfl rfl dX0_allWith_36 ?_
  refine J_bd (fun q14 hq14 => ?_)
  refine JW_iastore (pc := 37) G hq14 (fun _ => rfl) dX0_allWith_37 ?_
  refine J_nmD (fun d15 hd15 => ?_)
  refine JR_aload_n (pc := 38) (k := 0) (i := 0) (o := some this) G rfl rfl dX0_allWith_38 ?_
  refine JR_iconst (pc := 39) G ci_m1 dX0_allWith_39 ?_
  refine JAV_I (pc := 40) (as := [.int ((-1))]) (st' := []) (o := some this) G (Ws_all_fn this ((-1)) S8 d15) (JC_V (n := 1) G hRm cl_X0 q1332 q1334 qs51 q137 q1335 ⟨rfl, dd_X0_all⟩ ⟨by decide, by decide⟩ dX0_allWith_40 hz11 rfl (Nat.le_of_ble_eq_true rfl)) rfl (fun _ _ _ => rfl) (fun r16 S17 d18 hd18 => ?_)
  refine JR_istore (pc := 43) (i := 6) (lv' := [(6, .int r16), (5, va_rf (some S3.1.length)), (4, va_rf (some S.1.length)), (0, va_rf (some this)), (1, .int p1), (2, .int p2), (3, .int p3)]) G (by decide) rfl dX0_allWith_43 ?_
  refine JR_aload (pc := 45) (i := 4) (o := some S.1.length) G rfl dX0_allWith_45 ?_
  refine JR_iconst (pc := 47) G ci_0 dX0_allWith_47 ?_
  refine JR_aload_n (pc := 48) (k := 0) (i := 0) (o := some this) G rfl rfl dX0_allWith_48 ?_
  refine J_bd (fun z19 hz19 => ?_)
  refine JR_gR (pc := 49) (k := 21) G cl_X0 in_X0 (by decide) (by decide) rfl (Or.inl rfl) q474 hz19 dX0_allWith_49 ?_
  refine JR_iconst (pc := 52) G ci_0 dX0_allWith_52 ?_
  refine JR_iconst (pc := 53) G ci_5 dX0_allWith_53 ?_
  refine J_bd (fun q20 hq20 => ?_)
  refine JW_copyI (pc := 54) G hRm q1490 q918 q917 q165 ⟨by decide, by decide⟩ (Nat.le_of_ble_eq_true rfl) hq20 (fun _ => rfl) dX0_allWith_54 ?_
  refine J_nmD (fun d21 hd21 => ?_)
  refine JR_aload (pc := 57) (i := 5) (o := some S3.1.length) G rfl dX0_allWith_57 ?_
  refine JR_iconst (pc := 59) G ci_0 dX0_allWith_59 ?_
  refine JR_aload_n (pc := 60) (k := 0) (i := 0) (o := some this) G rfl rfl dX0_allWith_60 ?_
  refine JR_gR (pc := 61) (k := 22) G cl_X0 in_X0 (by decide) (by decide) rfl (Or.inl rfl) q475 hz19 dX0_allWith_61 ?_
  refine JR_iconst (pc := 64) G ci_0 dX0_allWith_64 ?_
  refine JR_iconst (pc := 65) G ci_5 dX0_allWith_65 ?_
  refine J_bd (fun q22 hq22 => ?_)
  refine JW_copyI (pc := 66) G hRm q1490 q918 q917 q165 ⟨by decide, by decide⟩ (Nat.le_of_ble_eq_true rfl) hq22 (fun _ => rfl) dX0_allWith_66 ?_
  refine J_nmD (fun d23 hd23 => ?_)
  refine JR_iload (pc := 69) (i := 6) G rfl dX0_allWith_69 ?_
  exact JR_iret (pc := 71) G hR dX0_allWith_71 rfl rfl

def Ws_with (this : Nat) (p1 : Int32) (p2 : Int32) (p3 : Int32) (S : Sp) (d : Dt) : Option (Int32 × Sp × Dt) :=
  (isK S 0 (some this)).bind fun z1 =>
  (Ws_isTask this p1 S d).bind fun r2 =>
  if r2 = 0 then
    some ((-2), S, d)
  else
    (Ws_in (Int32.toInt64 p2) 0 99 S d).bind fun r3 =>
    if r3 = 0 then
      some ((-2), S, d)
    else
      if p3 ≤ p2 then
        some ((-2), S, d)
      else
        if 120 < p3 then
          some ((-2), S, d)
        else
          bind3 (Ws_allWith this p1 p2 p3 S d) fun r4 S5 d6 =>
          some (r4, S5, d6)
set_option maxHeartbeats 4000000 in
theorem Ws_with_fn (this : Nat) (p1 : Int32) (p2 : Int32) (p3 : Int32) (S : Sp) (d : Dt) : Fn yX0_with (ws_ yX0_with cX0_with 4 (some .int)) 18 414 [va_rf (some this), .int p1, .int p2, .int p3] S d rvI Λa (Ws_with this p1 p2 p3 S d) := by
  refine Fn.ofJ (own := RX0) (lv := [(0, va_rf (some this)), (1, .int p1), (2, .int p2), (3, .int p3)]) (by decide +kernel) rfl (by simp [cat_i, cat_l, cat_f, cat_d, rf_cat]) (by simp [lv_args, cat_i, cat_l, cat_f, cat_d, rf_cat]) ?_
  intro X F G hRm hR hI
  unfold Ws_with
  refine JR_aload_n (pc := 0) (k := 0) (i := 0) (o := some this) G rfl rfl dX0_with_0 ?_
  refine JR_iload_n (pc := 1) (k := 1) (i := 1) G rfl rfl dX0_with_1 ?_
  refine J_bd (fun z1 hz1 => ?_)
  refine JPV_I (pc := 2) (as := [.int p1]) (st' := []) (o := some this) G (Ws_isTask_fn this p1 S d) (JC_V (n := 1) G hRm cl_X0 q985 q987 qs21 q137 q988 ⟨rfl, dd_X0_isTask⟩ ⟨by decide, by decide⟩ dX0_with_2 hz1 rfl (Nat.le_of_ble_eq_true rfl)) rfl (fun r2 hr2 => ?_)
  refine JR_if_eq (pc := 5) (tgt := 41) G dX0_with_5 (by decide) (fun c10 => ?_) (fun c10 => ?_)
  · refine JR_bipush (pc := 41) (v := (-2)) G (by decide) dX0_with_41 ?_
    exact JR_iret (pc := 43) G hR dX0_with_43 rfl rfl
  · refine JR_iload_n (pc := 8) (k := 2) (i := 2) G rfl rfl dX0_with_8 ?_
    refine JR_i2l (pc := 9) G dX0_with_9 ?_
    refine JR_lconst (pc := 10) G cl_0 dX0_with_10 ?_
    refine JR_ldc2 (pc := 11) G q1478 dX0_with_11 ?_
    refine JPS_I (pc := 14) (as := [.long (Int32.toInt64 p2), .long 0, .long 99]) (st' := []) G (Ws_in_fn (Int32.toInt64 p2) 0 99 S d) (JC_S (n := 3) G hRm q575 q576 q137 q577 dd_X0_in ⟨by decide, by decide⟩ dX0_with_14 rfl (Nat.le_of_ble_eq_true rfl)) rfl (fun r3 hr3 => ?_)
    refine JR_if_eq (pc := 17) (tgt := 41) G dX0_with_17 (by decide) (fun c9 => ?_) (fun c9 => ?_)
    · refine JR_bipush (pc := 41) (v := (-2)) G (by decide) dX0_with_41 ?_
      exact JR_iret (pc := 43) G hR dX0_with_43 rfl rfl
    · refine JR_iload_n (pc := 20) (k := 3) (i := 3) G rfl rfl dX0_with_20 ?_
      refine JR_iload_n (pc := 21) (k := 2) (i := 2) G rfl rfl dX0_with_21 ?_
      refine JR_icmp_le (pc := 22) (tgt := 41) G dX0_with_22 (by decide) (fun c8 => ?_) (fun c8 => ?_)
      · refine JR_bipush (pc := 41) (v := (-2)) G (by decide) dX0_with_41 ?_
        exact JR_iret (pc := 43) G hR dX0_with_43 rfl rfl
      · refine JR_iload_n (pc := 25) (k := 3) (i := 3) G rfl rfl dX0_with_25 ?_
        refine JR_bipush (pc := 26) (v := 120) G (by decide) dX0_with_26 ?_
        refine JR_icmp_gt (pc := 28) (tgt := 41) G dX0_with_28 (by decide) (fun c7 => ?_) (fun c7 => ?_)
        · refine JR_bipush (pc := 41) (v := (-2)) G (by decide) dX0_with_41 ?_
          exact JR_iret (pc := 43) G hR dX0_with_43 rfl rfl
        · refine JR_aload_n (pc := 31) (k := 0) (i := 0) (o := some this) G rfl rfl dX0_with_31 ?_
          refine JR_iload_n (pc := 32) (k := 1) (i := 1) G rfl rfl dX0_with_32 ?_
          refine JR_iload_n (pc := 33) (k := 2) (i := 2) G rfl rfl dX0_with_33 ?_
          refine JR_iload_n (pc := 34) (k := 3) (i := 3) G rfl rfl dX0_with_34 ?_
          refine JAV_I (pc := 35) (as := [.int p1, .int p2, .int p3]) (st' := []) (o := some this) G (Ws_allWith_fn this p1 p2 p3 S d) (JC_VW (n := 3) (hh := [((24), (45), (72), (0)), ((72), (74), (72), (0))]) G hRm cl_X0 q1479 q1481 qs54 q137 q1482 ⟨rfl, dd_X0_allWith⟩ ⟨by decide, by decide⟩ dX0_with_35 hz1 rfl (Nat.le_of_ble_eq_true rfl)) rfl (fun _ _ _ => rfl) (fun r4 S5 d6 hd6 => ?_)
          refine JR_goto (pc := 38) (tgt := 43) G dX0_with_38 (by decide) ?_
          exact JR_iret (pc := 43) G hR dX0_with_43 rfl rfl

def Ws_tight_h26 (this : Nat) (p1 : Int32) : Nat → Int32 → Int32 → Sp → Dt → Option (Int32 × Sp × Dt)
  | 0, _, _, _, _ => none
  | f + 1, v2, v3, S, d =>
    (isK S 0 (some this)).bind fun z10 =>
    (aix S 50 (S.2.1 z10 21) p1).bind fun q11 =>
    bind3 (Ws_allWith this p1 (d.1 q11.1 q11.2) v3 S d) fun r12 S13 d14 =>
    if r12 ≤ v2 then
      some (v3, S13, d14)
    else
      Ws_tight_h26 this p1 f v2 (v3 + 1) S13 d14
def Ws_tight (this : Nat) (p1 : Int32) (S : Sp) (d : Dt) : Option (Int32 × Sp × Dt) :=
  (isK S 0 (some this)).bind fun z1 =>
  (Ws_isTask this p1 S d).bind fun r2 =>
  if ¬ r2 = 0 then
    bind3 (Ws_all this ((-1)) S d) fun r3 S4 d5 =>
    (isK S4 0 (some this)).bind fun z6 =>
    (aix S4 50 (S4.2.1 z6 21) p1).bind fun q7 =>
    (some ((d5.1 q7.1 q7.2) + 1)).bind fun x8 =>
    Ws_tight_h26 this p1 FU r3 x8 S4 d5
  else
    some ((-2), S, d)
set_option maxHeartbeats 4000000 in
theorem Ws_tight_fn (this : Nat) (p1 : Int32) (S : Sp) (d : Dt) : Fn yX0_tight (ws_ yX0_tight cX0_tight 4 (some .int)) 18 414 [va_rf (some this), .int p1] S d rvI Λa (Ws_tight this p1 S d) := by
  refine Fn.ofJ (own := RX0) (lv := [(0, va_rf (some this)), (1, .int p1)]) (by decide +kernel) rfl (by simp [cat_i, cat_l, cat_f, cat_d, rf_cat]) (by simp [lv_args, cat_i, cat_l, cat_f, cat_d, rf_cat]) ?_
  intro X F G hRm hR hI
  have hWs_tight_h26 : ∀ (f : Nat) (v2 : Int32) (v3 : Int32) (S : Sp) (d : Dt), J X F Λa S d 26 [(0, va_rf (some this)), (1, .int p1), (2, .int v2), (3, .int v3)] [] (Ws_tight_h26 this p1 f v2 v3 S d) := by
    intro  f
    induction f with
    | zero => intro v2 v3 S d; exact J_no
    | succ f ih =>
      intro v2 v3 S d
      unfold Ws_tight_h26
      refine JR_aload_n (pc := 26) (k := 0) (i := 0) (o := some this) G rfl rfl dX0_tight_26 ?_
      refine JR_iload_n (pc := 27) (k := 1) (i := 1) G rfl rfl dX0_tight_27 ?_
      refine JR_aload_n (pc := 28) (k := 0) (i := 0) (o := some this) G rfl rfl dX0_tight_28 ?_
      refine J_bd (fun z10 hz10 => ?_)
      refine JR_gR (pc := 29) (k := 21) G cl_X0 in_X0 (by decide) (by decide) rfl (Or.inl rfl) q474 hz10 dX0_tight_29 ?_
      refine JR_iload_n (pc := 32) (k := 1) (i := 1) G rfl rfl dX0_tight_32 ?_
      refine J_bd (fun q11 hq11 => ?_)
      refine JR_iaload (pc := 33) G hq11 dX0_tight_33 ?_
      refine JR_iload_n (pc := 34) (k := 3) (i := 3) G rfl rfl dX0_tight_34 ?_
      refine JAV_I (pc := 35) (as := [.int p1, .int (d.1 q11.1 q11.2), .int v3]) (st' := []) (o := some this) G (Ws_allWith_fn this p1 (d.1 q11.1 q11.2) v3 S d) (JC_VW (n := 3) (hh := [((24), (45), (72), (0)), ((72), (74), (72), (0))]) G hRm cl_X0 q1479 q1481 qs54 q137 q1482 ⟨rfl, dd_X0_allWith⟩ ⟨by decide, by decide⟩ dX0_tight_35 hz10 rfl (Nat.le_of_ble_eq_true rfl)) rfl (fun _ _ _ => rfl) (fun r12 S13 d14 hd14 => ?_)
      refine JR_iload_n (pc := 38) (k := 2) (i := 2) G rfl rfl dX0_tight_38 ?_
      refine JR_icmp_le (pc := 39) (tgt := 48) G dX0_tight_39 (by decide) (fun c15 => ?_) (fun c15 => ?_)
      · refine JR_iload_n (pc := 48) (k := 3) (i := 3) G rfl rfl dX0_tight_48 ?_
        exact JR_iret (pc := 49) G hR dX0_tight_49 rfl rfl
      · refine JR_iinc (pc := 42) (i := 3) (v := v3 + 1) (lv' := [(3, .int (v3 + 1)), (0, va_rf (some this)), (1, .int p1), (2, .int v2)]) G rfl (congrArg (fun z => v3 + z) (by decide)) (by decide) rfl dX0_tight_42 ?_
        refine JR_goto (pc := 45) (tgt := 26) G dX0_tight_45 (by decide) ?_
        refine J_sub [1, 2, 3, 0] rfl ?_
        exact ih v2 (v3 + 1) S13 d14
  unfold Ws_tight
  refine JR_aload_n (pc := 0) (k := 0) (i := 0) (o := some this) G rfl rfl dX0_tight_0 ?_
  refine JR_iload_n (pc := 1) (k := 1) (i := 1) G rfl rfl dX0_tight_1 ?_
  refine J_bd (fun z1 hz1 => ?_)
  refine JPV_I (pc := 2) (as := [.int p1]) (st' := []) (o := some this) G (Ws_isTask_fn this p1 S d) (JC_V (n := 1) G hRm cl_X0 q985 q987 qs21 q137 q988 ⟨rfl, dd_X0_isTask⟩ ⟨by decide, by decide⟩ dX0_tight_2 hz1 rfl (Nat.le_of_ble_eq_true rfl)) rfl (fun r2 hr2 => ?_)
  refine JR_if_ne (pc := 5) (tgt := 11) G dX0_tight_5 (by decide) (fun c9 => ?_) (fun c9 => ?_)
  · refine JR_aload_n (pc := 11) (k := 0) (i := 0) (o := some this) G rfl rfl dX0_tight_11 ?_
    refine JR_iconst (pc := 12) G ci_m1 dX0_tight_12 ?_
    refine JAV_I (pc := 13) (as := [.int ((-1))]) (st' := []) (o := some this) G (Ws_all_fn this ((-1)) S d) (JC_V (n := 1) G hRm cl_X0 q1332 q1334 qs51 q137 q1335 ⟨rfl, dd_X0_all⟩ ⟨by decide, by decide⟩ dX0_tight_13 hz1 rfl (Nat.le_of_ble_eq_true rfl)) rfl (fun _ _ _ => rfl) (fun r3 S4 d5 hd5 => ?_)
    refine JR_istore_n (pc := 16) (k := 2) (i := 2) (lv' := [(2, .int r3), (0, va_rf (some this)), (1, .int p1)]) G rfl (by decide) rfl dX0_tight_16 ?_
    refine JR_aload_n (pc := 17) (k := 0) (i := 0) (o := some this) G rfl rfl dX0_tight_17 ?_
    refine J_bd (fun z6 hz6 => ?_)
    refine JR_gR (pc := 18) (k := 21) G cl_X0 in_X0 (by decide) (by decide) rfl (Or.inl rfl) q474 hz6 dX0_tight_18 ?_
    refine JR_iload_n (pc := 21) (k := 1) (i := 1) G rfl rfl dX0_tight_21 ?_
    refine J_bd (fun q7 hq7 => ?_)
    refine JR_iaload (pc := 22) G hq7 dX0_tight_22 ?_
    refine JR_iconst (pc := 23) G ci_1 dX0_tight_23 ?_
    refine JR_iadd (pc := 24) G dX0_tight_24 ?_
    refine J_nm (fun x8 hx8 => ?_)
    refine JR_istore_n (pc := 25) (k := 3) (i := 3) (lv' := [(3, .int x8), (2, .int r3), (0, va_rf (some this)), (1, .int p1)]) G rfl (by decide) rfl dX0_tight_25 ?_
    refine J_sub [2, 3, 1, 0] rfl ?_
    exact hWs_tight_h26 FU r3 x8 S4 d5
  · refine JR_bipush (pc := 8) (v := (-2)) G (by decide) dX0_tight_8 ?_
    exact JR_iret (pc := 10) G hR dX0_tight_10 rfl rfl

def Ws_loose_h31 (this : Nat) (p1 : Int32) : Nat → Int32 → Int32 → Sp → Dt → Option (Int32 × Sp × Dt)
  | 0, _, _, _, _ => none
  | f + 1, v2, v3, S, d =>
    (isK S 0 (some this)).bind fun z10 =>
    (aix S 50 (S.2.1 z10 22) p1).bind fun q11 =>
    bind3 (Ws_allWith this p1 v3 (d.1 q11.1 q11.2) S d) fun r12 S13 d14 =>
    if r12 ≤ v2 then
      some (v3, S13, d14)
    else
      Ws_loose_h31 this p1 f v2 (v3 + (-1)) S13 d14
def Ws_loose (this : Nat) (p1 : Int32) (S : Sp) (d : Dt) : Option (Int32 × Sp × Dt) :=
  (isK S 0 (some this)).bind fun z1 =>
  (Ws_isTask this p1 S d).bind fun r2 =>
  if ¬ r2 = 0 then
    bind3 (Ws_all this ((-1)) S d) fun r3 S4 d5 =>
    (isK S4 0 (some this)).bind fun z6 =>
    (aix S4 50 (S4.2.1 z6 22) p1).bind fun q7 =>
    (some (imin 99 ((d5.1 q7.1 q7.2) - 1))).bind fun x8 =>
    Ws_loose_h31 this p1 FU r3 x8 S4 d5
  else
    some ((-2), S, d)
set_option maxHeartbeats 4000000 in
theorem Ws_loose_fn (this : Nat) (p1 : Int32) (S : Sp) (d : Dt) : Fn yX0_loose (ws_ yX0_loose cX0_loose 4 (some .int)) 18 414 [va_rf (some this), .int p1] S d rvI Λa (Ws_loose this p1 S d) := by
  refine Fn.ofJ (own := RX0) (lv := [(0, va_rf (some this)), (1, .int p1)]) (by decide +kernel) rfl (by simp [cat_i, cat_l, cat_f, cat_d, rf_cat]) (by simp [lv_args, cat_i, cat_l, cat_f, cat_d, rf_cat]) ?_
  intro X F G hRm hR hI
  have hWs_loose_h31 : ∀ (f : Nat) (v2 : Int32) (v3 : Int32) (S : Sp) (d : Dt), J X F Λa S d 31 [(0, va_rf (some this)), (1, .int p1), (2, .int v2), (3, .int v3)] [] (Ws_loose_h31 this p1 f v2 v3 S d) := by
    intro  f
    induction f with
    | zero => intro v2 v3 S d; exact J_no
    | succ f ih =>
      intro v2 v3 S d
      unfold Ws_loose_h31
      refine JR_aload_n (pc := 31) (k := 0) (i := 0) (o := some this) G rfl rfl dX0_loose_31 ?_
      refine JR_iload_n (pc := 32) (k := 1) (i := 1) G rfl rfl dX0_loose_32 ?_
      refine JR_iload_n (pc := 33) (k := 3) (i := 3) G rfl rfl dX0_loose_33 ?_
      refine JR_aload_n (pc := 34) (k := 0) (i := 0) (o := some this) G rfl rfl dX0_loose_34 ?_
      refine J_bd (fun z10 hz10 => ?_)
      refine JR_gR (pc := 35) (k := 22) G cl_X0 in_X0 (by decide) (by decide) rfl (Or.inl rfl) q475 hz10 dX0_loose_35 ?_
      refine JR_iload_n (pc := 38) (k := 1) (i := 1) G rfl rfl dX0_loose_38 ?_
      refine J_bd (fun q11 hq11 => ?_)
      refine JR_iaload (pc := 39) G hq11 dX0_loose_39 ?_
      refine JAV_I (pc := 40) (as := [.int p1, .int v3, .int (d.1 q11.1 q11.2)]) (st' := []) (o := some this) G (Ws_allWith_fn this p1 v3 (d.1 q11.1 q11.2) S d) (JC_VW (n := 3) (hh := [((24), (45), (72), (0)), ((72), (74), (72), (0))]) G hRm cl_X0 q1479 q1481 qs54 q137 q1482 ⟨rfl, dd_X0_allWith⟩ ⟨by decide, by decide⟩ dX0_loose_40 hz10 rfl (Nat.le_of_ble_eq_true rfl)) rfl (fun _ _ _ => rfl) (fun r12 S13 d14 hd14 => ?_)
      refine JR_iload_n (pc := 43) (k := 2) (i := 2) G rfl rfl dX0_loose_43 ?_
      refine JR_icmp_le (pc := 44) (tgt := 53) G dX0_loose_44 (by decide) (fun c15 => ?_) (fun c15 => ?_)
      · refine JR_iload_n (pc := 53) (k := 3) (i := 3) G rfl rfl dX0_loose_53 ?_
        exact JR_iret (pc := 54) G hR dX0_loose_54 rfl rfl
      · refine JR_iinc (pc := 47) (i := 3) (v := v3 + (-1)) (lv' := [(3, .int (v3 + (-1))), (0, va_rf (some this)), (1, .int p1), (2, .int v2)]) G rfl (congrArg (fun z => v3 + z) (by decide)) (by decide) rfl dX0_loose_47 ?_
        refine JR_goto (pc := 50) (tgt := 31) G dX0_loose_50 (by decide) ?_
        refine J_sub [1, 2, 3, 0] rfl ?_
        exact ih v2 (v3 + (-1)) S13 d14
  unfold Ws_loose
  refine JR_aload_n (pc := 0) (k := 0) (i := 0) (o := some this) G rfl rfl dX0_loose_0 ?_
  refine JR_iload_n (pc := 1) (k := 1) (i := 1) G rfl rfl dX0_loose_1 ?_
  refine J_bd (fun z1 hz1 => ?_)
  refine JPV_I (pc := 2) (as := [.int p1]) (st' := []) (o := some this) G (Ws_isTask_fn this p1 S d) (JC_V (n := 1) G hRm cl_X0 q985 q987 qs21 q137 q988 ⟨rfl, dd_X0_isTask⟩ ⟨by decide, by decide⟩ dX0_loose_2 hz1 rfl (Nat.le_of_ble_eq_true rfl)) rfl (fun r2 hr2 => ?_)
  refine JR_if_ne (pc := 5) (tgt := 11) G dX0_loose_5 (by decide) (fun c9 => ?_) (fun c9 => ?_)
  · refine JR_aload_n (pc := 11) (k := 0) (i := 0) (o := some this) G rfl rfl dX0_loose_11 ?_
    refine JR_iconst (pc := 12) G ci_m1 dX0_loose_12 ?_
    refine JAV_I (pc := 13) (as := [.int ((-1))]) (st' := []) (o := some this) G (Ws_all_fn this ((-1)) S d) (JC_V (n := 1) G hRm cl_X0 q1332 q1334 qs51 q137 q1335 ⟨rfl, dd_X0_all⟩ ⟨by decide, by decide⟩ dX0_loose_13 hz1 rfl (Nat.le_of_ble_eq_true rfl)) rfl (fun _ _ _ => rfl) (fun r3 S4 d5 hd5 => ?_)
    refine JR_istore_n (pc := 16) (k := 2) (i := 2) (lv' := [(2, .int r3), (0, va_rf (some this)), (1, .int p1)]) G rfl (by decide) rfl dX0_loose_16 ?_
    refine JR_bipush (pc := 17) (v := 99) G (by decide) dX0_loose_17 ?_
    refine JR_aload_n (pc := 19) (k := 0) (i := 0) (o := some this) G rfl rfl dX0_loose_19 ?_
    refine J_bd (fun z6 hz6 => ?_)
    refine JR_gR (pc := 20) (k := 22) G cl_X0 in_X0 (by decide) (by decide) rfl (Or.inl rfl) q475 hz6 dX0_loose_20 ?_
    refine JR_iload_n (pc := 23) (k := 1) (i := 1) G rfl rfl dX0_loose_23 ?_
    refine J_bd (fun q7 hq7 => ?_)
    refine JR_iaload (pc := 24) G hq7 dX0_loose_24 ?_
    refine JR_iconst (pc := 25) G ci_1 dX0_loose_25 ?_
    refine JR_isub (pc := 26) G dX0_loose_26 ?_
    refine JR_min (pc := 27) G hRm q1203 q610 q154 q611 ⟨by decide, by decide⟩ (Nat.le_of_ble_eq_true rfl) dX0_loose_27 ?_
    refine J_nm (fun x8 hx8 => ?_)
    refine JR_istore_n (pc := 30) (k := 3) (i := 3) (lv' := [(3, .int x8), (2, .int r3), (0, va_rf (some this)), (1, .int p1)]) G rfl (by decide) rfl dX0_loose_30 ?_
    refine J_sub [2, 3, 1, 0] rfl ?_
    exact hWs_loose_h31 FU r3 x8 S4 d5
  · refine JR_bipush (pc := 8) (v := (-2)) G (by decide) dX0_loose_8 ?_
    exact JR_iret (pc := 10) G hR dX0_loose_10 rfl rfl

def Ws_marks_b27 (this : Nat) (p1 : Int32) (S : Sp) (s0 : Int32) (s1 : Int32) (s2 : Option Nat) (d : Dt) : Option (Unit × Dt) :=
  (isK S 0 s2).bind fun z4 =>
  (some (dI d z4 35 (s1 + s0))).bind fun d5 =>
  some ((), d5)
def Ws_marks (this : Nat) (p1 : Int32) (S : Sp) (d : Dt) : Option (Unit × Dt) :=
  (isK S 0 (some this)).bind fun z1 =>
  (some (dI d z1 34 (imax (d.1 z1 34) p1))).bind fun d2 =>
  Ws_marks_b27 this p1 S (if ¬ p1 = ((-1)) then 0 else 1) (d2.1 z1 35) (some this) d2
set_option maxHeartbeats 4000000 in
theorem Ws_marks_fn (this : Nat) (p1 : Int32) (S : Sp) (d : Dt) : Fn yX0_marks (ws_ yX0_marks cX0_marks 2 none) 1 23 [va_rf (some this), .int p1] S d rvU Λw (Ws_marks this p1 S d) := by
  refine Fn.ofJ (own := RX0) (lv := [(0, va_rf (some this)), (1, .int p1)]) (by decide +kernel) rfl (by simp [cat_i, cat_l, cat_f, cat_d, rf_cat]) (by simp [lv_args, cat_i, cat_l, cat_f, cat_d, rf_cat]) ?_
  intro X F G hRm hR hI
  have hWs_marks_b27 : ∀ (s0 : Int32) (s1 : Int32) (s2 : Option Nat) (d : Dt), J X F Λw S d 27 [(0, va_rf (some this)), (1, .int p1)] [.int s0, .int s1, va_rf s2] (Ws_marks_b27 this p1 S s0 s1 s2 d) := by
    intro s0 s1 s2 d
    unfold Ws_marks_b27
    refine JR_iadd (pc := 27) G dX0_marks_27 ?_
    refine J_bd (fun z4 hz4 => ?_)
    refine JW_pI (pc := 28) (k := 35) G cl_X0 in_X0 tyX0_ok nmX0 (by decide) (by decide) rfl (Or.inl rfl) rfl q493 rfl rfl hz4 (fun _ => rfl) dX0_marks_28 ?_
    refine J_nmD (fun d5 hd5 => ?_)
    exact JR_vret (pc := 31) G hR dX0_marks_31 rfl rfl
  unfold Ws_marks
  refine JR_aload_n (pc := 0) (k := 0) (i := 0) (o := some this) G rfl rfl dX0_marks_0 ?_
  refine JR_aload_n (pc := 1) (k := 0) (i := 0) (o := some this) G rfl rfl dX0_marks_1 ?_
  refine J_bd (fun z1 hz1 => ?_)
  refine JR_gI (pc := 2) (k := 34) G cl_X0 in_X0 (by decide) (by decide) rfl (Or.inl rfl) q492 hz1 dX0_marks_2 ?_
  refine JR_iload_n (pc := 5) (k := 1) (i := 1) G rfl rfl dX0_marks_5 ?_
  refine JR_max (pc := 6) G hRm q1061 q879 q154 q880 ⟨by decide, by decide⟩ (Nat.le_of_ble_eq_true rfl) dX0_marks_6 ?_
  refine JW_pI (pc := 9) (k := 34) G cl_X0 in_X0 tyX0_ok nmX0 (by decide) (by decide) rfl (Or.inl rfl) rfl q492 rfl rfl hz1 (fun _ => rfl) dX0_marks_9 ?_
  refine J_nmD (fun d2 hd2 => ?_)
  refine JR_aload_n (pc := 12) (k := 0) (i := 0) (o := some this) G rfl rfl dX0_marks_12 ?_
  refine JR_dup (pc := 13) G (rf_cat _) dX0_marks_13 ?_
  refine JR_gI (pc := 14) (k := 35) G cl_X0 in_X0 (by decide) (by decide) rfl (Or.inl rfl) q493 hz1 dX0_marks_14 ?_
  refine JR_iload_n (pc := 17) (k := 1) (i := 1) G rfl rfl dX0_marks_17 ?_
  refine JR_iconst (pc := 18) G ci_m1 dX0_marks_18 ?_
  refine J_eq (r' := if ¬ p1 = ((-1)) then Ws_marks_b27 this p1 S 0 (d2.1 z1 35) (some this) d2 else Ws_marks_b27 this p1 S 1 (d2.1 z1 35) (some this) d2) (by split <;> rfl) ?_
  refine JR_icmp_ne (pc := 19) (tgt := 26) G dX0_marks_19 (by decide) (fun c3 => ?_) (fun c3 => ?_)
  · refine JR_iconst (pc := 26) G ci_0 dX0_marks_26 ?_
    exact hWs_marks_b27 0 (d2.1 z1 35) (some this) d2
  · refine JR_iconst (pc := 22) G ci_1 dX0_marks_22 ?_
    refine JR_goto (pc := 23) (tgt := 27) G dX0_marks_23 (by decide) ?_
    exact hWs_marks_b27 1 (d2.1 z1 35) (some this) d2

def Jl_fastRemove (this : Nat) (p1 : Option Nat) (p2 : Int32) (S : Sp) (d : Dt) : Option (Unit × Sp × Dt) :=
  (isK S 16 (some this)).bind fun z1 =>
  (some (dI d z1 0 ((d.1 z1 0) + 1))).bind fun d2 =>
  (some ((d2.1 z1 2) - 1)).bind fun x3 =>
  if ((d2.1 z1 2) - 1) ≤ p2 then
    (some (dI d2 z1 2 x3)).bind fun d4 =>
    (aix S 58 p1 x3).bind fun q5 =>
    (some (sR S q5.1 q5.2 none)).bind fun S6 =>
    some ((), S6, d4)
  else
    none
set_option maxHeartbeats 4000000 in
theorem Jl_fastRemove_fn (this : Nat) (p1 : Option Nat) (p2 : Int32) (S : Sp) (d : Dt) : Fn yJ2_fastRemove (ws_ yJ2_fastRemove cJ2_fastRemove 4 none) 0 0 [va_rf (some this), va_rf p1, .int p2] S d rvU Λa (Jl_fastRemove this p1 p2 S d) := by
  refine Fn.ofJ (own := RJ2) (lv := [(0, va_rf (some this)), (1, va_rf p1), (2, .int p2)]) (by decide +kernel) rfl (by simp [cat_i, cat_l, cat_f, cat_d, rf_cat]) (by simp [lv_args, cat_i, cat_l, cat_f, cat_d, rf_cat]) ?_
  intro X F G hRm hR hI
  unfold Jl_fastRemove
  refine JR_aload_n (pc := 0) (k := 0) (i := 0) (o := some this) G rfl rfl dJ2_fastRemove_0 ?_
  refine JR_dup (pc := 1) G (rf_cat _) dJ2_fastRemove_1 ?_
  refine J_bd (fun z1 hz1 => ?_)
  refine JR_gI (pc := 2) (k := 0) G cl_J2 in_J2 (by decide) (by decide) rfl (Or.inr q208) q207 hz1 dJ2_fastRemove_2 ?_
  refine JR_iconst (pc := 5) G ci_1 dJ2_fastRemove_5 ?_
  refine JR_iadd (pc := 6) G dJ2_fastRemove_6 ?_
  refine JW_pI (pc := 7) (k := 0) G cl_J2 in_J2 tyJ2_ok nmJ2 (by decide) (by decide) rfl (Or.inr q208) rfl q207 rfl rfl hz1 (fun _ => rfl) dJ2_fastRemove_7 ?_
  refine J_nmD (fun d2 hd2 => ?_)
  refine JR_aload_n (pc := 10) (k := 0) (i := 0) (o := some this) G rfl rfl dJ2_fastRemove_10 ?_
  refine JR_gI (pc := 11) (k := 2) G cl_J2 in_J2 (by decide) (by decide) rfl (Or.inl rfl) q205 hz1 dJ2_fastRemove_11 ?_
  refine JR_iconst (pc := 14) G ci_1 dJ2_fastRemove_14 ?_
  refine JR_isub (pc := 15) G dJ2_fastRemove_15 ?_
  refine JR_dup (pc := 16) G rfl dJ2_fastRemove_16 ?_
  refine J_nm (fun x3 hx3 => ?_)
  refine JR_istore_n (pc := 17) (k := 3) (i := 3) (lv' := [(3, .int x3), (0, va_rf (some this)), (1, va_rf p1), (2, .int p2)]) G rfl (by decide) rfl dJ2_fastRemove_17 ?_
  refine JR_iload_n (pc := 18) (k := 2) (i := 2) G rfl rfl dJ2_fastRemove_18 ?_
  refine JR_icmp_le (pc := 19) (tgt := 34) G dJ2_fastRemove_19 (by decide) (fun c7 => ?_) (fun c7 => ?_)
  · refine JR_aload_n (pc := 34) (k := 1) (i := 1) (o := p1) G rfl rfl dJ2_fastRemove_34 ?_
    refine JR_aload_n (pc := 35) (k := 0) (i := 0) (o := some this) G rfl rfl dJ2_fastRemove_35 ?_
    refine JR_iload_n (pc := 36) (k := 3) (i := 3) G rfl rfl dJ2_fastRemove_36 ?_
    refine JR_dup_x1 (pc := 37) G rfl (rf_cat _) dJ2_fastRemove_37 ?_
    refine JW_pI (pc := 38) (k := 2) G cl_J2 in_J2 tyJ2_ok nmJ2 (by decide) (by decide) rfl (Or.inl rfl) rfl q205 rfl rfl hz1 (fun _ => rfl) dJ2_fastRemove_38 ?_
    refine J_nmD (fun d4 hd4 => ?_)
    refine JR_null (pc := 41) G dJ2_fastRemove_41 ?_
    refine J_bd (fun q5 hq5 => ?_)
    refine JW_aastN (pc := 42) (t := 8) G (by decide) rfl hq5 (fun _ => rfl) dJ2_fastRemove_42 ?_
    refine J_nmS (fun S6 hS6 => ?_)
    exact JR_vret (pc := 43) G hR dJ2_fastRemove_43 rfl rfl
  · exact J_no

def Jl_remove (this : Nat) (p1 : Int32) (S : Sp) (d : Dt) : Option ((Option Nat) × Sp × Dt) :=
  (isK S 16 (some this)).bind fun z1 =>
  (Jo_checkIndex p1 (d.1 z1 2) S d).bind fun r2 =>
  (some (S.2.1 z1 1)).bind fun x3 =>
  (aix S 58 x3 p1).bind fun q4 =>
  (some (S.2.1 q4.1 q4.2)).bind fun x5 =>
  bind3 (Jl_fastRemove this x3 p1 S d) fun _ S6 d7 =>
  some (x5, S6, d7)
set_option maxHeartbeats 4000000 in
theorem Jl_remove_fn (this : Nat) (p1 : Int32) (S : Sp) (d : Dt) : Fn yJ2_remove (ws_ yJ2_remove cJ2_remove 4 (some (.object "java/lang/Object"))) 2 43 [va_rf (some this), .int p1] S d rvR Λa (Jl_remove this p1 S d) := by
  refine Fn.ofJ (own := RJ2) (lv := [(0, va_rf (some this)), (1, .int p1)]) (by decide +kernel) rfl (by simp [cat_i, cat_l, cat_f, cat_d, rf_cat]) (by simp [lv_args, cat_i, cat_l, cat_f, cat_d, rf_cat]) ?_
  intro X F G hRm hR hI
  unfold Jl_remove
  refine JR_iload_n (pc := 0) (k := 1) (i := 1) G rfl rfl dJ2_remove_0 ?_
  refine JR_aload_n (pc := 1) (k := 0) (i := 0) (o := some this) G rfl rfl dJ2_remove_1 ?_
  refine J_bd (fun z1 hz1 => ?_)
  refine JR_gI (pc := 2) (k := 2) G cl_J2 in_J2 (by decide) (by decide) rfl (Or.inl rfl) q205 hz1 dJ2_remove_2 ?_
  refine JPS_I (pc := 5) (as := [.int p1, .int (d.1 z1 2)]) (st' := []) G (Jo_checkIndex_fn p1 (d.1 z1 2) S d) (JC_S (n := 2) G hRm q439 q440 q150 q441 dd_J3_checkIndex ⟨by decide, by decide⟩ dJ2_remove_5 rfl (Nat.le_of_ble_eq_true rfl)) rfl (fun r2 hr2 => ?_)
  refine JR_pop (pc := 8) G rfl dJ2_remove_8 ?_
  refine JR_aload_n (pc := 9) (k := 0) (i := 0) (o := some this) G rfl rfl dJ2_remove_9 ?_
  refine JR_gR (pc := 10) (k := 1) G cl_J2 in_J2 (by decide) (by decide) rfl (Or.inl rfl) q204 hz1 dJ2_remove_10 ?_
  refine J_nmR (fun x3 hx3 => ?_)
  refine JR_astore_n (pc := 13) (k := 2) (i := 2) (lv' := [(2, va_rf x3), (0, va_rf (some this)), (1, .int p1)]) G rfl (by decide) rfl dJ2_remove_13 ?_
  refine JR_aload_n (pc := 14) (k := 2) (i := 2) (o := x3) G rfl rfl dJ2_remove_14 ?_
  refine JR_iload_n (pc := 15) (k := 1) (i := 1) G rfl rfl dJ2_remove_15 ?_
  refine J_bd (fun q4 hq4 => ?_)
  refine JR_aaload (pc := 16) (t := 8) G (by decide) rfl hq4 dJ2_remove_16 ?_
  refine J_nmR (fun x5 hx5 => ?_)
  refine JR_astore_n (pc := 17) (k := 3) (i := 3) (lv' := [(3, va_rf x5), (2, va_rf x3), (0, va_rf (some this)), (1, .int p1)]) G rfl (by decide) (by simp [lvS, rf_cat]) dJ2_remove_17 ?_
  refine JR_aload_n (pc := 18) (k := 0) (i := 0) (o := some this) G rfl rfl dJ2_remove_18 ?_
  refine JR_aload_n (pc := 19) (k := 2) (i := 2) (o := x3) G rfl rfl dJ2_remove_19 ?_
  refine JR_iload_n (pc := 20) (k := 1) (i := 1) G rfl rfl dJ2_remove_20 ?_
  refine JAV_U (pc := 21) (as := [va_rf x3, .int p1]) (st' := []) (o := some this) G (Jl_fastRemove_fn this x3 p1 S d) (JC_V (n := 2) G hRm cl_J2 q1522 q1524 qs58 q141 q1525 ⟨rfl, dd_J2_fastRemove⟩ ⟨by decide, by decide⟩ dJ2_remove_21 hz1 rfl (Nat.le_of_ble_eq_true rfl)) rfl (fun _ _ _ => rfl) (fun _ S6 d7 hd7 => ?_)
  refine JR_aload_n (pc := 24) (k := 3) (i := 3) (o := x5) G rfl rfl dJ2_remove_24 ?_
  exact JR_aret (pc := 25) G hR ⟨_, rfl, Or.inl ⟨_, rfl⟩⟩ dJ2_remove_25 rfl rfl

def Ws_tries_b85 (this : Nat) (p1 : Int32) (p2 : Int32) (k43 : Int32 → Int32 → Int32 → Sp → Dt → Option (Unit × Sp × Dt)) (k52 : Int32 → Int32 → Int32 → Int32 → Sp → Dt → Option (Unit × Sp × Dt)) (v3 : Int32) (v4 : Int32) (v5 : Int32) (v6 : Int32) (s0 : Int32) (s1 : Int32) (s2 : Int32) (s3 : Int32) (s4 : Option Nat) (s5 : Option Nat) (s6 : Option Nat) (S : Sp) (d : Dt) : Option (Unit × Sp × Dt) :=
  (isK S 13 s4).bind fun z19 =>
  bind2 (In_init z19 s3 s2 s1 s0 1 S d) fun _ d20 =>
  (isK S 16 s6).bind fun z21 =>
  bind3 (Jl_add z21 s5 S d20) fun r22 S23 d24 =>
  (isK S23 0 (some this)).bind fun z25 =>
  (isK S23 1 (S23.2.1 z25 0)).bind fun z26 =>
  (isK S23 16 (S23.2.1 z26 1)).bind fun z27 =>
  (Jl_size z27 S23 d24).bind fun r28 =>
  bind3 (Ws_caughtOf this (r28 - 1) S23 d24) fun r29 S30 d31 =>
  (isK S30 0 (some this)).bind fun z32 =>
  bind2 (Ws_marks this r29 S30 d31) fun _ d33 =>
  (isK S30 1 (S30.2.1 z32 0)).bind fun z34 =>
  (isK S30 16 (S30.2.1 z34 1)).bind fun z35 =>
  (Jl_size z35 S30 d33).bind fun r36 =>
  bind3 (Jl_remove z35 (r36 - 1) S30 d33) fun r37 S38 d39 =>
  k52 v3 v4 v5 (v6 + 1) S38 d39
def Ws_tries_h52 (this : Nat) (p1 : Int32) (p2 : Int32) (k43 : Int32 → Int32 → Int32 → Sp → Dt → Option (Unit × Sp × Dt)) : Nat → Int32 → Int32 → Int32 → Int32 → Sp → Dt → Option (Unit × Sp × Dt)
  | 0, _, _, _, _, _, _ => none
  | f + 1, v3, v4, v5, v6, S, d =>
    if v4 ≤ v6 then
      k43 v3 v4 (v5 + 1) S d
    else
      (isK S 0 (some this)).bind fun z13 =>
      (isK S 1 (S.2.1 z13 0)).bind fun z14 =>
      bind2 (some (mmNew S (13, 0) 5, mmNewD S d)) fun S15 d16 =>
      Ws_tries_b85 this p1 p2 k43 (Ws_tries_h52 this p1 p2 k43 f) v3 v4 v5 v6 (if ¬ p2 = 4 then v6 else (-1)) v5 p1 p2 (some S.1.length) (some S.1.length) (S.2.1 z14 1) S15 d16
def Ws_tries_h43 (this : Nat) (p1 : Int32) (p2 : Int32) : Nat → Int32 → Int32 → Int32 → Sp → Dt → Option (Unit × Sp × Dt)
  | 0, _, _, _, _, _ => none
  | f + 1, v3, v4, v5, S, d =>
    if v3 ≤ v5 then
      some ((), S, d)
    else
      Ws_tries_h52 this p1 p2 (Ws_tries_h43 this p1 p2 f) FU v3 v4 v5 0 S d
def Ws_tries_b38 (this : Nat) (p1 : Int32) (p2 : Int32) (v3 : Int32) (s0 : Int32) (S : Sp) (d : Dt) : Option (Unit × Sp × Dt) :=
  Ws_tries_h43 this p1 p2 FU v3 s0 0 S d
def Ws_tries (this : Nat) (p1 : Int32) (p2 : Int32) (S : Sp) (d : Dt) : Option (Unit × Sp × Dt) :=
  (isK S 0 (some this)).bind fun z1 =>
  (isK S 1 (S.2.1 z1 0)).bind fun z2 =>
  bind3 (Ws_then this p1 (d.1 z2 3) S d) fun r3 S4 d5 =>
  (isK S4 8 r3).bind fun z6 =>
  (some (imin 51 (d5.1 z6 9))).bind fun x7 =>
  if ¬ p2 = 4 then
    (isK S4 0 (some this)).bind fun z8 =>
    (Ws_taskOf this p1 S4 d5).bind fun r9 =>
    (isK S4 12 r9).bind fun z10 =>
    Ws_tries_b38 this p1 p2 x7 (d5.1 z10 8) S4 d5
  else
    Ws_tries_b38 this p1 p2 x7 1 S4 d5
set_option maxHeartbeats 4000000 in
theorem Ws_tries_fn (this : Nat) (p1 : Int32) (p2 : Int32) (S : Sp) (d : Dt) : Fn yX0_tries (wsW_ yX0_tries cX0_tries 8 none [((93), (113), (139), (0)), ((139), (141), (139), (0))]) 18 412 [va_rf (some this), .int p1, .int p2] S d rvU Λa (Ws_tries this p1 p2 S d) := by
  refine Fn.ofJH (own := RX0) (lv := [(0, va_rf (some this)), (1, .int p1), (2, .int p2)]) (by decide +kernel) rfl (by simp [cat_i, cat_l, cat_f, cat_d, rf_cat]) (by simp [lv_args, cat_i, cat_l, cat_f, cat_d, rf_cat]) ?_
  intro X F G hRm hR hE
  have hWs_tries_b85 : ∀ (k43 : Int32 → Int32 → Int32 → Sp → Dt → Option (Unit × Sp × Dt)) (hk43 : ∀ (v3 : Int32) (v4 : Int32) (v5 : Int32) (S : Sp) (d : Dt), J X F Λa S d 43 [(0, va_rf (some this)), (1, .int p1), (2, .int p2), (3, .int v3), (4, .int v4), (5, .int v5)] [] (k43 v3 v4 v5 S d)) (k52 : Int32 → Int32 → Int32 → Int32 → Sp → Dt → Option (Unit × Sp × Dt)) (hk52 : ∀ (v3 : Int32) (v4 : Int32) (v5 : Int32) (v6 : Int32) (S : Sp) (d : Dt), J X F Λa S d 52 [(0, va_rf (some this)), (1, .int p1), (2, .int p2), (3, .int v3), (4, .int v4), (5, .int v5), (6, .int v6)] [] (k52 v3 v4 v5 v6 S d)) (v3 : Int32) (v4 : Int32) (v5 : Int32) (v6 : Int32) (s0 : Int32) (s1 : Int32) (s2 : Int32) (s3 : Int32) (s4 : Option Nat) (s5 : Option Nat) (s6 : Option Nat) (S : Sp) (d : Dt), J X F Λa S d 85 [(0, va_rf (some this)), (1, .int p1), (2, .int p2), (3, .int v3), (4, .int v4), (5, .int v5), (6, .int v6)] [.int s0, .int s1, .int s2, .int s3, va_rf s4, va_rf s5, va_rf s6] (Ws_tries_b85 this p1 p2 k43 k52 v3 v4 v5 v6 s0 s1 s2 s3 s4 s5 s6 S d) := by
    intro k43 hk43 k52 hk52 v3 v4 v5 v6 s0 s1 s2 s3 s4 s5 s6 S d
    unfold Ws_tries_b85
    refine JR_iconst (pc := 85) G ci_1 dX0_tries_85 ?_
    refine J_bd (fun z19 hz19 => ?_)
    refine J_stk (st' := [.int 1, .int s0, .int s1, .int s2, .int s3, va_rf (some z19), va_rf s5, va_rf s6]) (by rw [(isK_at hz19).1]) ?_
    refine JQV_U (pc := 86) (as := [.int s3, .int s2, .int s1, .int s0, .int 1]) (st' := [va_rf s5, va_rf s6]) (o := some z19) G (In_init_fn z19 s3 s2 s1 s0 1 S d) (JC_I (n := 5) G hRm q1512 q951 q166 q952 rfl dd_X14_init ⟨by decide, by decide⟩ dX0_tries_86 rfl (Nat.le_of_ble_eq_true rfl)) rfl (fun _ _ => rfl) (fun _ d20 hd20 => ?_)
    refine J_bd (fun z21 hz21 => ?_)
    refine J_stk (st' := [va_rf s5, va_rf (some z21)]) (by rw [(isK_at hz21).1]) ?_
    refine JAV_I (pc := 89) (as := [va_rf s5]) (st' := []) (o := some z21) G (Jl_add_fn z21 s5 S d20) (JC_V (n := 1) G hRm cl_J2 q1513 q858 q859 q141 q860 ⟨rfl, dd_J2_add⟩ ⟨by decide, by decide⟩ dX0_tries_89 (isK_s hz21) rfl (Nat.le_of_ble_eq_true rfl)) rfl (fun _ _ _ => rfl) (fun r22 S23 d24 hd24 => ?_)
    refine JR_pop (pc := 92) G rfl dX0_tries_92 ?_
    refine JR_aload_n (pc := 93) (k := 0) (i := 0) (o := some this) G rfl rfl dX0_tries_93 ?_
    refine JR_aload_n (pc := 94) (k := 0) (i := 0) (o := some this) G rfl rfl dX0_tries_94 ?_
    refine JR_aload_n (pc := 95) (k := 0) (i := 0) (o := some this) G rfl rfl dX0_tries_95 ?_
    refine J_bd (fun z25 hz25 => ?_)
    refine JR_gR (pc := 96) (k := 0) G cl_X0 in_X0 (by decide) (by decide) rfl (Or.inl rfl) q451 hz25 dX0_tries_96 ?_
    refine J_bd (fun z26 hz26 => ?_)
    refine JR_gRN (pc := 99) (k := 1) G cl_X1 in_X1 (by decide) (by decide) rfl (Or.inl rfl) q220 hz26 dX0_tries_99 ?_
    refine J_bd (fun z27 hz27 => ?_)
    refine J_stk (st' := [va_rf (some z27), va_rf (some this), va_rf (some this)]) (by rw [(isK_at hz27).1]) ?_
    refine JPV_I (pc := 102) (as := []) (st' := [va_rf (some this), va_rf (some this)]) (o := some z27) G (Jl_size_fn z27 S23 d24) (JC_V (n := 0) G hRm cl_J2 q427 q428 q429 q141 q430 ⟨rfl, dd_J2_size⟩ ⟨by decide, by decide⟩ dX0_tries_102 (isK_s hz27) rfl (Nat.le_of_ble_eq_true rfl)) rfl (fun r28 hr28 => ?_)
    refine JR_iconst (pc := 105) G ci_1 dX0_tries_105 ?_
    refine JR_isub (pc := 106) G dX0_tries_106 ?_
    refine JAV_I (pc := 107) (as := [.int (r28 - 1)]) (st' := [va_rf (some this)]) (o := some this) G (Ws_caughtOf_fn this (r28 - 1) S23 d24) (JC_V (n := 1) G hRm cl_X0 q1458 q1460 qs52 q137 q1461 ⟨rfl, dd_X0_caughtOf⟩ ⟨by decide, by decide⟩ dX0_tries_107 hz25 rfl (Nat.le_of_ble_eq_true rfl)) rfl (fun _ _ _ => rfl) (fun r29 S30 d31 hd31 => ?_)
    refine J_bd (fun z32 hz32 => ?_)
    refine JQV_U (pc := 110) (as := [.int r29]) (st' := []) (o := some this) G (Ws_marks_fn this r29 S30 d31) (JC_V (n := 1) G hRm cl_X0 q1514 q1516 qs57 q137 q1517 ⟨rfl, dd_X0_marks⟩ ⟨by decide, by decide⟩ dX0_tries_110 hz32 rfl (Nat.le_of_ble_eq_true rfl)) rfl (fun _ _ => rfl) (fun _ d33 hd33 => ?_)
    refine JR_aload_n (pc := 113) (k := 0) (i := 0) (o := some this) G rfl rfl dX0_tries_113 ?_
    refine JR_gR (pc := 114) (k := 0) G cl_X0 in_X0 (by decide) (by decide) rfl (Or.inl rfl) q451 hz32 dX0_tries_114 ?_
    refine J_bd (fun z34 hz34 => ?_)
    refine JR_gRN (pc := 117) (k := 1) G cl_X1 in_X1 (by decide) (by decide) rfl (Or.inl rfl) q220 hz34 dX0_tries_117 ?_
    refine JR_aload_n (pc := 120) (k := 0) (i := 0) (o := some this) G rfl rfl dX0_tries_120 ?_
    refine JR_gR (pc := 121) (k := 0) G cl_X0 in_X0 (by decide) (by decide) rfl (Or.inl rfl) q451 hz32 dX0_tries_121 ?_
    refine JR_gRN (pc := 124) (k := 1) G cl_X1 in_X1 (by decide) (by decide) rfl (Or.inl rfl) q220 hz34 dX0_tries_124 ?_
    refine J_bd (fun z35 hz35 => ?_)
    refine J_stk (st' := [va_rf (some z35), va_rf (S30.2.1 z34 1)]) (by rw [(isK_at hz35).1]) ?_
    refine JPV_I (pc := 127) (as := []) (st' := [va_rf (S30.2.1 z34 1)]) (o := some z35) G (Jl_size_fn z35 S30 d33) (JC_V (n := 0) G hRm cl_J2 q427 q428 q429 q141 q430 ⟨rfl, dd_J2_size⟩ ⟨by decide, by decide⟩ dX0_tries_127 (isK_s hz35) rfl (Nat.le_of_ble_eq_true rfl)) rfl (fun r36 hr36 => ?_)
    refine JR_iconst (pc := 130) G ci_1 dX0_tries_130 ?_
    refine JR_isub (pc := 131) G dX0_tries_131 ?_
    refine J_stk (st' := [.int (r36 - 1), va_rf (some z35)]) (by rw [(isK_at hz35).1]) ?_
    refine JAV_R (pc := 132) (as := [.int (r36 - 1)]) (st' := []) (o := some z35) G (Jl_remove_fn z35 (r36 - 1) S30 d33) (JC_V (n := 1) G hRm cl_J2 q1518 q1519 q1520 q141 q1521 ⟨rfl, dd_J2_remove⟩ ⟨by decide, by decide⟩ dX0_tries_132 (isK_s hz35) rfl (Nat.le_of_ble_eq_true rfl)) rfl (fun _ _ _ => rfl) (fun r37 S38 d39 hd39 => ?_)
    refine JR_pop (pc := 135) G (rf_cat _) dX0_tries_135 ?_
    refine JR_goto (pc := 136) (tgt := 167) G dX0_tries_136 (by decide) ?_
    refine JR_iinc (pc := 167) (i := 6) (v := v6 + 1) (lv' := [(6, .int (v6 + 1)), (0, va_rf (some this)), (1, .int p1), (2, .int p2), (3, .int v3), (4, .int v4), (5, .int v5)]) G rfl (congrArg (fun z => v6 + z) (by decide)) (by decide) rfl dX0_tries_167 ?_
    refine JR_goto (pc := 170) (tgt := 52) G dX0_tries_170 (by decide) ?_
    refine J_sub [1, 2, 3, 4, 5, 6, 0] rfl ?_
    exact hk52 v3 v4 v5 (v6 + 1) S38 d39
  have hWs_tries_h52 : ∀ (k43 : Int32 → Int32 → Int32 → Sp → Dt → Option (Unit × Sp × Dt)) (hk43 : ∀ (v3 : Int32) (v4 : Int32) (v5 : Int32) (S : Sp) (d : Dt), J X F Λa S d 43 [(0, va_rf (some this)), (1, .int p1), (2, .int p2), (3, .int v3), (4, .int v4), (5, .int v5)] [] (k43 v3 v4 v5 S d)) (f : Nat) (v3 : Int32) (v4 : Int32) (v5 : Int32) (v6 : Int32) (S : Sp) (d : Dt), J X F Λa S d 52 [(0, va_rf (some this)), (1, .int p1), (2, .int p2), (3, .int v3), (4, .int v4), (5, .int v5), (6, .int v6)] [] (Ws_tries_h52 this p1 p2 k43 f v3 v4 v5 v6 S d) := by
    intro k43 hk43 f
    induction f with
    | zero => intro v3 v4 v5 v6 S d; exact J_no
    | succ f ih =>
      intro v3 v4 v5 v6 S d
      unfold Ws_tries_h52
      refine JR_iload (pc := 52) (i := 6) G rfl dX0_tries_52 ?_
      refine JR_iload (pc := 54) (i := 4) G rfl dX0_tries_54 ?_
      refine JR_icmp_ge (pc := 56) (tgt := 173) G dX0_tries_56 (by decide) (fun c18 => ?_) (fun c18 => ?_)
      · refine JR_iinc (pc := 173) (i := 5) (v := v5 + 1) (lv' := [(5, .int (v5 + 1)), (0, va_rf (some this)), (1, .int p1), (2, .int p2), (3, .int v3), (4, .int v4), (6, .int v6)]) G rfl (congrArg (fun z => v5 + z) (by decide)) (by decide) rfl dX0_tries_173 ?_
        refine JR_goto (pc := 176) (tgt := 43) G dX0_tries_176 (by decide) ?_
        refine J_sub [1, 2, 3, 4, 5, 0] rfl ?_
        exact hk43 v3 v4 (v5 + 1) S d
      · refine JR_aload_n (pc := 59) (k := 0) (i := 0) (o := some this) G rfl rfl dX0_tries_59 ?_
        refine J_bd (fun z13 hz13 => ?_)
        refine JR_gR (pc := 60) (k := 0) G cl_X0 in_X0 (by decide) (by decide) rfl (Or.inl rfl) q451 hz13 dX0_tries_60 ?_
        refine J_bd (fun z14 hz14 => ?_)
        refine JR_gRN (pc := 63) (k := 1) G cl_X1 in_X1 (by decide) (by decide) rfl (Or.inl rfl) q220 hz14 dX0_tries_63 ?_
        refine JW_new (pc := 66) G cl_X14 in_X14 tyX14_ok (by decide) lg_X14 q1005 q948 q166 (fun _ => rfl) dX0_tries_66 ?_
        refine J_nm2 (fun S15 d16 hS15 hd16 => ?_)
        refine JR_dup (pc := 69) G (rf_cat _) dX0_tries_69 ?_
        refine JR_iload_n (pc := 70) (k := 2) (i := 2) G rfl rfl dX0_tries_70 ?_
        refine JR_iload_n (pc := 71) (k := 1) (i := 1) G rfl rfl dX0_tries_71 ?_
        refine JR_iload (pc := 72) (i := 5) G rfl dX0_tries_72 ?_
        refine JR_iload_n (pc := 74) (k := 2) (i := 2) G rfl rfl dX0_tries_74 ?_
        refine JR_iconst (pc := 75) G ci_4 dX0_tries_75 ?_
        refine J_eq (r' := if ¬ p2 = 4 then Ws_tries_b85 this p1 p2 k43 (Ws_tries_h52 this p1 p2 k43 f) v3 v4 v5 v6 v6 v5 p1 p2 (some S.1.length) (some S.1.length) (S.2.1 z14 1) S15 d16 else Ws_tries_b85 this p1 p2 k43 (Ws_tries_h52 this p1 p2 k43 f) v3 v4 v5 v6 ((-1)) v5 p1 p2 (some S.1.length) (some S.1.length) (S.2.1 z14 1) S15 d16) (by split <;> rfl) ?_
        refine JR_icmp_ne (pc := 76) (tgt := 83) G dX0_tries_76 (by decide) (fun c17 => ?_) (fun c17 => ?_)
        · refine JR_iload (pc := 83) (i := 6) G rfl dX0_tries_83 ?_
          exact hWs_tries_b85 k43 hk43 (Ws_tries_h52 this p1 p2 k43 f) ih v3 v4 v5 v6 v6 v5 p1 p2 (some S.1.length) (some S.1.length) (S.2.1 z14 1) S15 d16
        · refine JR_iconst (pc := 79) G ci_m1 dX0_tries_79 ?_
          refine JR_goto (pc := 80) (tgt := 85) G dX0_tries_80 (by decide) ?_
          exact hWs_tries_b85 k43 hk43 (Ws_tries_h52 this p1 p2 k43 f) ih v3 v4 v5 v6 ((-1)) v5 p1 p2 (some S.1.length) (some S.1.length) (S.2.1 z14 1) S15 d16
  have hWs_tries_h43 : ∀ (f : Nat) (v3 : Int32) (v4 : Int32) (v5 : Int32) (S : Sp) (d : Dt), J X F Λa S d 43 [(0, va_rf (some this)), (1, .int p1), (2, .int p2), (3, .int v3), (4, .int v4), (5, .int v5)] [] (Ws_tries_h43 this p1 p2 f v3 v4 v5 S d) := by
    intro  f
    induction f with
    | zero => intro v3 v4 v5 S d; exact J_no
    | succ f ih =>
      intro v3 v4 v5 S d
      unfold Ws_tries_h43
      refine JR_iload (pc := 43) (i := 5) G rfl dX0_tries_43 ?_
      refine JR_iload_n (pc := 45) (k := 3) (i := 3) G rfl rfl dX0_tries_45 ?_
      refine JR_icmp_ge (pc := 46) (tgt := 179) G dX0_tries_46 (by decide) (fun c12 => ?_) (fun c12 => ?_)
      · exact JR_vret (pc := 179) G hR dX0_tries_179 rfl rfl
      · refine JR_iconst (pc := 49) G ci_0 dX0_tries_49 ?_
        refine JR_istore (pc := 50) (i := 6) (lv' := [(6, .int 0), (0, va_rf (some this)), (1, .int p1), (2, .int p2), (3, .int v3), (4, .int v4), (5, .int v5)]) G (by decide) rfl dX0_tries_50 ?_
        refine J_sub [1, 2, 3, 4, 5, 6, 0] rfl ?_
        exact hWs_tries_h52 (Ws_tries_h43 this p1 p2 f) ih FU v3 v4 v5 0 S d
  have hWs_tries_b38 : ∀ (v3 : Int32) (s0 : Int32) (S : Sp) (d : Dt), J X F Λa S d 38 [(0, va_rf (some this)), (1, .int p1), (2, .int p2), (3, .int v3)] [.int s0] (Ws_tries_b38 this p1 p2 v3 s0 S d) := by
    intro v3 s0 S d
    unfold Ws_tries_b38
    refine JR_istore (pc := 38) (i := 4) (lv' := [(4, .int s0), (0, va_rf (some this)), (1, .int p1), (2, .int p2), (3, .int v3)]) G (by decide) rfl dX0_tries_38 ?_
    refine JR_iconst (pc := 40) G ci_0 dX0_tries_40 ?_
    refine JR_istore (pc := 41) (i := 5) (lv' := [(5, .int 0), (4, .int s0), (0, va_rf (some this)), (1, .int p1), (2, .int p2), (3, .int v3)]) G (by decide) rfl dX0_tries_41 ?_
    refine J_sub [2, 3, 4, 5, 1, 0] rfl ?_
    exact hWs_tries_h43 FU v3 s0 0 S d
  unfold Ws_tries
  refine JR_bipush (pc := 0) (v := 51) G (by decide) dX0_tries_0 ?_
  refine JR_aload_n (pc := 2) (k := 0) (i := 0) (o := some this) G rfl rfl dX0_tries_2 ?_
  refine JR_iload_n (pc := 3) (k := 1) (i := 1) G rfl rfl dX0_tries_3 ?_
  refine JR_aload_n (pc := 4) (k := 0) (i := 0) (o := some this) G rfl rfl dX0_tries_4 ?_
  refine J_bd (fun z1 hz1 => ?_)
  refine JR_gR (pc := 5) (k := 0) G cl_X0 in_X0 (by decide) (by decide) rfl (Or.inl rfl) q451 hz1 dX0_tries_5 ?_
  refine J_bd (fun z2 hz2 => ?_)
  refine JR_gIN (pc := 8) (k := 3) G cl_X1 in_X1 (by decide) (by decide) rfl (Or.inl rfl) q227 hz2 dX0_tries_8 ?_
  refine JAV_R (pc := 11) (as := [.int p1, .int (d.1 z2 3)]) (st' := [.int 51]) (o := some this) G (Ws_then_fn this p1 (d.1 z2 3) S d) (JC_V (n := 2) G hRm cl_X0 q1308 q1310 qs49 q137 q1311 ⟨rfl, dd_X0_then⟩ ⟨by decide, by decide⟩ dX0_tries_11 hz1 rfl (Nat.le_of_ble_eq_true rfl)) rfl (fun _ _ _ => rfl) (fun r3 S4 d5 hd5 => ?_)
  refine J_bd (fun z6 hz6 => ?_)
  refine JR_gIN (pc := 14) (k := 9) G cl_X9 in_X9 (by decide) (by decide) rfl (Or.inl rfl) q357 hz6 dX0_tries_14 ?_
  refine JR_min (pc := 17) G hRm q1203 q610 q154 q611 ⟨by decide, by decide⟩ (Nat.le_of_ble_eq_true rfl) dX0_tries_17 ?_
  refine J_nm (fun x7 hx7 => ?_)
  refine JR_istore_n (pc := 20) (k := 3) (i := 3) (lv' := [(3, .int x7), (0, va_rf (some this)), (1, .int p1), (2, .int p2)]) G rfl (by decide) rfl dX0_tries_20 ?_
  refine JR_iload_n (pc := 21) (k := 2) (i := 2) G rfl rfl dX0_tries_21 ?_
  refine JR_iconst (pc := 22) G ci_4 dX0_tries_22 ?_
  refine JR_icmp_ne (pc := 23) (tgt := 30) G dX0_tries_23 (by decide) (fun c11 => ?_) (fun c11 => ?_)
  · refine JR_aload_n (pc := 30) (k := 0) (i := 0) (o := some this) G rfl rfl dX0_tries_30 ?_
    refine JR_iload_n (pc := 31) (k := 1) (i := 1) G rfl rfl dX0_tries_31 ?_
    refine J_bd (fun z8 hz8 => ?_)
    refine JPV_R (pc := 32) (as := [.int p1]) (st' := []) (o := some this) G (Ws_taskOf_fn this p1 S4 d5) (JC_V (n := 1) G hRm cl_X0 q431 q433 qs2 q137 q434 ⟨rfl, dd_X0_taskOf⟩ ⟨by decide, by decide⟩ dX0_tries_32 hz8 rfl (Nat.le_of_ble_eq_true rfl)) rfl (fun r9 hr9 => ?_)
    refine J_bd (fun z10 hz10 => ?_)
    refine JR_gIN (pc := 35) (k := 8) G cl_X13 in_X13 (by decide) (by decide) rfl (Or.inl rfl) q837 hz10 dX0_tries_35 ?_
    refine J_sub [1, 2, 3, 0] rfl ?_
    exact hWs_tries_b38 x7 (d5.1 z10 8) S4 d5
  · refine JR_iconst (pc := 26) G ci_1 dX0_tries_26 ?_
    refine JR_goto (pc := 27) (tgt := 38) G dX0_tries_27 (by decide) ?_
    refine J_sub [1, 2, 3, 0] rfl ?_
    exact hWs_tries_b38 x7 1 S4 d5

def Ws_triesAll (this : Nat) (p1 : Int32) (p2 : Int32) (S : Sp) (d : Dt) : Option (Int32 × Sp × Dt) :=
  (isK S 0 (some this)).bind fun z1 =>
  (Ws_isTask this p1 S d).bind fun r2 =>
  if r2 = 0 then
    some (0, S, d)
  else
    (Ws_in (Int32.toInt64 p2) 0 4 S d).bind fun r3 =>
    if ¬ r3 = 0 then
      (some (dI d z1 34 ((-1)))).bind fun d4 =>
      (some (dI d4 z1 35 0)).bind fun d5 =>
      bind3 (Ws_tries this p1 p2 S d5) fun _ S6 d7 =>
      some (1, S6, d7)
    else
      some (0, S, d)
set_option maxHeartbeats 4000000 in
theorem Ws_triesAll_fn (this : Nat) (p1 : Int32) (p2 : Int32) (S : Sp) (d : Dt) : Fn yX0_triesAll (ws_ yX0_triesAll cX0_triesAll 3 (some .boolean)) 19 439 [va_rf (some this), .int p1, .int p2] S d rvI Λa (Ws_triesAll this p1 p2 S d) := by
  refine Fn.ofJ (own := RX0) (lv := [(0, va_rf (some this)), (1, .int p1), (2, .int p2)]) (by decide +kernel) rfl (by simp [cat_i, cat_l, cat_f, cat_d, rf_cat]) (by simp [lv_args, cat_i, cat_l, cat_f, cat_d, rf_cat]) ?_
  intro X F G hRm hR hI
  unfold Ws_triesAll
  refine JR_aload_n (pc := 0) (k := 0) (i := 0) (o := some this) G rfl rfl dX0_triesAll_0 ?_
  refine JR_iload_n (pc := 1) (k := 1) (i := 1) G rfl rfl dX0_triesAll_1 ?_
  refine J_bd (fun z1 hz1 => ?_)
  refine JPV_I (pc := 2) (as := [.int p1]) (st' := []) (o := some this) G (Ws_isTask_fn this p1 S d) (JC_V (n := 1) G hRm cl_X0 q985 q987 qs21 q137 q988 ⟨rfl, dd_X0_isTask⟩ ⟨by decide, by decide⟩ dX0_triesAll_2 hz1 rfl (Nat.le_of_ble_eq_true rfl)) rfl (fun r2 hr2 => ?_)
  refine JR_if_eq (pc := 5) (tgt := 20) G dX0_triesAll_5 (by decide) (fun c9 => ?_) (fun c9 => ?_)
  · refine JR_iconst (pc := 20) G ci_0 dX0_triesAll_20 ?_
    exact JR_zret (pc := 21) G hR dX0_triesAll_21 (Or.inl rfl) rfl rfl
  · refine JR_iload_n (pc := 8) (k := 2) (i := 2) G rfl rfl dX0_triesAll_8 ?_
    refine JR_i2l (pc := 9) G dX0_triesAll_9 ?_
    refine JR_lconst (pc := 10) G cl_0 dX0_triesAll_10 ?_
    refine JR_ldc2 (pc := 11) G q1507 dX0_triesAll_11 ?_
    refine JPS_I (pc := 14) (as := [.long (Int32.toInt64 p2), .long 0, .long 4]) (st' := []) G (Ws_in_fn (Int32.toInt64 p2) 0 4 S d) (JC_S (n := 3) G hRm q575 q576 q137 q577 dd_X0_in ⟨by decide, by decide⟩ dX0_triesAll_14 rfl (Nat.le_of_ble_eq_true rfl)) rfl (fun r3 hr3 => ?_)
    refine JR_if_ne (pc := 17) (tgt := 22) G dX0_triesAll_17 (by decide) (fun c8 => ?_) (fun c8 => ?_)
    · refine JR_aload_n (pc := 22) (k := 0) (i := 0) (o := some this) G rfl rfl dX0_triesAll_22 ?_
      refine JR_iconst (pc := 23) G ci_m1 dX0_triesAll_23 ?_
      refine JW_pI (pc := 24) (k := 34) G cl_X0 in_X0 tyX0_ok nmX0 (by decide) (by decide) rfl (Or.inl rfl) rfl q492 rfl rfl hz1 (fun _ => rfl) dX0_triesAll_24 ?_
      refine J_nmD (fun d4 hd4 => ?_)
      refine JR_aload_n (pc := 27) (k := 0) (i := 0) (o := some this) G rfl rfl dX0_triesAll_27 ?_
      refine JR_iconst (pc := 28) G ci_0 dX0_triesAll_28 ?_
      refine JW_pI (pc := 29) (k := 35) G cl_X0 in_X0 tyX0_ok nmX0 (by decide) (by decide) rfl (Or.inl rfl) rfl q493 rfl rfl hz1 (fun _ => rfl) dX0_triesAll_29 ?_
      refine J_nmD (fun d5 hd5 => ?_)
      refine JR_aload_n (pc := 32) (k := 0) (i := 0) (o := some this) G rfl rfl dX0_triesAll_32 ?_
      refine JR_iload_n (pc := 33) (k := 1) (i := 1) G rfl rfl dX0_triesAll_33 ?_
      refine JR_iload_n (pc := 34) (k := 2) (i := 2) G rfl rfl dX0_triesAll_34 ?_
      refine JAV_U (pc := 35) (as := [.int p1, .int p2]) (st' := []) (o := some this) G (Ws_tries_fn this p1 p2 S d5) (JC_VW (n := 2) (hh := [((93), (113), (139), (0)), ((139), (141), (139), (0))]) G hRm cl_X0 q1508 q1510 qs56 q137 q1511 ⟨rfl, dd_X0_tries⟩ ⟨by decide, by decide⟩ dX0_triesAll_35 hz1 rfl (Nat.le_of_ble_eq_true rfl)) rfl (fun _ _ _ => rfl) (fun _ S6 d7 hd7 => ?_)
      refine JR_iconst (pc := 38) G ci_1 dX0_triesAll_38 ?_
      exact JR_zret (pc := 39) G hR dX0_triesAll_39 (Or.inr rfl) rfl rfl
    · refine JR_iconst (pc := 20) G ci_0 dX0_triesAll_20 ?_
      exact JR_zret (pc := 21) G hR dX0_triesAll_21 (Or.inl rfl) rfl rfl

def Ws_longest (this : Nat) (p1 : Int32) (p2 : Int32) (S : Sp) (d : Dt) : Option (Int32 × Sp × Dt) :=
  (isK S 0 (some this)).bind fun z1 =>
  bind3 (Ws_triesAll this p1 p2 S d) fun r2 S3 d4 =>
  if r2 = 0 then
    some ((-2), S3, d4)
  else
    (isK S3 0 (some this)).bind fun z5 =>
    some (d4.1 z5 34, S3, d4)
set_option maxHeartbeats 4000000 in
theorem Ws_longest_fn (this : Nat) (p1 : Int32) (p2 : Int32) (S : Sp) (d : Dt) : Fn yX0_longest (ws_ yX0_longest cX0_longest 3 (some .int)) 20 461 [va_rf (some this), .int p1, .int p2] S d rvI Λa (Ws_longest this p1 p2 S d) := by
  refine Fn.ofJ (own := RX0) (lv := [(0, va_rf (some this)), (1, .int p1), (2, .int p2)]) (by decide +kernel) rfl (by simp [cat_i, cat_l, cat_f, cat_d, rf_cat]) (by simp [lv_args, cat_i, cat_l, cat_f, cat_d, rf_cat]) ?_
  intro X F G hRm hR hI
  unfold Ws_longest
  refine JR_aload_n (pc := 0) (k := 0) (i := 0) (o := some this) G rfl rfl dX0_longest_0 ?_
  refine JR_iload_n (pc := 1) (k := 1) (i := 1) G rfl rfl dX0_longest_1 ?_
  refine JR_iload_n (pc := 2) (k := 2) (i := 2) G rfl rfl dX0_longest_2 ?_
  refine J_bd (fun z1 hz1 => ?_)
  refine JAV_I (pc := 3) (as := [.int p1, .int p2]) (st' := []) (o := some this) G (Ws_triesAll_fn this p1 p2 S d) (JC_V (n := 2) G hRm cl_X0 q1503 q1505 qs55 q137 q1506 ⟨rfl, dd_X0_triesAll⟩ ⟨by decide, by decide⟩ dX0_longest_3 hz1 rfl (Nat.le_of_ble_eq_true rfl)) rfl (fun _ _ _ => rfl) (fun r2 S3 d4 hd4 => ?_)
  refine JR_if_eq (pc := 6) (tgt := 16) G dX0_longest_6 (by decide) (fun c6 => ?_) (fun c6 => ?_)
  · refine JR_bipush (pc := 16) (v := (-2)) G (by decide) dX0_longest_16 ?_
    exact JR_iret (pc := 18) G hR dX0_longest_18 rfl rfl
  · refine JR_aload_n (pc := 9) (k := 0) (i := 0) (o := some this) G rfl rfl dX0_longest_9 ?_
    refine J_bd (fun z5 hz5 => ?_)
    refine JR_gI (pc := 10) (k := 34) G cl_X0 in_X0 (by decide) (by decide) rfl (Or.inl rfl) q492 hz5 dX0_longest_10 ?_
    refine JR_goto (pc := 13) (tgt := 18) G dX0_longest_13 (by decide) ?_
    exact JR_iret (pc := 18) G hR dX0_longest_18 rfl rfl

def Ws_silent (this : Nat) (p1 : Int32) (p2 : Int32) (S : Sp) (d : Dt) : Option (Int32 × Sp × Dt) :=
  (isK S 0 (some this)).bind fun z1 =>
  bind3 (Ws_triesAll this p1 p2 S d) fun r2 S3 d4 =>
  if r2 = 0 then
    some ((-2), S3, d4)
  else
    (isK S3 0 (some this)).bind fun z5 =>
    some (d4.1 z5 35, S3, d4)
set_option maxHeartbeats 4000000 in
theorem Ws_silent_fn (this : Nat) (p1 : Int32) (p2 : Int32) (S : Sp) (d : Dt) : Fn yX0_silent (ws_ yX0_silent cX0_silent 3 (some .int)) 20 461 [va_rf (some this), .int p1, .int p2] S d rvI Λa (Ws_silent this p1 p2 S d) := by
  refine Fn.ofJ (own := RX0) (lv := [(0, va_rf (some this)), (1, .int p1), (2, .int p2)]) (by decide +kernel) rfl (by simp [cat_i, cat_l, cat_f, cat_d, rf_cat]) (by simp [lv_args, cat_i, cat_l, cat_f, cat_d, rf_cat]) ?_
  intro X F G hRm hR hI
  unfold Ws_silent
  refine JR_aload_n (pc := 0) (k := 0) (i := 0) (o := some this) G rfl rfl dX0_silent_0 ?_
  refine JR_iload_n (pc := 1) (k := 1) (i := 1) G rfl rfl dX0_silent_1 ?_
  refine JR_iload_n (pc := 2) (k := 2) (i := 2) G rfl rfl dX0_silent_2 ?_
  refine J_bd (fun z1 hz1 => ?_)
  refine JAV_I (pc := 3) (as := [.int p1, .int p2]) (st' := []) (o := some this) G (Ws_triesAll_fn this p1 p2 S d) (JC_V (n := 2) G hRm cl_X0 q1503 q1505 qs55 q137 q1506 ⟨rfl, dd_X0_triesAll⟩ ⟨by decide, by decide⟩ dX0_silent_3 hz1 rfl (Nat.le_of_ble_eq_true rfl)) rfl (fun _ _ _ => rfl) (fun r2 S3 d4 hd4 => ?_)
  refine JR_if_eq (pc := 6) (tgt := 16) G dX0_silent_6 (by decide) (fun c6 => ?_) (fun c6 => ?_)
  · refine JR_bipush (pc := 16) (v := (-2)) G (by decide) dX0_silent_16 ?_
    exact JR_iret (pc := 18) G hR dX0_silent_18 rfl rfl
  · refine JR_aload_n (pc := 9) (k := 0) (i := 0) (o := some this) G rfl rfl dX0_silent_9 ?_
    refine J_bd (fun z5 hz5 => ?_)
    refine JR_gI (pc := 10) (k := 35) G cl_X0 in_X0 (by decide) (by decide) rfl (Or.inl rfl) q493 hz5 dX0_silent_10 ?_
    refine JR_goto (pc := 13) (tgt := 18) G dX0_silent_13 (by decide) ?_
    exact JR_iret (pc := 18) G hR dX0_silent_18 rfl rfl

def Ws_isInject (this : Nat) (p1 : Int32) (p2 : Int32) (p3 : Int32) (p4 : Int32) (p5 : Int32) (S : Sp) (d : Dt) : Option Int32 :=
  if ¬ p1 = 5 then
    (Ws_in (Int32.toInt64 p1) 0 4 S d).bind fun r1 =>
    if r1 = 0 then
      some 0
    else
      (isK S 0 (some this)).bind fun z2 =>
      (Ws_isTask this p2 S d).bind fun r3 =>
      if r3 = 0 then
        some 0
      else
        (Ws_in (Int32.toInt64 p3) 0 50 S d).bind fun r4 =>
        if r4 = 0 then
          some 0
        else
          (Ws_in (Int32.toInt64 p5) 1 9 S d).bind fun r5 =>
          if ¬ r5 = 0 then
            if ¬ p1 = 4 then
              (Ws_taskOf this p2 S d).bind fun r6 =>
              (isK S 12 r6).bind fun z7 =>
              (Ws_in (Int32.toInt64 p4) 0 (Int32.toInt64 ((d.1 z7 8) - 1)) S d).bind fun r8 =>
              (gb r8).bind fun b9 =>
              some b9
            else
              if ¬ p4 = 0 then
                some 0
              else
                some 1
          else
            some 0
  else
    (isK S 0 (some this)).bind fun z16 =>
    (isK S 1 (S.2.1 z16 0)).bind fun z17 =>
    (Ws_in (Int32.toInt64 p2) 0 (Int32.toInt64 ((d.1 z17 6) - 1)) S d).bind fun r18 =>
    if r18 = 0 then
      some 0
    else
      (Ws_in (Int32.toInt64 p3) 0 199 S d).bind fun r19 =>
      if r19 = 0 then
        some 0
      else
        if ¬ p4 = 0 then
          some 0
        else
          if ¬ p5 = 0 then
            some 0
          else
            some 1
set_option maxHeartbeats 4000000 in
theorem Ws_isInject_fn (this : Nat) (p1 : Int32) (p2 : Int32) (p3 : Int32) (p4 : Int32) (p5 : Int32) (S : Sp) (d : Dt) : Fn yX0_isInject (ws_ yX0_isInject cX0_isInject 6 (some .boolean)) 4 85 [va_rf (some this), .int p1, .int p2, .int p3, .int p4, .int p5] S d rvI Λp (Ws_isInject this p1 p2 p3 p4 p5 S d) := by
  refine Fn.ofJ (own := RX0) (lv := [(0, va_rf (some this)), (1, .int p1), (2, .int p2), (3, .int p3), (4, .int p4), (5, .int p5)]) (by decide +kernel) rfl (by simp [cat_i, cat_l, cat_f, cat_d, rf_cat]) (by simp [lv_args, cat_i, cat_l, cat_f, cat_d, rf_cat]) ?_
  intro X F G hRm hR hI
  unfold Ws_isInject
  refine JR_iload_n (pc := 0) (k := 1) (i := 1) G rfl rfl dX0_isInject_0 ?_
  refine JR_iconst (pc := 1) G ci_5 dX0_isInject_1 ?_
  refine JR_icmp_ne (pc := 2) (tgt := 52) G dX0_isInject_2 (by decide) (fun c24 => ?_) (fun c24 => ?_)
  · refine JR_iload_n (pc := 52) (k := 1) (i := 1) G rfl rfl dX0_isInject_52 ?_
    refine JR_i2l (pc := 53) G dX0_isInject_53 ?_
    refine JR_lconst (pc := 54) G cl_0 dX0_isInject_54 ?_
    refine JR_ldc2 (pc := 55) G q1507 dX0_isInject_55 ?_
    refine JPS_I (pc := 58) (as := [.long (Int32.toInt64 p1), .long 0, .long 4]) (st' := []) G (Ws_in_fn (Int32.toInt64 p1) 0 4 S d) (JC_S (n := 3) G hRm q575 q576 q137 q577 dd_X0_in ⟨by decide, by decide⟩ dX0_isInject_58 rfl (Nat.le_of_ble_eq_true rfl)) rfl (fun r1 hr1 => ?_)
    refine JR_if_eq (pc := 61) (tgt := 97) G dX0_isInject_61 (by decide) (fun c15 => ?_) (fun c15 => ?_)
    · refine JR_iconst (pc := 97) G ci_0 dX0_isInject_97 ?_
      exact JR_zret (pc := 98) G hR dX0_isInject_98 (Or.inl rfl) rfl rfl
    · refine JR_aload_n (pc := 64) (k := 0) (i := 0) (o := some this) G rfl rfl dX0_isInject_64 ?_
      refine JR_iload_n (pc := 65) (k := 2) (i := 2) G rfl rfl dX0_isInject_65 ?_
      refine J_bd (fun z2 hz2 => ?_)
      refine JPV_I (pc := 66) (as := [.int p2]) (st' := []) (o := some this) G (Ws_isTask_fn this p2 S d) (JC_V (n := 1) G hRm cl_X0 q985 q987 qs21 q137 q988 ⟨rfl, dd_X0_isTask⟩ ⟨by decide, by decide⟩ dX0_isInject_66 hz2 rfl (Nat.le_of_ble_eq_true rfl)) rfl (fun r3 hr3 => ?_)
      refine JR_if_eq (pc := 69) (tgt := 97) G dX0_isInject_69 (by decide) (fun c14 => ?_) (fun c14 => ?_)
      · refine JR_iconst (pc := 97) G ci_0 dX0_isInject_97 ?_
        exact JR_zret (pc := 98) G hR dX0_isInject_98 (Or.inl rfl) rfl rfl
      · refine JR_iload_n (pc := 72) (k := 3) (i := 3) G rfl rfl dX0_isInject_72 ?_
        refine JR_i2l (pc := 73) G dX0_isInject_73 ?_
        refine JR_lconst (pc := 74) G cl_0 dX0_isInject_74 ?_
        refine JR_ldc2 (pc := 75) G q1078 dX0_isInject_75 ?_
        refine JPS_I (pc := 78) (as := [.long (Int32.toInt64 p3), .long 0, .long 50]) (st' := []) G (Ws_in_fn (Int32.toInt64 p3) 0 50 S d) (JC_S (n := 3) G hRm q575 q576 q137 q577 dd_X0_in ⟨by decide, by decide⟩ dX0_isInject_78 rfl (Nat.le_of_ble_eq_true rfl)) rfl (fun r4 hr4 => ?_)
        refine JR_if_eq (pc := 81) (tgt := 97) G dX0_isInject_81 (by decide) (fun c13 => ?_) (fun c13 => ?_)
        · refine JR_iconst (pc := 97) G ci_0 dX0_isInject_97 ?_
          exact JR_zret (pc := 98) G hR dX0_isInject_98 (Or.inl rfl) rfl rfl
        · refine JR_iload (pc := 84) (i := 5) G rfl dX0_isInject_84 ?_
          refine JR_i2l (pc := 86) G dX0_isInject_86 ?_
          refine JR_lconst (pc := 87) G cl_1 dX0_isInject_87 ?_
          refine JR_ldc2 (pc := 88) G q1540 dX0_isInject_88 ?_
          refine JPS_I (pc := 91) (as := [.long (Int32.toInt64 p5), .long 1, .long 9]) (st' := []) G (Ws_in_fn (Int32.toInt64 p5) 1 9 S d) (JC_S (n := 3) G hRm q575 q576 q137 q577 dd_X0_in ⟨by decide, by decide⟩ dX0_isInject_91 rfl (Nat.le_of_ble_eq_true rfl)) rfl (fun r5 hr5 => ?_)
          refine JR_if_ne (pc := 94) (tgt := 99) G dX0_isInject_94 (by decide) (fun c12 => ?_) (fun c12 => ?_)
          · refine JR_iload_n (pc := 99) (k := 1) (i := 1) G rfl rfl dX0_isInject_99 ?_
            refine JR_iconst (pc := 100) G ci_4 dX0_isInject_100 ?_
            refine JR_icmp_ne (pc := 101) (tgt := 117) G dX0_isInject_101 (by decide) (fun c11 => ?_) (fun c11 => ?_)
            · refine JR_iload (pc := 117) (i := 4) G rfl dX0_isInject_117 ?_
              refine JR_i2l (pc := 119) G dX0_isInject_119 ?_
              refine JR_lconst (pc := 120) G cl_0 dX0_isInject_120 ?_
              refine JR_aload_n (pc := 121) (k := 0) (i := 0) (o := some this) G rfl rfl dX0_isInject_121 ?_
              refine JR_iload_n (pc := 122) (k := 2) (i := 2) G rfl rfl dX0_isInject_122 ?_
              refine JPV_R (pc := 123) (as := [.int p2]) (st' := [.long 0, .long (Int32.toInt64 p4)]) (o := some this) G (Ws_taskOf_fn this p2 S d) (JC_V (n := 1) G hRm cl_X0 q431 q433 qs2 q137 q434 ⟨rfl, dd_X0_taskOf⟩ ⟨by decide, by decide⟩ dX0_isInject_123 hz2 rfl (Nat.le_of_ble_eq_true rfl)) rfl (fun r6 hr6 => ?_)
              refine J_bd (fun z7 hz7 => ?_)
              refine JR_gIN (pc := 126) (k := 8) G cl_X13 in_X13 (by decide) (by decide) rfl (Or.inl rfl) q837 hz7 dX0_isInject_126 ?_
              refine JR_iconst (pc := 129) G ci_1 dX0_isInject_129 ?_
              refine JR_isub (pc := 130) G dX0_isInject_130 ?_
              refine JR_i2l (pc := 131) G dX0_isInject_131 ?_
              refine JPS_I (pc := 132) (as := [.long (Int32.toInt64 p4), .long 0, .long (Int32.toInt64 ((d.1 z7 8) - 1))]) (st' := []) G (Ws_in_fn (Int32.toInt64 p4) 0 (Int32.toInt64 ((d.1 z7 8) - 1)) S d) (JC_S (n := 3) G hRm q575 q576 q137 q577 dd_X0_in ⟨by decide, by decide⟩ dX0_isInject_132 rfl (Nat.le_of_ble_eq_true rfl)) rfl (fun r8 hr8 => ?_)
              refine J_bd (fun b9 hb9 => ?_)
              refine J_stk (st' := [.int b9]) (by rw [(gb_at hb9).1]) ?_
              exact JR_zret (pc := 135) G hR dX0_isInject_135 (by have h9 := gb_at hb9; rw [h9.1]; exact h9.2) rfl rfl
            · refine JR_iload (pc := 104) (i := 4) G rfl dX0_isInject_104 ?_
              refine JR_if_ne (pc := 106) (tgt := 113) G dX0_isInject_106 (by decide) (fun c10 => ?_) (fun c10 => ?_)
              · refine JR_iconst (pc := 113) G ci_0 dX0_isInject_113 ?_
                refine JR_goto (pc := 114) (tgt := 135) G dX0_isInject_114 (by decide) ?_
                exact JR_zret (pc := 135) G hR dX0_isInject_135 (Or.inl rfl) rfl rfl
              · refine JR_iconst (pc := 109) G ci_1 dX0_isInject_109 ?_
                refine JR_goto (pc := 110) (tgt := 135) G dX0_isInject_110 (by decide) ?_
                exact JR_zret (pc := 135) G hR dX0_isInject_135 (Or.inr rfl) rfl rfl
          · refine JR_iconst (pc := 97) G ci_0 dX0_isInject_97 ?_
            exact JR_zret (pc := 98) G hR dX0_isInject_98 (Or.inl rfl) rfl rfl
  · refine JR_iload_n (pc := 5) (k := 2) (i := 2) G rfl rfl dX0_isInject_5 ?_
    refine JR_i2l (pc := 6) G dX0_isInject_6 ?_
    refine JR_lconst (pc := 7) G cl_0 dX0_isInject_7 ?_
    refine JR_aload_n (pc := 8) (k := 0) (i := 0) (o := some this) G rfl rfl dX0_isInject_8 ?_
    refine J_bd (fun z16 hz16 => ?_)
    refine JR_gR (pc := 9) (k := 0) G cl_X0 in_X0 (by decide) (by decide) rfl (Or.inl rfl) q451 hz16 dX0_isInject_9 ?_
    refine J_bd (fun z17 hz17 => ?_)
    refine JR_gIN (pc := 12) (k := 6) G cl_X1 in_X1 (by decide) (by decide) rfl (Or.inl rfl) q237 hz17 dX0_isInject_12 ?_
    refine JR_iconst (pc := 15) G ci_1 dX0_isInject_15 ?_
    refine JR_isub (pc := 16) G dX0_isInject_16 ?_
    refine JR_i2l (pc := 17) G dX0_isInject_17 ?_
    refine JPS_I (pc := 18) (as := [.long (Int32.toInt64 p2), .long 0, .long (Int32.toInt64 ((d.1 z17 6) - 1))]) (st' := []) G (Ws_in_fn (Int32.toInt64 p2) 0 (Int32.toInt64 ((d.1 z17 6) - 1)) S d) (JC_S (n := 3) G hRm q575 q576 q137 q577 dd_X0_in ⟨by decide, by decide⟩ dX0_isInject_18 rfl (Nat.le_of_ble_eq_true rfl)) rfl (fun r18 hr18 => ?_)
    refine JR_if_eq (pc := 21) (tgt := 50) G dX0_isInject_21 (by decide) (fun c23 => ?_) (fun c23 => ?_)
    · refine JR_iconst (pc := 50) G ci_0 dX0_isInject_50 ?_
      exact JR_zret (pc := 51) G hR dX0_isInject_51 (Or.inl rfl) rfl rfl
    · refine JR_iload_n (pc := 24) (k := 3) (i := 3) G rfl rfl dX0_isInject_24 ?_
      refine JR_i2l (pc := 25) G dX0_isInject_25 ?_
      refine JR_lconst (pc := 26) G cl_0 dX0_isInject_26 ?_
      refine JR_ldc2 (pc := 27) G q1539 dX0_isInject_27 ?_
      refine JPS_I (pc := 30) (as := [.long (Int32.toInt64 p3), .long 0, .long 199]) (st' := []) G (Ws_in_fn (Int32.toInt64 p3) 0 199 S d) (JC_S (n := 3) G hRm q575 q576 q137 q577 dd_X0_in ⟨by decide, by decide⟩ dX0_isInject_30 rfl (Nat.le_of_ble_eq_true rfl)) rfl (fun r19 hr19 => ?_)
      refine JR_if_eq (pc := 33) (tgt := 50) G dX0_isInject_33 (by decide) (fun c22 => ?_) (fun c22 => ?_)
      · refine JR_iconst (pc := 50) G ci_0 dX0_isInject_50 ?_
        exact JR_zret (pc := 51) G hR dX0_isInject_51 (Or.inl rfl) rfl rfl
      · refine JR_iload (pc := 36) (i := 4) G rfl dX0_isInject_36 ?_
        refine JR_if_ne (pc := 38) (tgt := 50) G dX0_isInject_38 (by decide) (fun c21 => ?_) (fun c21 => ?_)
        · refine JR_iconst (pc := 50) G ci_0 dX0_isInject_50 ?_
          exact JR_zret (pc := 51) G hR dX0_isInject_51 (Or.inl rfl) rfl rfl
        · refine JR_iload (pc := 41) (i := 5) G rfl dX0_isInject_41 ?_
          refine JR_if_ne (pc := 43) (tgt := 50) G dX0_isInject_43 (by decide) (fun c20 => ?_) (fun c20 => ?_)
          · refine JR_iconst (pc := 50) G ci_0 dX0_isInject_50 ?_
            exact JR_zret (pc := 51) G hR dX0_isInject_51 (Or.inl rfl) rfl rfl
          · refine JR_iconst (pc := 46) G ci_1 dX0_isInject_46 ?_
            refine JR_goto (pc := 47) (tgt := 51) G dX0_isInject_47 (by decide) ?_
            exact JR_zret (pc := 51) G hR dX0_isInject_51 (Or.inr rfl) rfl rfl

def Ws_inject_b79 (this : Nat) (p1 : Int32) (p2 : Int32) (p3 : Int32) (p4 : Int32) (p5 : Int32) (s0 : Int32) (s1 : Int32) (s2 : Int32) (s3 : Int32) (s4 : Int32) (s5 : Option Nat) (s6 : Option Nat) (s7 : Option Nat) (S : Sp) (d : Dt) : Option (Int32 × Sp × Dt) :=
  (isK S 13 s5).bind fun z12 =>
  bind2 (In_init z12 s4 s3 s2 s1 s0 S d) fun _ d13 =>
  (isK S 16 s7).bind fun z14 =>
  bind3 (Jl_add z14 s6 S d13) fun r15 S16 d17 =>
  (isK S16 0 (some this)).bind fun z18 =>
  bind3 (Ws_all this ((-1)) S16 d17) fun r19 S20 d21 =>
  some (r19, S20, d21)
def Ws_inject_b68 (this : Nat) (p1 : Int32) (p2 : Int32) (p3 : Int32) (p4 : Int32) (p5 : Int32) (s0 : Int32) (s1 : Int32) (s2 : Int32) (s3 : Int32) (s4 : Option Nat) (s5 : Option Nat) (s6 : Option Nat) (S : Sp) (d : Dt) : Option (Int32 × Sp × Dt) :=
  Ws_inject_b79 this p1 p2 p3 p4 p5 (if ¬ p1 = 5 then p5 else (-1)) s0 s1 s2 s3 s4 s5 s6 S d
def Ws_inject (this : Nat) (p1 : Int32) (p2 : Int32) (p3 : Int32) (p4 : Int32) (p5 : Int32) (S : Sp) (d : Dt) : Option (Int32 × Sp × Dt) :=
  (isK S 0 (some this)).bind fun z1 =>
  (Ws_isInject this p1 p2 p3 p4 p5 S d).bind fun r2 =>
  if ¬ r2 = 0 then
    (isK S 1 (S.2.1 z1 0)).bind fun z3 =>
    (isK S 16 (S.2.1 z3 1)).bind fun z4 =>
    (Jl_size z4 S d).bind fun r5 =>
    if ¬ (r5 - (d.1 z3 7)) = 10 then
      bind2 (some (mmNew S (13, 0) 5, mmNewD S d)) fun S6 d7 =>
      Ws_inject_b68 this p1 p2 p3 p4 p5 (if 4 ≤ p1 then (-1) else p4) p3 p2 p1 (some S.1.length) (some S.1.length) (S.2.1 z3 1) S6 d7
    else
      some ((-5), S, d)
  else
    some ((-2), S, d)
set_option maxHeartbeats 4000000 in
theorem Ws_inject_fn (this : Nat) (p1 : Int32) (p2 : Int32) (p3 : Int32) (p4 : Int32) (p5 : Int32) (S : Sp) (d : Dt) : Fn yX0_inject (ws_ yX0_inject cX0_inject 6 (some .int)) 17 387 [va_rf (some this), .int p1, .int p2, .int p3, .int p4, .int p5] S d rvI Λa (Ws_inject this p1 p2 p3 p4 p5 S d) := by
  refine Fn.ofJ (own := RX0) (lv := [(0, va_rf (some this)), (1, .int p1), (2, .int p2), (3, .int p3), (4, .int p4), (5, .int p5)]) (by decide +kernel) rfl (by simp [cat_i, cat_l, cat_f, cat_d, rf_cat]) (by simp [lv_args, cat_i, cat_l, cat_f, cat_d, rf_cat]) ?_
  intro X F G hRm hR hI
  have hWs_inject_b79 : ∀ (s0 : Int32) (s1 : Int32) (s2 : Int32) (s3 : Int32) (s4 : Int32) (s5 : Option Nat) (s6 : Option Nat) (s7 : Option Nat) (S : Sp) (d : Dt), J X F Λa S d 79 [(0, va_rf (some this)), (1, .int p1), (2, .int p2), (3, .int p3), (4, .int p4), (5, .int p5)] [.int s0, .int s1, .int s2, .int s3, .int s4, va_rf s5, va_rf s6, va_rf s7] (Ws_inject_b79 this p1 p2 p3 p4 p5 s0 s1 s2 s3 s4 s5 s6 s7 S d) := by
    intro s0 s1 s2 s3 s4 s5 s6 s7 S d
    unfold Ws_inject_b79
    refine J_bd (fun z12 hz12 => ?_)
    refine J_stk (st' := [.int s0, .int s1, .int s2, .int s3, .int s4, va_rf (some z12), va_rf s6, va_rf s7]) (by rw [(isK_at hz12).1]) ?_
    refine JQV_U (pc := 79) (as := [.int s4, .int s3, .int s2, .int s1, .int s0]) (st' := [va_rf s6, va_rf s7]) (o := some z12) G (In_init_fn z12 s4 s3 s2 s1 s0 S d) (JC_I (n := 5) G hRm q1512 q951 q166 q952 rfl dd_X14_init ⟨by decide, by decide⟩ dX0_inject_79 rfl (Nat.le_of_ble_eq_true rfl)) rfl (fun _ _ => rfl) (fun _ d13 hd13 => ?_)
    refine J_bd (fun z14 hz14 => ?_)
    refine J_stk (st' := [va_rf s6, va_rf (some z14)]) (by rw [(isK_at hz14).1]) ?_
    refine JAV_I (pc := 82) (as := [va_rf s6]) (st' := []) (o := some z14) G (Jl_add_fn z14 s6 S d13) (JC_V (n := 1) G hRm cl_J2 q1513 q858 q859 q141 q860 ⟨rfl, dd_J2_add⟩ ⟨by decide, by decide⟩ dX0_inject_82 (isK_s hz14) rfl (Nat.le_of_ble_eq_true rfl)) rfl (fun _ _ _ => rfl) (fun r15 S16 d17 hd17 => ?_)
    refine JR_pop (pc := 85) G rfl dX0_inject_85 ?_
    refine JR_aload_n (pc := 86) (k := 0) (i := 0) (o := some this) G rfl rfl dX0_inject_86 ?_
    refine JR_iconst (pc := 87) G ci_m1 dX0_inject_87 ?_
    refine J_bd (fun z18 hz18 => ?_)
    refine JAV_I (pc := 88) (as := [.int ((-1))]) (st' := []) (o := some this) G (Ws_all_fn this ((-1)) S16 d17) (JC_V (n := 1) G hRm cl_X0 q1332 q1334 qs51 q137 q1335 ⟨rfl, dd_X0_all⟩ ⟨by decide, by decide⟩ dX0_inject_88 hz18 rfl (Nat.le_of_ble_eq_true rfl)) rfl (fun _ _ _ => rfl) (fun r19 S20 d21 hd21 => ?_)
    exact JR_iret (pc := 91) G hR dX0_inject_91 rfl rfl
  have hWs_inject_b68 : ∀ (s0 : Int32) (s1 : Int32) (s2 : Int32) (s3 : Int32) (s4 : Option Nat) (s5 : Option Nat) (s6 : Option Nat) (S : Sp) (d : Dt), J X F Λa S d 68 [(0, va_rf (some this)), (1, .int p1), (2, .int p2), (3, .int p3), (4, .int p4), (5, .int p5)] [.int s0, .int s1, .int s2, .int s3, va_rf s4, va_rf s5, va_rf s6] (Ws_inject_b68 this p1 p2 p3 p4 p5 s0 s1 s2 s3 s4 s5 s6 S d) := by
    intro s0 s1 s2 s3 s4 s5 s6 S d
    unfold Ws_inject_b68
    refine JR_iload_n (pc := 68) (k := 1) (i := 1) G rfl rfl dX0_inject_68 ?_
    refine JR_iconst (pc := 69) G ci_5 dX0_inject_69 ?_
    refine J_eq (r' := if ¬ p1 = 5 then Ws_inject_b79 this p1 p2 p3 p4 p5 p5 s0 s1 s2 s3 s4 s5 s6 S d else Ws_inject_b79 this p1 p2 p3 p4 p5 ((-1)) s0 s1 s2 s3 s4 s5 s6 S d) (by split <;> rfl) ?_
    refine JR_icmp_ne (pc := 70) (tgt := 77) G dX0_inject_70 (by decide) (fun c11 => ?_) (fun c11 => ?_)
    · refine JR_iload (pc := 77) (i := 5) G rfl dX0_inject_77 ?_
      exact hWs_inject_b79 p5 s0 s1 s2 s3 s4 s5 s6 S d
    · refine JR_iconst (pc := 73) G ci_m1 dX0_inject_73 ?_
      refine JR_goto (pc := 74) (tgt := 79) G dX0_inject_74 (by decide) ?_
      exact hWs_inject_b79 ((-1)) s0 s1 s2 s3 s4 s5 s6 S d
  unfold Ws_inject
  refine JR_aload_n (pc := 0) (k := 0) (i := 0) (o := some this) G rfl rfl dX0_inject_0 ?_
  refine JR_iload_n (pc := 1) (k := 1) (i := 1) G rfl rfl dX0_inject_1 ?_
  refine JR_iload_n (pc := 2) (k := 2) (i := 2) G rfl rfl dX0_inject_2 ?_
  refine JR_iload_n (pc := 3) (k := 3) (i := 3) G rfl rfl dX0_inject_3 ?_
  refine JR_iload (pc := 4) (i := 4) G rfl dX0_inject_4 ?_
  refine JR_iload (pc := 6) (i := 5) G rfl dX0_inject_6 ?_
  refine J_bd (fun z1 hz1 => ?_)
  refine JPV_I (pc := 8) (as := [.int p1, .int p2, .int p3, .int p4, .int p5]) (st' := []) (o := some this) G (Ws_isInject_fn this p1 p2 p3 p4 p5 S d) (JC_V (n := 5) G hRm cl_X0 q1535 q1537 qs59 q137 q1538 ⟨rfl, dd_X0_isInject⟩ ⟨by decide, by decide⟩ dX0_inject_8 hz1 rfl (Nat.le_of_ble_eq_true rfl)) rfl (fun r2 hr2 => ?_)
  refine JR_if_ne (pc := 11) (tgt := 17) G dX0_inject_11 (by decide) (fun c10 => ?_) (fun c10 => ?_)
  · refine JR_aload_n (pc := 17) (k := 0) (i := 0) (o := some this) G rfl rfl dX0_inject_17 ?_
    refine JR_gR (pc := 18) (k := 0) G cl_X0 in_X0 (by decide) (by decide) rfl (Or.inl rfl) q451 hz1 dX0_inject_18 ?_
    refine J_bd (fun z3 hz3 => ?_)
    refine JR_gRN (pc := 21) (k := 1) G cl_X1 in_X1 (by decide) (by decide) rfl (Or.inl rfl) q220 hz3 dX0_inject_21 ?_
    refine J_bd (fun z4 hz4 => ?_)
    refine J_stk (st' := [va_rf (some z4)]) (by rw [(isK_at hz4).1]) ?_
    refine JPV_I (pc := 24) (as := []) (st' := []) (o := some z4) G (Jl_size_fn z4 S d) (JC_V (n := 0) G hRm cl_J2 q427 q428 q429 q141 q430 ⟨rfl, dd_J2_size⟩ ⟨by decide, by decide⟩ dX0_inject_24 (isK_s hz4) rfl (Nat.le_of_ble_eq_true rfl)) rfl (fun r5 hr5 => ?_)
    refine JR_aload_n (pc := 27) (k := 0) (i := 0) (o := some this) G rfl rfl dX0_inject_27 ?_
    refine JR_gR (pc := 28) (k := 0) G cl_X0 in_X0 (by decide) (by decide) rfl (Or.inl rfl) q451 hz1 dX0_inject_28 ?_
    refine JR_gIN (pc := 31) (k := 7) G cl_X1 in_X1 (by decide) (by decide) rfl (Or.inl rfl) q240 hz3 dX0_inject_31 ?_
    refine JR_isub (pc := 34) G dX0_inject_34 ?_
    refine JR_bipush (pc := 35) (v := 10) G (by decide) dX0_inject_35 ?_
    refine JR_icmp_ne (pc := 37) (tgt := 43) G dX0_inject_37 (by decide) (fun c9 => ?_) (fun c9 => ?_)
    · refine JR_aload_n (pc := 43) (k := 0) (i := 0) (o := some this) G rfl rfl dX0_inject_43 ?_
      refine JR_gR (pc := 44) (k := 0) G cl_X0 in_X0 (by decide) (by decide) rfl (Or.inl rfl) q451 hz1 dX0_inject_44 ?_
      refine JR_gRN (pc := 47) (k := 1) G cl_X1 in_X1 (by decide) (by decide) rfl (Or.inl rfl) q220 hz3 dX0_inject_47 ?_
      refine JW_new (pc := 50) G cl_X14 in_X14 tyX14_ok (by decide) lg_X14 q1005 q948 q166 (fun _ => rfl) dX0_inject_50 ?_
      refine J_nm2 (fun S6 d7 hS6 hd7 => ?_)
      refine JR_dup (pc := 53) G (rf_cat _) dX0_inject_53 ?_
      refine JR_iload_n (pc := 54) (k := 1) (i := 1) G rfl rfl dX0_inject_54 ?_
      refine JR_iload_n (pc := 55) (k := 2) (i := 2) G rfl rfl dX0_inject_55 ?_
      refine JR_iload_n (pc := 56) (k := 3) (i := 3) G rfl rfl dX0_inject_56 ?_
      refine JR_iload_n (pc := 57) (k := 1) (i := 1) G rfl rfl dX0_inject_57 ?_
      refine JR_iconst (pc := 58) G ci_4 dX0_inject_58 ?_
      refine J_eq (r' := if 4 ≤ p1 then Ws_inject_b68 this p1 p2 p3 p4 p5 ((-1)) p3 p2 p1 (some S.1.length) (some S.1.length) (S.2.1 z3 1) S6 d7 else Ws_inject_b68 this p1 p2 p3 p4 p5 p4 p3 p2 p1 (some S.1.length) (some S.1.length) (S.2.1 z3 1) S6 d7) (by split <;> rfl) ?_
      refine JR_icmp_ge (pc := 59) (tgt := 67) G dX0_inject_59 (by decide) (fun c8 => ?_) (fun c8 => ?_)
      · refine JR_iconst (pc := 67) G ci_m1 dX0_inject_67 ?_
        exact hWs_inject_b68 ((-1)) p3 p2 p1 (some S.1.length) (some S.1.length) (S.2.1 z3 1) S6 d7
      · refine JR_iload (pc := 62) (i := 4) G rfl dX0_inject_62 ?_
        refine JR_goto (pc := 64) (tgt := 68) G dX0_inject_64 (by decide) ?_
        exact hWs_inject_b68 p4 p3 p2 p1 (some S.1.length) (some S.1.length) (S.2.1 z3 1) S6 d7
    · refine JR_bipush (pc := 40) (v := (-5)) G (by decide) dX0_inject_40 ?_
      exact JR_iret (pc := 42) G hR dX0_inject_42 rfl rfl
  · refine JR_bipush (pc := 14) (v := (-2)) G (by decide) dX0_inject_14 ?_
    exact JR_iret (pc := 16) G hR dX0_inject_16 rfl rfl

def Ws_undo (this : Nat) (S : Sp) (d : Dt) : Option (Int32 × Sp × Dt) :=
  (isK S 0 (some this)).bind fun z1 =>
  (isK S 1 (S.2.1 z1 0)).bind fun z2 =>
  (To_is z2 S d).bind fun r3 =>
  if ¬ r3 = 0 then
    (isK S 16 (S.2.1 z2 1)).bind fun z4 =>
    (Jl_size z4 S d).bind fun r5 =>
    (some (r5 - (d.1 z2 7))).bind fun x6 =>
    if ¬ x6 = 0 then
      (Jl_size z4 S d).bind fun r7 =>
      bind3 (Jl_remove z4 (r7 - 1) S d) fun r8 S9 d10 =>
      some (x6 - 1, S9, d10)
    else
      some ((-5), S, d)
  else
    some ((-2), S, d)
set_option maxHeartbeats 4000000 in
theorem Ws_undo_fn (this : Nat) (S : Sp) (d : Dt) : Fn yX0_undo (ws_ yX0_undo cX0_undo 2 (some .int)) 3 66 [va_rf (some this)] S d rvI Λa (Ws_undo this S d) := by
  refine Fn.ofJ (own := RX0) (lv := [(0, va_rf (some this))]) (by decide +kernel) rfl (by simp [cat_i, cat_l, cat_f, cat_d, rf_cat]) (by simp [lv_args, cat_i, cat_l, cat_f, cat_d, rf_cat]) ?_
  intro X F G hRm hR hI
  unfold Ws_undo
  refine JR_aload_n (pc := 0) (k := 0) (i := 0) (o := some this) G rfl rfl dX0_undo_0 ?_
  refine J_bd (fun z1 hz1 => ?_)
  refine JR_gR (pc := 1) (k := 0) G cl_X0 in_X0 (by decide) (by decide) rfl (Or.inl rfl) q451 hz1 dX0_undo_1 ?_
  refine J_bd (fun z2 hz2 => ?_)
  refine J_stk (st' := [va_rf (some z2)]) (by rw [(isK_at hz2).1]) ?_
  refine JPV_I (pc := 4) (as := []) (st' := []) (o := some z2) G (To_is_fn z2 S d) (JC_V (n := 0) G hRm cl_X1 q1105 q1106 q1107 q138 q1108 ⟨rfl, dd_X1_is⟩ ⟨by decide, by decide⟩ dX0_undo_4 (isK_s hz2) rfl (Nat.le_of_ble_eq_true rfl)) rfl (fun r3 hr3 => ?_)
  refine JR_if_ne (pc := 7) (tgt := 13) G dX0_undo_7 (by decide) (fun c12 => ?_) (fun c12 => ?_)
  · refine JR_aload_n (pc := 13) (k := 0) (i := 0) (o := some this) G rfl rfl dX0_undo_13 ?_
    refine JR_gR (pc := 14) (k := 0) G cl_X0 in_X0 (by decide) (by decide) rfl (Or.inl rfl) q451 hz1 dX0_undo_14 ?_
    refine JR_gRN (pc := 17) (k := 1) G cl_X1 in_X1 (by decide) (by decide) rfl (Or.inl rfl) q220 hz2 dX0_undo_17 ?_
    refine J_bd (fun z4 hz4 => ?_)
    refine J_stk (st' := [va_rf (some z4)]) (by rw [(isK_at hz4).1]) ?_
    refine JPV_I (pc := 20) (as := []) (st' := []) (o := some z4) G (Jl_size_fn z4 S d) (JC_V (n := 0) G hRm cl_J2 q427 q428 q429 q141 q430 ⟨rfl, dd_J2_size⟩ ⟨by decide, by decide⟩ dX0_undo_20 (isK_s hz4) rfl (Nat.le_of_ble_eq_true rfl)) rfl (fun r5 hr5 => ?_)
    refine JR_aload_n (pc := 23) (k := 0) (i := 0) (o := some this) G rfl rfl dX0_undo_23 ?_
    refine JR_gR (pc := 24) (k := 0) G cl_X0 in_X0 (by decide) (by decide) rfl (Or.inl rfl) q451 hz1 dX0_undo_24 ?_
    refine JR_gIN (pc := 27) (k := 7) G cl_X1 in_X1 (by decide) (by decide) rfl (Or.inl rfl) q240 hz2 dX0_undo_27 ?_
    refine JR_isub (pc := 30) G dX0_undo_30 ?_
    refine J_nm (fun x6 hx6 => ?_)
    refine JR_istore_n (pc := 31) (k := 1) (i := 1) (lv' := [(1, .int x6), (0, va_rf (some this))]) G rfl (by decide) rfl dX0_undo_31 ?_
    refine JR_iload_n (pc := 32) (k := 1) (i := 1) G rfl rfl dX0_undo_32 ?_
    refine JR_if_ne (pc := 33) (tgt := 39) G dX0_undo_33 (by decide) (fun c11 => ?_) (fun c11 => ?_)
    · refine JR_aload_n (pc := 39) (k := 0) (i := 0) (o := some this) G rfl rfl dX0_undo_39 ?_
      refine JR_gR (pc := 40) (k := 0) G cl_X0 in_X0 (by decide) (by decide) rfl (Or.inl rfl) q451 hz1 dX0_undo_40 ?_
      refine JR_gRN (pc := 43) (k := 1) G cl_X1 in_X1 (by decide) (by decide) rfl (Or.inl rfl) q220 hz2 dX0_undo_43 ?_
      refine JR_aload_n (pc := 46) (k := 0) (i := 0) (o := some this) G rfl rfl dX0_undo_46 ?_
      refine JR_gR (pc := 47) (k := 0) G cl_X0 in_X0 (by decide) (by decide) rfl (Or.inl rfl) q451 hz1 dX0_undo_47 ?_
      refine JR_gRN (pc := 50) (k := 1) G cl_X1 in_X1 (by decide) (by decide) rfl (Or.inl rfl) q220 hz2 dX0_undo_50 ?_
      refine J_stk (st' := [va_rf (some z4), va_rf (S.2.1 z2 1)]) (by rw [(isK_at hz4).1]) ?_
      refine JPV_I (pc := 53) (as := []) (st' := [va_rf (S.2.1 z2 1)]) (o := some z4) G (Jl_size_fn z4 S d) (JC_V (n := 0) G hRm cl_J2 q427 q428 q429 q141 q430 ⟨rfl, dd_J2_size⟩ ⟨by decide, by decide⟩ dX0_undo_53 (isK_s hz4) rfl (Nat.le_of_ble_eq_true rfl)) rfl (fun r7 hr7 => ?_)
      refine JR_iconst (pc := 56) G ci_1 dX0_undo_56 ?_
      refine JR_isub (pc := 57) G dX0_undo_57 ?_
      refine J_stk (st' := [.int (r7 - 1), va_rf (some z4)]) (by rw [(isK_at hz4).1]) ?_
      refine JAV_R (pc := 58) (as := [.int (r7 - 1)]) (st' := []) (o := some z4) G (Jl_remove_fn z4 (r7 - 1) S d) (JC_V (n := 1) G hRm cl_J2 q1518 q1519 q1520 q141 q1521 ⟨rfl, dd_J2_remove⟩ ⟨by decide, by decide⟩ dX0_undo_58 (isK_s hz4) rfl (Nat.le_of_ble_eq_true rfl)) rfl (fun _ _ _ => rfl) (fun r8 S9 d10 hd10 => ?_)
      refine JR_pop (pc := 61) G (rf_cat _) dX0_undo_61 ?_
      refine JR_iload_n (pc := 62) (k := 1) (i := 1) G rfl rfl dX0_undo_62 ?_
      refine JR_iconst (pc := 63) G ci_1 dX0_undo_63 ?_
      refine JR_isub (pc := 64) G dX0_undo_64 ?_
      exact JR_iret (pc := 65) G hR dX0_undo_65 rfl rfl
    · refine JR_bipush (pc := 36) (v := (-5)) G (by decide) dX0_undo_36 ?_
      exact JR_iret (pc := 38) G hR dX0_undo_38 rfl rfl
  · refine JR_bipush (pc := 10) (v := (-2)) G (by decide) dX0_undo_10 ?_
    exact JR_iret (pc := 12) G hR dX0_undo_12 rfl rfl

def Ws_anew_h32 (this : Nat) : Nat → Int32 → Sp → Dt → Option (Int32 × Sp × Dt)
  | 0, _, _, _ => none
  | f + 1, v1, S, d =>
    (isK S 0 (some this)).bind fun z8 =>
    (isK S 1 (S.2.1 z8 0)).bind fun z9 =>
    (isK S 16 (S.2.1 z9 1)).bind fun z10 =>
    (Jl_size z10 S d).bind fun r11 =>
    if r11 ≤ (d.1 z9 7) then
      some (v1, S, d)
    else
      (Jl_size z10 S d).bind fun r12 =>
      bind3 (Jl_remove z10 (r12 - 1) S d) fun r13 S14 d15 =>
      Ws_anew_h32 this f v1 S14 d15
def Ws_anew (this : Nat) (S : Sp) (d : Dt) : Option (Int32 × Sp × Dt) :=
  (isK S 0 (some this)).bind fun z1 =>
  (isK S 1 (S.2.1 z1 0)).bind fun z2 =>
  (To_is z2 S d).bind fun r3 =>
  if ¬ r3 = 0 then
    (isK S 16 (S.2.1 z2 1)).bind fun z4 =>
    (Jl_size z4 S d).bind fun r5 =>
    (some (r5 - (d.1 z2 7))).bind fun x6 =>
    Ws_anew_h32 this FU x6 S d
  else
    some ((-2), S, d)
set_option maxHeartbeats 4000000 in
theorem Ws_anew_fn (this : Nat) (S : Sp) (d : Dt) : Fn yX0_anew (ws_ yX0_anew cX0_anew 2 (some .int)) 3 66 [va_rf (some this)] S d rvI Λa (Ws_anew this S d) := by
  refine Fn.ofJ (own := RX0) (lv := [(0, va_rf (some this))]) (by decide +kernel) rfl (by simp [cat_i, cat_l, cat_f, cat_d, rf_cat]) (by simp [lv_args, cat_i, cat_l, cat_f, cat_d, rf_cat]) ?_
  intro X F G hRm hR hI
  have hWs_anew_h32 : ∀ (f : Nat) (v1 : Int32) (S : Sp) (d : Dt), J X F Λa S d 32 [(0, va_rf (some this)), (1, .int v1)] [] (Ws_anew_h32 this f v1 S d) := by
    intro  f
    induction f with
    | zero => intro v1 S d; exact J_no
    | succ f ih =>
      intro v1 S d
      unfold Ws_anew_h32
      refine JR_aload_n (pc := 32) (k := 0) (i := 0) (o := some this) G rfl rfl dX0_anew_32 ?_
      refine J_bd (fun z8 hz8 => ?_)
      refine JR_gR (pc := 33) (k := 0) G cl_X0 in_X0 (by decide) (by decide) rfl (Or.inl rfl) q451 hz8 dX0_anew_33 ?_
      refine J_bd (fun z9 hz9 => ?_)
      refine JR_gRN (pc := 36) (k := 1) G cl_X1 in_X1 (by decide) (by decide) rfl (Or.inl rfl) q220 hz9 dX0_anew_36 ?_
      refine J_bd (fun z10 hz10 => ?_)
      refine J_stk (st' := [va_rf (some z10)]) (by rw [(isK_at hz10).1]) ?_
      refine JPV_I (pc := 39) (as := []) (st' := []) (o := some z10) G (Jl_size_fn z10 S d) (JC_V (n := 0) G hRm cl_J2 q427 q428 q429 q141 q430 ⟨rfl, dd_J2_size⟩ ⟨by decide, by decide⟩ dX0_anew_39 (isK_s hz10) rfl (Nat.le_of_ble_eq_true rfl)) rfl (fun r11 hr11 => ?_)
      refine JR_aload_n (pc := 42) (k := 0) (i := 0) (o := some this) G rfl rfl dX0_anew_42 ?_
      refine JR_gR (pc := 43) (k := 0) G cl_X0 in_X0 (by decide) (by decide) rfl (Or.inl rfl) q451 hz8 dX0_anew_43 ?_
      refine JR_gIN (pc := 46) (k := 7) G cl_X1 in_X1 (by decide) (by decide) rfl (Or.inl rfl) q240 hz9 dX0_anew_46 ?_
      refine JR_icmp_le (pc := 49) (tgt := 78) G dX0_anew_49 (by decide) (fun c16 => ?_) (fun c16 => ?_)
      · refine JR_iload_n (pc := 78) (k := 1) (i := 1) G rfl rfl dX0_anew_78 ?_
        exact JR_iret (pc := 79) G hR dX0_anew_79 rfl rfl
      · refine JR_aload_n (pc := 52) (k := 0) (i := 0) (o := some this) G rfl rfl dX0_anew_52 ?_
        refine JR_gR (pc := 53) (k := 0) G cl_X0 in_X0 (by decide) (by decide) rfl (Or.inl rfl) q451 hz8 dX0_anew_53 ?_
        refine JR_gRN (pc := 56) (k := 1) G cl_X1 in_X1 (by decide) (by decide) rfl (Or.inl rfl) q220 hz9 dX0_anew_56 ?_
        refine JR_aload_n (pc := 59) (k := 0) (i := 0) (o := some this) G rfl rfl dX0_anew_59 ?_
        refine JR_gR (pc := 60) (k := 0) G cl_X0 in_X0 (by decide) (by decide) rfl (Or.inl rfl) q451 hz8 dX0_anew_60 ?_
        refine JR_gRN (pc := 63) (k := 1) G cl_X1 in_X1 (by decide) (by decide) rfl (Or.inl rfl) q220 hz9 dX0_anew_63 ?_
        refine J_stk (st' := [va_rf (some z10), va_rf (S.2.1 z9 1)]) (by rw [(isK_at hz10).1]) ?_
        refine JPV_I (pc := 66) (as := []) (st' := [va_rf (S.2.1 z9 1)]) (o := some z10) G (Jl_size_fn z10 S d) (JC_V (n := 0) G hRm cl_J2 q427 q428 q429 q141 q430 ⟨rfl, dd_J2_size⟩ ⟨by decide, by decide⟩ dX0_anew_66 (isK_s hz10) rfl (Nat.le_of_ble_eq_true rfl)) rfl (fun r12 hr12 => ?_)
        refine JR_iconst (pc := 69) G ci_1 dX0_anew_69 ?_
        refine JR_isub (pc := 70) G dX0_anew_70 ?_
        refine J_stk (st' := [.int (r12 - 1), va_rf (some z10)]) (by rw [(isK_at hz10).1]) ?_
        refine JAV_R (pc := 71) (as := [.int (r12 - 1)]) (st' := []) (o := some z10) G (Jl_remove_fn z10 (r12 - 1) S d) (JC_V (n := 1) G hRm cl_J2 q1518 q1519 q1520 q141 q1521 ⟨rfl, dd_J2_remove⟩ ⟨by decide, by decide⟩ dX0_anew_71 (isK_s hz10) rfl (Nat.le_of_ble_eq_true rfl)) rfl (fun _ _ _ => rfl) (fun r13 S14 d15 hd15 => ?_)
        refine JR_pop (pc := 74) G (rf_cat _) dX0_anew_74 ?_
        refine JR_goto (pc := 75) (tgt := 32) G dX0_anew_75 (by decide) ?_
        exact ih v1 S14 d15
  unfold Ws_anew
  refine JR_aload_n (pc := 0) (k := 0) (i := 0) (o := some this) G rfl rfl dX0_anew_0 ?_
  refine J_bd (fun z1 hz1 => ?_)
  refine JR_gR (pc := 1) (k := 0) G cl_X0 in_X0 (by decide) (by decide) rfl (Or.inl rfl) q451 hz1 dX0_anew_1 ?_
  refine J_bd (fun z2 hz2 => ?_)
  refine J_stk (st' := [va_rf (some z2)]) (by rw [(isK_at hz2).1]) ?_
  refine JPV_I (pc := 4) (as := []) (st' := []) (o := some z2) G (To_is_fn z2 S d) (JC_V (n := 0) G hRm cl_X1 q1105 q1106 q1107 q138 q1108 ⟨rfl, dd_X1_is⟩ ⟨by decide, by decide⟩ dX0_anew_4 (isK_s hz2) rfl (Nat.le_of_ble_eq_true rfl)) rfl (fun r3 hr3 => ?_)
  refine JR_if_ne (pc := 7) (tgt := 13) G dX0_anew_7 (by decide) (fun c7 => ?_) (fun c7 => ?_)
  · refine JR_aload_n (pc := 13) (k := 0) (i := 0) (o := some this) G rfl rfl dX0_anew_13 ?_
    refine JR_gR (pc := 14) (k := 0) G cl_X0 in_X0 (by decide) (by decide) rfl (Or.inl rfl) q451 hz1 dX0_anew_14 ?_
    refine JR_gRN (pc := 17) (k := 1) G cl_X1 in_X1 (by decide) (by decide) rfl (Or.inl rfl) q220 hz2 dX0_anew_17 ?_
    refine J_bd (fun z4 hz4 => ?_)
    refine J_stk (st' := [va_rf (some z4)]) (by rw [(isK_at hz4).1]) ?_
    refine JPV_I (pc := 20) (as := []) (st' := []) (o := some z4) G (Jl_size_fn z4 S d) (JC_V (n := 0) G hRm cl_J2 q427 q428 q429 q141 q430 ⟨rfl, dd_J2_size⟩ ⟨by decide, by decide⟩ dX0_anew_20 (isK_s hz4) rfl (Nat.le_of_ble_eq_true rfl)) rfl (fun r5 hr5 => ?_)
    refine JR_aload_n (pc := 23) (k := 0) (i := 0) (o := some this) G rfl rfl dX0_anew_23 ?_
    refine JR_gR (pc := 24) (k := 0) G cl_X0 in_X0 (by decide) (by decide) rfl (Or.inl rfl) q451 hz1 dX0_anew_24 ?_
    refine JR_gIN (pc := 27) (k := 7) G cl_X1 in_X1 (by decide) (by decide) rfl (Or.inl rfl) q240 hz2 dX0_anew_27 ?_
    refine JR_isub (pc := 30) G dX0_anew_30 ?_
    refine J_nm (fun x6 hx6 => ?_)
    refine JR_istore_n (pc := 31) (k := 1) (i := 1) (lv' := [(1, .int x6), (0, va_rf (some this))]) G rfl (by decide) rfl dX0_anew_31 ?_
    refine J_sub [1, 0] rfl ?_
    exact hWs_anew_h32 FU x6 S d
  · refine JR_bipush (pc := 10) (v := (-2)) G (by decide) dX0_anew_10 ?_
    exact JR_iret (pc := 12) G hR dX0_anew_12 rfl rfl

def Ws_count (this : Nat) (p1 : Int32) (S : Sp) (d : Dt) : Option Int32 :=
  if p1 = nI 0 then
    (isK S 0 (some this)).bind fun z1 =>
    (isK S 1 (S.2.1 z1 0)).bind fun z2 =>
    some (d.1 z2 3)
  else
    if p1 = nI 1 then
      (isK S 0 (some this)).bind fun z4 =>
      (isK S 1 (S.2.1 z4 0)).bind fun z5 =>
      some (d.1 z5 4)
    else
      if p1 = nI 2 then
        (isK S 0 (some this)).bind fun z7 =>
        (isK S 1 (S.2.1 z7 0)).bind fun z8 =>
        some (d.1 z8 5)
      else
        if p1 = nI 3 then
          (isK S 0 (some this)).bind fun z10 =>
          (isK S 1 (S.2.1 z10 0)).bind fun z11 =>
          some (d.1 z11 6)
        else
          if p1 = nI 4 then
            (isK S 0 (some this)).bind fun z13 =>
            (Ws_tasks this S d).bind fun r14 =>
            some r14
          else
            if p1 = nI 5 then
              (isK S 0 (some this)).bind fun z16 =>
              (isK S 1 (S.2.1 z16 0)).bind fun z17 =>
              some (d.1 z17 7)
            else
              if p1 = nI 6 then
                (isK S 0 (some this)).bind fun z19 =>
                (isK S 1 (S.2.1 z19 0)).bind fun z20 =>
                (isK S 16 (S.2.1 z20 1)).bind fun z21 =>
                (Jl_size z21 S d).bind fun r22 =>
                some (r22 - (d.1 z20 7))
              else
                if p1 = nI 7 then
                  (isK S 0 (some this)).bind fun z24 =>
                  (isK S 1 (S.2.1 z24 0)).bind fun z25 =>
                  some (d.1 z25 8)
                else
                  if p1 = nI 8 then
                    (isK S 0 (some this)).bind fun z27 =>
                    some (d.1 z27 3)
                  else
                    some ((-1))
set_option maxHeartbeats 4000000 in
theorem Ws_count_fn (this : Nat) (p1 : Int32) (S : Sp) (d : Dt) : Fn yX0_count (ws_ yX0_count cX0_count 2 (some .int)) 2 40 [va_rf (some this), .int p1] S d rvI Λp (Ws_count this p1 S d) := by
  refine Fn.ofJ (own := RX0) (lv := [(0, va_rf (some this)), (1, .int p1)]) (by decide +kernel) rfl (by simp [cat_i, cat_l, cat_f, cat_d, rf_cat]) (by simp [lv_args, cat_i, cat_l, cat_f, cat_d, rf_cat]) ?_
  intro X F G hRm hR hI
  unfold Ws_count
  refine JR_iload_n (pc := 0) (k := 1) (i := 1) G rfl rfl dX0_count_0 ?_
  refine J_if (fun c3 => ?_) (fun c3 => ?_)
  · refine JR_tsIn (pc := 1) (k := 0) (tgt := 52) G dX0_count_1 c3 (by decide) (by decide) rfl (by decide) ?_
    refine JR_aload_n (pc := 52) (k := 0) (i := 0) (o := some this) G rfl rfl dX0_count_52 ?_
    refine J_bd (fun z1 hz1 => ?_)
    refine JR_gR (pc := 53) (k := 0) G cl_X0 in_X0 (by decide) (by decide) rfl (Or.inl rfl) q451 hz1 dX0_count_53 ?_
    refine J_bd (fun z2 hz2 => ?_)
    refine JR_gIN (pc := 56) (k := 3) G cl_X1 in_X1 (by decide) (by decide) rfl (Or.inl rfl) q227 hz2 dX0_count_56 ?_
    exact JR_iret (pc := 59) G hR dX0_count_59 rfl rfl
  · refine J_if (fun c6 => ?_) (fun c6 => ?_)
    · refine JR_tsIn (pc := 1) (k := 1) (tgt := 60) G dX0_count_1 c6 (by decide) (by decide) rfl (by decide) ?_
      refine JR_aload_n (pc := 60) (k := 0) (i := 0) (o := some this) G rfl rfl dX0_count_60 ?_
      refine J_bd (fun z4 hz4 => ?_)
      refine JR_gR (pc := 61) (k := 0) G cl_X0 in_X0 (by decide) (by decide) rfl (Or.inl rfl) q451 hz4 dX0_count_61 ?_
      refine J_bd (fun z5 hz5 => ?_)
      refine JR_gIN (pc := 64) (k := 4) G cl_X1 in_X1 (by decide) (by decide) rfl (Or.inl rfl) q230 hz5 dX0_count_64 ?_
      exact JR_iret (pc := 67) G hR dX0_count_67 rfl rfl
    · refine J_if (fun c9 => ?_) (fun c9 => ?_)
      · refine JR_tsIn (pc := 1) (k := 2) (tgt := 68) G dX0_count_1 c9 (by decide) (by decide) rfl (by decide) ?_
        refine JR_aload_n (pc := 68) (k := 0) (i := 0) (o := some this) G rfl rfl dX0_count_68 ?_
        refine J_bd (fun z7 hz7 => ?_)
        refine JR_gR (pc := 69) (k := 0) G cl_X0 in_X0 (by decide) (by decide) rfl (Or.inl rfl) q451 hz7 dX0_count_69 ?_
        refine J_bd (fun z8 hz8 => ?_)
        refine JR_gIN (pc := 72) (k := 5) G cl_X1 in_X1 (by decide) (by decide) rfl (Or.inl rfl) q233 hz8 dX0_count_72 ?_
        exact JR_iret (pc := 75) G hR dX0_count_75 rfl rfl
      · refine J_if (fun c12 => ?_) (fun c12 => ?_)
        · refine JR_tsIn (pc := 1) (k := 3) (tgt := 76) G dX0_count_1 c12 (by decide) (by decide) rfl (by decide) ?_
          refine JR_aload_n (pc := 76) (k := 0) (i := 0) (o := some this) G rfl rfl dX0_count_76 ?_
          refine J_bd (fun z10 hz10 => ?_)
          refine JR_gR (pc := 77) (k := 0) G cl_X0 in_X0 (by decide) (by decide) rfl (Or.inl rfl) q451 hz10 dX0_count_77 ?_
          refine J_bd (fun z11 hz11 => ?_)
          refine JR_gIN (pc := 80) (k := 6) G cl_X1 in_X1 (by decide) (by decide) rfl (Or.inl rfl) q237 hz11 dX0_count_80 ?_
          exact JR_iret (pc := 83) G hR dX0_count_83 rfl rfl
        · refine J_if (fun c15 => ?_) (fun c15 => ?_)
          · refine JR_tsIn (pc := 1) (k := 4) (tgt := 84) G dX0_count_1 c15 (by decide) (by decide) rfl (by decide) ?_
            refine JR_aload_n (pc := 84) (k := 0) (i := 0) (o := some this) G rfl rfl dX0_count_84 ?_
            refine J_bd (fun z13 hz13 => ?_)
            refine JPV_I (pc := 85) (as := []) (st' := []) (o := some this) G (Ws_tasks_fn this S d) (JC_V (n := 0) G hRm cl_X0 q423 q425 qs1 q137 q426 ⟨rfl, dd_X0_tasks⟩ ⟨by decide, by decide⟩ dX0_count_85 hz13 rfl (Nat.le_of_ble_eq_true rfl)) rfl (fun r14 hr14 => ?_)
            exact JR_iret (pc := 88) G hR dX0_count_88 rfl rfl
          · refine J_if (fun c18 => ?_) (fun c18 => ?_)
            · refine JR_tsIn (pc := 1) (k := 5) (tgt := 89) G dX0_count_1 c18 (by decide) (by decide) rfl (by decide) ?_
              refine JR_aload_n (pc := 89) (k := 0) (i := 0) (o := some this) G rfl rfl dX0_count_89 ?_
              refine J_bd (fun z16 hz16 => ?_)
              refine JR_gR (pc := 90) (k := 0) G cl_X0 in_X0 (by decide) (by decide) rfl (Or.inl rfl) q451 hz16 dX0_count_90 ?_
              refine J_bd (fun z17 hz17 => ?_)
              refine JR_gIN (pc := 93) (k := 7) G cl_X1 in_X1 (by decide) (by decide) rfl (Or.inl rfl) q240 hz17 dX0_count_93 ?_
              exact JR_iret (pc := 96) G hR dX0_count_96 rfl rfl
            · refine J_if (fun c23 => ?_) (fun c23 => ?_)
              · refine JR_tsIn (pc := 1) (k := 6) (tgt := 97) G dX0_count_1 c23 (by decide) (by decide) rfl (by decide) ?_
                refine JR_aload_n (pc := 97) (k := 0) (i := 0) (o := some this) G rfl rfl dX0_count_97 ?_
                refine J_bd (fun z19 hz19 => ?_)
                refine JR_gR (pc := 98) (k := 0) G cl_X0 in_X0 (by decide) (by decide) rfl (Or.inl rfl) q451 hz19 dX0_count_98 ?_
                refine J_bd (fun z20 hz20 => ?_)
                refine JR_gRN (pc := 101) (k := 1) G cl_X1 in_X1 (by decide) (by decide) rfl (Or.inl rfl) q220 hz20 dX0_count_101 ?_
                refine J_bd (fun z21 hz21 => ?_)
                refine J_stk (st' := [va_rf (some z21)]) (by rw [(isK_at hz21).1]) ?_
                refine JPV_I (pc := 104) (as := []) (st' := []) (o := some z21) G (Jl_size_fn z21 S d) (JC_V (n := 0) G hRm cl_J2 q427 q428 q429 q141 q430 ⟨rfl, dd_J2_size⟩ ⟨by decide, by decide⟩ dX0_count_104 (isK_s hz21) rfl (Nat.le_of_ble_eq_true rfl)) rfl (fun r22 hr22 => ?_)
                refine JR_aload_n (pc := 107) (k := 0) (i := 0) (o := some this) G rfl rfl dX0_count_107 ?_
                refine JR_gR (pc := 108) (k := 0) G cl_X0 in_X0 (by decide) (by decide) rfl (Or.inl rfl) q451 hz19 dX0_count_108 ?_
                refine JR_gIN (pc := 111) (k := 7) G cl_X1 in_X1 (by decide) (by decide) rfl (Or.inl rfl) q240 hz20 dX0_count_111 ?_
                refine JR_isub (pc := 114) G dX0_count_114 ?_
                exact JR_iret (pc := 115) G hR dX0_count_115 rfl rfl
              · refine J_if (fun c26 => ?_) (fun c26 => ?_)
                · refine JR_tsIn (pc := 1) (k := 7) (tgt := 116) G dX0_count_1 c26 (by decide) (by decide) rfl (by decide) ?_
                  refine JR_aload_n (pc := 116) (k := 0) (i := 0) (o := some this) G rfl rfl dX0_count_116 ?_
                  refine J_bd (fun z24 hz24 => ?_)
                  refine JR_gR (pc := 117) (k := 0) G cl_X0 in_X0 (by decide) (by decide) rfl (Or.inl rfl) q451 hz24 dX0_count_117 ?_
                  refine J_bd (fun z25 hz25 => ?_)
                  refine JR_gIN (pc := 120) (k := 8) G cl_X1 in_X1 (by decide) (by decide) rfl (Or.inl rfl) q242 hz25 dX0_count_120 ?_
                  exact JR_iret (pc := 123) G hR dX0_count_123 rfl rfl
                · refine J_if (fun c28 => ?_) (fun c28 => ?_)
                  · refine JR_tsIn (pc := 1) (k := 8) (tgt := 124) G dX0_count_1 c28 (by decide) (by decide) rfl (by decide) ?_
                    refine JR_aload_n (pc := 124) (k := 0) (i := 0) (o := some this) G rfl rfl dX0_count_124 ?_
                    refine J_bd (fun z27 hz27 => ?_)
                    refine JR_gI (pc := 125) (k := 3) G cl_X0 in_X0 (by decide) (by decide) rfl (Or.inl rfl) q454 hz27 dX0_count_125 ?_
                    exact JR_iret (pc := 128) G hR dX0_count_128 rfl rfl
                  · refine JR_tsOut (pc := 1) (tgt := 129) (n := 8) G dX0_count_1 rfl (by decide) (fun k9 hk9 => by rcases (show k9 = 0 ∨ k9 = 1 ∨ k9 = 2 ∨ k9 = 3 ∨ k9 = 4 ∨ k9 = 5 ∨ k9 = 6 ∨ k9 = 7 ∨ k9 = 8 by omega) with rfl | rfl | rfl | rfl | rfl | rfl | rfl | rfl | rfl <;> assumption) (by decide) ?_
                    refine JR_iconst (pc := 129) G ci_m1 dX0_count_129 ?_
                    exact JR_iret (pc := 130) G hR dX0_count_130 rfl rfl

def Jl_toArray (this : Nat) (S : Sp) (d : Dt) : Option ((Option Nat) × Sp × Dt) :=
  (isK S 16 (some this)).bind fun z1 =>
  bind3 (Ja_copyOf (S.2.1 z1 1) (d.1 z1 2) S d) fun r2 S3 d4 =>
  some (r2, S3, d4)
set_option maxHeartbeats 4000000 in
theorem Jl_toArray_fn (this : Nat) (S : Sp) (d : Dt) : Fn yJ2_toArray (ws_ yJ2_toArray cJ2_toArray 1 (some (.array (.object "java/lang/Object")))) 3 84 [va_rf (some this)] S d rvR Λa (Jl_toArray this S d) := by
  refine Fn.ofJ (own := RJ2) (lv := [(0, va_rf (some this))]) (by decide +kernel) rfl (by simp [cat_i, cat_l, cat_f, cat_d, rf_cat]) (by simp [lv_args, cat_i, cat_l, cat_f, cat_d, rf_cat]) ?_
  intro X F G hRm hR hI
  unfold Jl_toArray
  refine JR_aload_n (pc := 0) (k := 0) (i := 0) (o := some this) G rfl rfl dJ2_toArray_0 ?_
  refine J_bd (fun z1 hz1 => ?_)
  refine JR_gR (pc := 1) (k := 1) G cl_J2 in_J2 (by decide) (by decide) rfl (Or.inl rfl) q204 hz1 dJ2_toArray_1 ?_
  refine JR_aload_n (pc := 4) (k := 0) (i := 0) (o := some this) G rfl rfl dJ2_toArray_4 ?_
  refine JR_gI (pc := 5) (k := 2) G cl_J2 in_J2 (by decide) (by decide) rfl (Or.inl rfl) q205 hz1 dJ2_toArray_5 ?_
  refine JAS_R (pc := 8) (as := [va_rf (S.2.1 z1 1), .int (d.1 z1 2)]) (st' := []) G (Ja_copyOf_fn (S.2.1 z1 1) (d.1 z1 2) S d) (JC_S (n := 2) G hRm q885 q886 q164 q887 dd_J13_copyOf ⟨by decide, by decide⟩ dJ2_toArray_8 rfl (Nat.le_of_ble_eq_true rfl)) rfl (fun _ _ _ => rfl) (fun r2 S3 d4 hd4 => ?_)
  exact JR_aret (pc := 11) G hR ⟨_, rfl, Or.inr ⟨_, rfl⟩⟩ dJ2_toArray_11 rfl rfl

def Jl_addAll_b56 (this : Nat) (p1 : Option Nat) (v2 : Option Nat) (v3 : Int32) (v4 : Option Nat) (v5 : Int32) (S : Sp) (d : Dt) : Option (Int32 × Sp × Dt) :=
  (gcp S 58 v2 v4 0 v5 v3).bind fun q17 =>
  (gel S q17.1 (Int32.toNatClampNeg 0) (Int32.toNatClampNeg v3)).bind fun u18 =>
  (some ((S.1, c2 S.2.1 q17.1 q17.2 (Int32.toNatClampNeg 0) (Int32.toNatClampNeg v5) (Int32.toNatClampNeg v3), S.2.2))).bind fun S19 =>
  (isK S19 16 (some this)).bind fun z20 =>
  (some (dI d z20 2 (v5 + v3))).bind fun d21 =>
  some (1, S19, d21)
def Jl_addAll (this : Nat) (p1 : Option Nat) (S : Sp) (d : Dt) : Option (Int32 × Sp × Dt) :=
  (isK S 16 p1).bind fun z1 =>
  bind3 (Jl_toArray z1 S d) fun r2 S3 d4 =>
  (isK S3 16 (some this)).bind fun z5 =>
  (some (dI d4 z5 0 ((d4.1 z5 0) + 1))).bind fun d6 =>
  (aln S3 58 r2).bind fun n7 =>
  (some (nI n7)).bind fun x8 =>
  if ¬ x8 = 0 then
    (some (S3.2.1 z5 1)).bind fun x9 =>
    (aln S3 58 (S3.2.1 z5 1)).bind fun n10 =>
    (some (d6.1 z5 2)).bind fun x11 =>
    if x8 ≤ ((nI n10) - (d6.1 z5 2)) then
      Jl_addAll_b56 this p1 r2 x8 x9 x11 S3 d6
    else
      bind3 (Jl_grow_2 this (x11 + x8) S3 d6) fun r12 S13 d14 =>
      Jl_addAll_b56 this p1 r2 x8 r12 x11 S13 d14
  else
    some (0, S3, d6)
set_option maxHeartbeats 4000000 in
theorem Jl_addAll_fn (this : Nat) (p1 : Option Nat) (S : Sp) (d : Dt) : Fn yJ2_addAll (ws_ yJ2_addAll cJ2_addAll 6 (some .boolean)) 4 107 [va_rf (some this), va_rf p1] S d rvI Λa (Jl_addAll this p1 S d) := by
  refine Fn.ofJ (own := RJ2) (lv := [(0, va_rf (some this)), (1, va_rf p1)]) (by decide +kernel) rfl (by simp [cat_i, cat_l, cat_f, cat_d, rf_cat]) (by simp [lv_args, cat_i, cat_l, cat_f, cat_d, rf_cat]) ?_
  intro X F G hRm hR hI
  have hJl_addAll_b56 : ∀ (v2 : Option Nat) (v3 : Int32) (v4 : Option Nat) (v5 : Int32) (S : Sp) (d : Dt), J X F Λa S d 56 [(0, va_rf (some this)), (1, va_rf p1), (2, va_rf v2), (3, .int v3), (4, va_rf v4), (5, .int v5)] [] (Jl_addAll_b56 this p1 v2 v3 v4 v5 S d) := by
    intro v2 v3 v4 v5 S d
    unfold Jl_addAll_b56
    refine JR_aload_n (pc := 56) (k := 2) (i := 2) (o := v2) G rfl rfl dJ2_addAll_56 ?_
    refine JR_iconst (pc := 57) G ci_0 dJ2_addAll_57 ?_
    refine JR_aload (pc := 58) (i := 4) (o := v4) G rfl dJ2_addAll_58 ?_
    refine JR_iload (pc := 60) (i := 5) G rfl dJ2_addAll_60 ?_
    refine JR_iload_n (pc := 62) (k := 3) (i := 3) G rfl rfl dJ2_addAll_62 ?_
    refine J_bd (fun q17 hq17 => ?_)
    refine J_bd (fun u18 hu18 => ?_)
    refine JW_copyR (pc := 63) G hRm q1526 q918 q917 q165 q2378 q2379 ⟨by decide, by decide⟩ (Nat.le_of_ble_eq_true rfl) hq17 hu18 (fun _ => rfl) dJ2_addAll_63 ?_
    refine J_nmS (fun S19 hS19 => ?_)
    refine JR_aload_n (pc := 66) (k := 0) (i := 0) (o := some this) G rfl rfl dJ2_addAll_66 ?_
    refine JR_iload (pc := 67) (i := 5) G rfl dJ2_addAll_67 ?_
    refine JR_iload_n (pc := 69) (k := 3) (i := 3) G rfl rfl dJ2_addAll_69 ?_
    refine JR_iadd (pc := 70) G dJ2_addAll_70 ?_
    refine J_bd (fun z20 hz20 => ?_)
    refine JW_pI (pc := 71) (k := 2) G cl_J2 in_J2 tyJ2_ok nmJ2 (by decide) (by decide) rfl (Or.inl rfl) rfl q205 rfl rfl hz20 (fun _ => rfl) dJ2_addAll_71 ?_
    refine J_nmD (fun d21 hd21 => ?_)
    refine JR_iconst (pc := 74) G ci_1 dJ2_addAll_74 ?_
    exact JR_zret (pc := 75) G hR dJ2_addAll_75 (Or.inr rfl) rfl rfl
  unfold Jl_addAll
  refine JR_aload_n (pc := 0) (k := 1) (i := 1) (o := p1) G rfl rfl dJ2_addAll_0 ?_
  refine J_bd (fun z1 hz1 => ?_)
  refine J_stk (st' := [va_rf (some z1)]) (by rw [(isK_at hz1).1]) ?_
  refine JAV_R (pc := 1) (n := 5) (as := []) (st' := []) (o := some z1) G (Jl_toArray_fn z1 S d) (JC_F (n := 0) G hRm cl_J2 rfl q1569 q1573 q1575 q141 q1577 rfl ⟨by decide, by decide⟩ dJ2_addAll_1 (isK_s hz1) rfl (Nat.le_of_ble_eq_true rfl)) rfl (fun _ _ _ => rfl) (fun r2 S3 d4 hd4 => ?_)
  refine JR_astore_n (pc := 6) (k := 2) (i := 2) (lv' := [(2, va_rf r2), (0, va_rf (some this)), (1, va_rf p1)]) G rfl (by decide) (by simp [lvS, rf_cat]) dJ2_addAll_6 ?_
  refine JR_aload_n (pc := 7) (k := 0) (i := 0) (o := some this) G rfl rfl dJ2_addAll_7 ?_
  refine JR_dup (pc := 8) G (rf_cat _) dJ2_addAll_8 ?_
  refine J_bd (fun z5 hz5 => ?_)
  refine JR_gI (pc := 9) (k := 0) G cl_J2 in_J2 (by decide) (by decide) rfl (Or.inr q208) q207 hz5 dJ2_addAll_9 ?_
  refine JR_iconst (pc := 12) G ci_1 dJ2_addAll_12 ?_
  refine JR_iadd (pc := 13) G dJ2_addAll_13 ?_
  refine JW_pI (pc := 14) (k := 0) G cl_J2 in_J2 tyJ2_ok nmJ2 (by decide) (by decide) rfl (Or.inr q208) rfl q207 rfl rfl hz5 (fun _ => rfl) dJ2_addAll_14 ?_
  refine J_nmD (fun d6 hd6 => ?_)
  refine JR_aload_n (pc := 17) (k := 2) (i := 2) (o := r2) G rfl rfl dJ2_addAll_17 ?_
  refine J_bd (fun n7 hn7 => ?_)
  refine JR_alen (pc := 18) (t := 8) G (by decide) hn7 dJ2_addAll_18 ?_
  refine J_nm (fun x8 hx8 => ?_)
  refine JR_istore_n (pc := 19) (k := 3) (i := 3) (lv' := [(3, .int x8), (2, va_rf r2), (0, va_rf (some this)), (1, va_rf p1)]) G rfl (by decide) (by simp [lvS, rf_cat]) dJ2_addAll_19 ?_
  refine JR_iload_n (pc := 20) (k := 3) (i := 3) G rfl rfl dJ2_addAll_20 ?_
  refine JR_if_ne (pc := 21) (tgt := 26) G dJ2_addAll_21 (by decide) (fun c16 => ?_) (fun c16 => ?_)
  · refine JR_iload_n (pc := 26) (k := 3) (i := 3) G rfl rfl dJ2_addAll_26 ?_
    refine JR_aload_n (pc := 27) (k := 0) (i := 0) (o := some this) G rfl rfl dJ2_addAll_27 ?_
    refine JR_gR (pc := 28) (k := 1) G cl_J2 in_J2 (by decide) (by decide) rfl (Or.inl rfl) q204 hz5 dJ2_addAll_28 ?_
    refine JR_dup (pc := 31) G (rf_cat _) dJ2_addAll_31 ?_
    refine J_nmR (fun x9 hx9 => ?_)
    refine JR_astore (pc := 32) (i := 4) (lv' := [(4, va_rf x9), (3, .int x8), (2, va_rf r2), (0, va_rf (some this)), (1, va_rf p1)]) G (by decide) rfl dJ2_addAll_32 ?_
    refine J_bd (fun n10 hn10 => ?_)
    refine JR_alen (pc := 34) (t := 8) G (by decide) hn10 dJ2_addAll_34 ?_
    refine JR_aload_n (pc := 35) (k := 0) (i := 0) (o := some this) G rfl rfl dJ2_addAll_35 ?_
    refine JR_gI (pc := 36) (k := 2) G cl_J2 in_J2 (by decide) (by decide) rfl (Or.inl rfl) q205 hz5 dJ2_addAll_36 ?_
    refine JR_dup (pc := 39) G rfl dJ2_addAll_39 ?_
    refine J_nm (fun x11 hx11 => ?_)
    refine JR_istore (pc := 40) (i := 5) (lv' := [(5, .int x11), (4, va_rf x9), (3, .int x8), (2, va_rf r2), (0, va_rf (some this)), (1, va_rf p1)]) G (by decide) (by simp [lvS, rf_cat]) dJ2_addAll_40 ?_
    refine JR_isub (pc := 42) G dJ2_addAll_42 ?_
    refine JR_icmp_le (pc := 43) (tgt := 56) G dJ2_addAll_43 (by decide) (fun c15 => ?_) (fun c15 => ?_)
    · refine J_sub [4, 5, 3, 2, 1, 0] rfl ?_
      exact hJl_addAll_b56 r2 x8 x9 x11 S3 d6
    · refine JR_aload_n (pc := 46) (k := 0) (i := 0) (o := some this) G rfl rfl dJ2_addAll_46 ?_
      refine JR_iload (pc := 47) (i := 5) G rfl dJ2_addAll_47 ?_
      refine JR_iload_n (pc := 49) (k := 3) (i := 3) G rfl rfl dJ2_addAll_49 ?_
      refine JR_iadd (pc := 50) G dJ2_addAll_50 ?_
      refine JAV_R (pc := 51) (as := [.int (x11 + x8)]) (st' := []) (o := some this) G (Jl_grow_2_fn this (x11 + x8) S3 d6) (JC_V (n := 1) G hRm cl_J2 q869 q871 qs17 q141 q872 ⟨rfl, dd_J2_grow_2⟩ ⟨by decide, by decide⟩ dJ2_addAll_51 hz5 rfl (Nat.le_of_ble_eq_true rfl)) rfl (fun _ _ _ => rfl) (fun r12 S13 d14 hd14 => ?_)
      refine JR_astore (pc := 54) (i := 4) (lv' := [(4, va_rf r12), (5, .int x11), (3, .int x8), (2, va_rf r2), (0, va_rf (some this)), (1, va_rf p1)]) G (by decide) rfl dJ2_addAll_54 ?_
      refine J_sub [4, 5, 3, 2, 0, 1] rfl ?_
      exact hJl_addAll_b56 r2 x8 r12 x11 S13 d14
  · refine JR_iconst (pc := 24) G ci_0 dJ2_addAll_24 ?_
    exact JR_zret (pc := 25) G hR dJ2_addAll_25 (Or.inl rfl) rfl rfl

def To_same (this : Nat) (S : Sp) (d : Dt) : Option ((Option Nat) × Sp × Dt) :=
  bind2 (some (mmNew S (1, 0) 9, mmNewD S d)) fun S1 d2 =>
  bind3 (To_init S.1.length S1 d2) fun _ S3 d4 =>
  (isK S3 1 (some S.1.length)).bind fun z5 =>
  (isK S3 1 (some this)).bind fun z6 =>
  (isK S3 16 (S3.2.1 z5 0)).bind fun z7 =>
  bind3 (Jl_addAll z7 (S3.2.1 z6 0) S3 d4) fun r8 S9 d10 =>
  (isK S9 1 (some S.1.length)).bind fun z11 =>
  (isK S9 1 (some this)).bind fun z12 =>
  (isK S9 16 (S9.2.1 z11 1)).bind fun z13 =>
  bind3 (Jl_addAll z13 (S9.2.1 z12 1) S9 d10) fun r14 S15 d16 =>
  (isK S15 1 (some this)).bind fun z17 =>
  (isK S15 1 (some S.1.length)).bind fun z18 =>
  (gcp S15 50 (S15.2.1 z17 2) (S15.2.1 z18 2) 0 0 3).bind fun q19 =>
  (some ((c2 d16.1 q19.1 q19.2 (Int32.toNatClampNeg 0) (Int32.toNatClampNeg 0) (Int32.toNatClampNeg 3), d16.2))).bind fun d20 =>
  (some (dI d20 z18 3 (d20.1 z17 3))).bind fun d21 =>
  (some (dI d21 z18 4 (d21.1 z17 4))).bind fun d22 =>
  (some (dI d22 z18 5 (d22.1 z17 5))).bind fun d23 =>
  (some (dI d23 z18 6 (d23.1 z17 6))).bind fun d24 =>
  (some (dI d24 z18 7 (d24.1 z17 7))).bind fun d25 =>
  (some (dI d25 z18 8 (d25.1 z17 8))).bind fun d26 =>
  some (some S.1.length, S15, d26)
set_option maxHeartbeats 4000000 in
theorem To_same_fn (this : Nat) (S : Sp) (d : Dt) : Fn yX1_same (ws_ yX1_same cX1_same 2 (some (.object "WatchStack$Told"))) 5 132 [va_rf (some this)] S d rvR Λa (To_same this S d) := by
  refine Fn.ofJ (own := RX1) (lv := [(0, va_rf (some this))]) (by decide +kernel) rfl (by simp [cat_i, cat_l, cat_f, cat_d, rf_cat]) (by simp [lv_args, cat_i, cat_l, cat_f, cat_d, rf_cat]) ?_
  intro X F G hRm hR hI
  unfold To_same
  refine JW_new (pc := 0) G cl_X1 in_X1 tyX1_ok (by decide) lg_X1 q1562 q183 q138 (fun _ => rfl) dX1_same_0 ?_
  refine J_nm2 (fun S1 d2 hS1 hd2 => ?_)
  refine JR_dup (pc := 3) G (rf_cat _) dX1_same_3 ?_
  refine JAV_U (pc := 4) (as := []) (st' := [va_rf (some S.1.length)]) (o := some S.1.length) G (To_init_fn S.1.length S1 d2) (JC_I (n := 0) G hRm q1563 q185 q138 q186 rfl dd_X1_init ⟨by decide, by decide⟩ dX1_same_4 rfl (Nat.le_of_ble_eq_true rfl)) rfl (fun _ _ _ => rfl) (fun _ S3 d4 hd4 => ?_)
  refine JR_astore_n (pc := 7) (k := 1) (i := 1) (lv' := [(1, va_rf (some S.1.length)), (0, va_rf (some this))]) G rfl (by decide) rfl dX1_same_7 ?_
  refine JR_aload_n (pc := 8) (k := 1) (i := 1) (o := some S.1.length) G rfl rfl dX1_same_8 ?_
  refine J_bd (fun z5 hz5 => ?_)
  refine JR_gR (pc := 9) (k := 0) G cl_X1 in_X1 (by decide) (by decide) rfl (Or.inl rfl) q216 hz5 dX1_same_9 ?_
  refine JR_aload_n (pc := 12) (k := 0) (i := 0) (o := some this) G rfl rfl dX1_same_12 ?_
  refine J_bd (fun z6 hz6 => ?_)
  refine JR_gR (pc := 13) (k := 0) G cl_X1 in_X1 (by decide) (by decide) rfl (Or.inl rfl) q216 hz6 dX1_same_13 ?_
  refine J_bd (fun z7 hz7 => ?_)
  refine J_stk (st' := [va_rf (S3.2.1 z6 0), va_rf (some z7)]) (by rw [(isK_at hz7).1]) ?_
  refine JAV_I (pc := 16) (as := [va_rf (S3.2.1 z6 0)]) (st' := []) (o := some z7) G (Jl_addAll_fn z7 (S3.2.1 z6 0) S3 d4) (JC_V (n := 1) G hRm cl_J2 q1564 q1565 q1566 q141 q1567 ⟨rfl, dd_J2_addAll⟩ ⟨by decide, by decide⟩ dX1_same_16 (isK_s hz7) rfl (Nat.le_of_ble_eq_true rfl)) rfl (fun _ _ _ => rfl) (fun r8 S9 d10 hd10 => ?_)
  refine JR_pop (pc := 19) G rfl dX1_same_19 ?_
  refine JR_aload_n (pc := 20) (k := 1) (i := 1) (o := some S.1.length) G rfl rfl dX1_same_20 ?_
  refine J_bd (fun z11 hz11 => ?_)
  refine JR_gR (pc := 21) (k := 1) G cl_X1 in_X1 (by decide) (by decide) rfl (Or.inl rfl) q219 hz11 dX1_same_21 ?_
  refine JR_aload_n (pc := 24) (k := 0) (i := 0) (o := some this) G rfl rfl dX1_same_24 ?_
  refine J_bd (fun z12 hz12 => ?_)
  refine JR_gR (pc := 25) (k := 1) G cl_X1 in_X1 (by decide) (by decide) rfl (Or.inl rfl) q219 hz12 dX1_same_25 ?_
  refine J_bd (fun z13 hz13 => ?_)
  refine J_stk (st' := [va_rf (S9.2.1 z12 1), va_rf (some z13)]) (by rw [(isK_at hz13).1]) ?_
  refine JAV_I (pc := 28) (as := [va_rf (S9.2.1 z12 1)]) (st' := []) (o := some z13) G (Jl_addAll_fn z13 (S9.2.1 z12 1) S9 d10) (JC_V (n := 1) G hRm cl_J2 q1564 q1565 q1566 q141 q1567 ⟨rfl, dd_J2_addAll⟩ ⟨by decide, by decide⟩ dX1_same_28 (isK_s hz13) rfl (Nat.le_of_ble_eq_true rfl)) rfl (fun _ _ _ => rfl) (fun r14 S15 d16 hd16 => ?_)
  refine JR_pop (pc := 31) G rfl dX1_same_31 ?_
  refine JR_aload_n (pc := 32) (k := 0) (i := 0) (o := some this) G rfl rfl dX1_same_32 ?_
  refine J_bd (fun z17 hz17 => ?_)
  refine JR_gR (pc := 33) (k := 2) G cl_X1 in_X1 (by decide) (by decide) rfl (Or.inl rfl) q222 hz17 dX1_same_33 ?_
  refine JR_iconst (pc := 36) G ci_0 dX1_same_36 ?_
  refine JR_aload_n (pc := 37) (k := 1) (i := 1) (o := some S.1.length) G rfl rfl dX1_same_37 ?_
  refine J_bd (fun z18 hz18 => ?_)
  refine JR_gR (pc := 38) (k := 2) G cl_X1 in_X1 (by decide) (by decide) rfl (Or.inl rfl) q222 hz18 dX1_same_38 ?_
  refine JR_iconst (pc := 41) G ci_0 dX1_same_41 ?_
  refine JR_iconst (pc := 42) G ci_3 dX1_same_42 ?_
  refine J_bd (fun q19 hq19 => ?_)
  refine JW_copyI (pc := 43) G hRm q1578 q918 q917 q165 ⟨by decide, by decide⟩ (Nat.le_of_ble_eq_true rfl) hq19 (fun _ => rfl) dX1_same_43 ?_
  refine J_nmD (fun d20 hd20 => ?_)
  refine JR_aload_n (pc := 46) (k := 1) (i := 1) (o := some S.1.length) G rfl rfl dX1_same_46 ?_
  refine JR_aload_n (pc := 47) (k := 0) (i := 0) (o := some this) G rfl rfl dX1_same_47 ?_
  refine JR_gI (pc := 48) (k := 3) G cl_X1 in_X1 (by decide) (by decide) rfl (Or.inl rfl) q225 hz17 dX1_same_48 ?_
  refine JW_pI (pc := 51) (k := 3) G cl_X1 in_X1 tyX1_ok nmX1 (by decide) (by decide) rfl (Or.inl rfl) rfl q225 rfl rfl hz18 (fun _ => rfl) dX1_same_51 ?_
  refine J_nmD (fun d21 hd21 => ?_)
  refine JR_aload_n (pc := 54) (k := 1) (i := 1) (o := some S.1.length) G rfl rfl dX1_same_54 ?_
  refine JR_aload_n (pc := 55) (k := 0) (i := 0) (o := some this) G rfl rfl dX1_same_55 ?_
  refine JR_gI (pc := 56) (k := 4) G cl_X1 in_X1 (by decide) (by decide) rfl (Or.inl rfl) q228 hz17 dX1_same_56 ?_
  refine JW_pI (pc := 59) (k := 4) G cl_X1 in_X1 tyX1_ok nmX1 (by decide) (by decide) rfl (Or.inl rfl) rfl q228 rfl rfl hz18 (fun _ => rfl) dX1_same_59 ?_
  refine J_nmD (fun d22 hd22 => ?_)
  refine JR_aload_n (pc := 62) (k := 1) (i := 1) (o := some S.1.length) G rfl rfl dX1_same_62 ?_
  refine JR_aload_n (pc := 63) (k := 0) (i := 0) (o := some this) G rfl rfl dX1_same_63 ?_
  refine JR_gI (pc := 64) (k := 5) G cl_X1 in_X1 (by decide) (by decide) rfl (Or.inl rfl) q231 hz17 dX1_same_64 ?_
  refine JW_pI (pc := 67) (k := 5) G cl_X1 in_X1 tyX1_ok nmX1 (by decide) (by decide) rfl (Or.inl rfl) rfl q231 rfl rfl hz18 (fun _ => rfl) dX1_same_67 ?_
  refine J_nmD (fun d23 hd23 => ?_)
  refine JR_aload_n (pc := 70) (k := 1) (i := 1) (o := some S.1.length) G rfl rfl dX1_same_70 ?_
  refine JR_aload_n (pc := 71) (k := 0) (i := 0) (o := some this) G rfl rfl dX1_same_71 ?_
  refine JR_gI (pc := 72) (k := 6) G cl_X1 in_X1 (by decide) (by decide) rfl (Or.inl rfl) q235 hz17 dX1_same_72 ?_
  refine JW_pI (pc := 75) (k := 6) G cl_X1 in_X1 tyX1_ok nmX1 (by decide) (by decide) rfl (Or.inl rfl) rfl q235 rfl rfl hz18 (fun _ => rfl) dX1_same_75 ?_
  refine J_nmD (fun d24 hd24 => ?_)
  refine JR_aload_n (pc := 78) (k := 1) (i := 1) (o := some S.1.length) G rfl rfl dX1_same_78 ?_
  refine JR_aload_n (pc := 79) (k := 0) (i := 0) (o := some this) G rfl rfl dX1_same_79 ?_
  refine JR_gI (pc := 80) (k := 7) G cl_X1 in_X1 (by decide) (by decide) rfl (Or.inl rfl) q238 hz17 dX1_same_80 ?_
  refine JW_pI (pc := 83) (k := 7) G cl_X1 in_X1 tyX1_ok nmX1 (by decide) (by decide) rfl (Or.inl rfl) rfl q238 rfl rfl hz18 (fun _ => rfl) dX1_same_83 ?_
  refine J_nmD (fun d25 hd25 => ?_)
  refine JR_aload_n (pc := 86) (k := 1) (i := 1) (o := some S.1.length) G rfl rfl dX1_same_86 ?_
  refine JR_aload_n (pc := 87) (k := 0) (i := 0) (o := some this) G rfl rfl dX1_same_87 ?_
  refine JR_gI (pc := 88) (k := 8) G cl_X1 in_X1 (by decide) (by decide) rfl (Or.inl rfl) q241 hz17 dX1_same_88 ?_
  refine JW_pI (pc := 91) (k := 8) G cl_X1 in_X1 tyX1_ok nmX1 (by decide) (by decide) rfl (Or.inl rfl) rfl q241 rfl rfl hz18 (fun _ => rfl) dX1_same_91 ?_
  refine J_nmD (fun d26 hd26 => ?_)
  refine JR_aload_n (pc := 94) (k := 1) (i := 1) (o := some S.1.length) G rfl rfl dX1_same_94 ?_
  exact JR_aret (pc := 95) G hR ⟨_, rfl, Or.inl ⟨_, rfl⟩⟩ dX1_same_95 rfl rfl

def Ws_image (this : Nat) (p1 : Int32) (S : Sp) (d : Dt) : Option (Int32 × Sp × Dt) :=
  (Ws_in (Int32.toInt64 p1) 0 2 S d).bind fun r1 =>
  if ¬ r1 = 0 then
    (isK S 0 (some this)).bind fun z2 =>
    (isK S 1 (S.2.1 z2 0)).bind fun z3 =>
    bind3 (To_same z3 S d) fun r4 S5 d6 =>
    (aix S5 55 (S.2.1 z2 1) p1).bind fun q7 =>
    (isK S5 1 r4).bind fun z8 =>
    (some (sR S5 q7.1 q7.2 r4)).bind fun S9 =>
    some (0, S9, d6)
  else
    some ((-2), S, d)
set_option maxHeartbeats 4000000 in
theorem Ws_image_fn (this : Nat) (p1 : Int32) (S : Sp) (d : Dt) : Fn yX0_image (ws_ yX0_image cX0_image 2 (some .int)) 6 153 [va_rf (some this), .int p1] S d rvI Λa (Ws_image this p1 S d) := by
  refine Fn.ofJ (own := RX0) (lv := [(0, va_rf (some this)), (1, .int p1)]) (by decide +kernel) rfl (by simp [cat_i, cat_l, cat_f, cat_d, rf_cat]) (by simp [lv_args, cat_i, cat_l, cat_f, cat_d, rf_cat]) ?_
  intro X F G hRm hR hI
  unfold Ws_image
  refine JR_iload_n (pc := 0) (k := 1) (i := 1) G rfl rfl dX0_image_0 ?_
  refine JR_i2l (pc := 1) G dX0_image_1 ?_
  refine JR_lconst (pc := 2) G cl_0 dX0_image_2 ?_
  refine JR_ldc2 (pc := 3) G q1557 dX0_image_3 ?_
  refine JPS_I (pc := 6) (as := [.long (Int32.toInt64 p1), .long 0, .long 2]) (st' := []) G (Ws_in_fn (Int32.toInt64 p1) 0 2 S d) (JC_S (n := 3) G hRm q575 q576 q137 q577 dd_X0_in ⟨by decide, by decide⟩ dX0_image_6 rfl (Nat.le_of_ble_eq_true rfl)) rfl (fun r1 hr1 => ?_)
  refine JR_if_ne (pc := 9) (tgt := 15) G dX0_image_9 (by decide) (fun c10 => ?_) (fun c10 => ?_)
  · refine JR_aload_n (pc := 15) (k := 0) (i := 0) (o := some this) G rfl rfl dX0_image_15 ?_
    refine J_bd (fun z2 hz2 => ?_)
    refine JR_gR (pc := 16) (k := 1) G cl_X0 in_X0 (by decide) (by decide) rfl (Or.inl rfl) q452 hz2 dX0_image_16 ?_
    refine JR_iload_n (pc := 19) (k := 1) (i := 1) G rfl rfl dX0_image_19 ?_
    refine JR_aload_n (pc := 20) (k := 0) (i := 0) (o := some this) G rfl rfl dX0_image_20 ?_
    refine JR_gR (pc := 21) (k := 0) G cl_X0 in_X0 (by decide) (by decide) rfl (Or.inl rfl) q451 hz2 dX0_image_21 ?_
    refine J_bd (fun z3 hz3 => ?_)
    refine J_stk (st' := [va_rf (some z3), .int p1, va_rf (S.2.1 z2 1)]) (by rw [(isK_at hz3).1]) ?_
    refine JAV_R (pc := 24) (as := []) (st' := [.int p1, va_rf (S.2.1 z2 1)]) (o := some z3) G (To_same_fn z3 S d) (JC_V (n := 0) G hRm cl_X1 q1558 q1559 q1560 q138 q1561 ⟨rfl, dd_X1_same⟩ ⟨by decide, by decide⟩ dX0_image_24 (isK_s hz3) rfl (Nat.le_of_ble_eq_true rfl)) rfl (fun _ _ _ => rfl) (fun r4 S5 d6 hd6 => ?_)
    refine J_bd (fun q7 hq7 => ?_)
    refine J_bd (fun z8 hz8 => ?_)
    refine JW_aastE (pc := 27) (t := 5) G (by decide) rfl cl_X1 hz8 hq7 (fun _ => rfl) dX0_image_27 ?_
    refine J_nmS (fun S9 hS9 => ?_)
    refine JR_iconst (pc := 28) G ci_0 dX0_image_28 ?_
    exact JR_iret (pc := 29) G hR dX0_image_29 rfl rfl
  · refine JR_bipush (pc := 12) (v := (-2)) G (by decide) dX0_image_12 ?_
    exact JR_iret (pc := 14) G hR dX0_image_14 rfl rfl

def Ws_back (this : Nat) (p1 : Int32) (S : Sp) (d : Dt) : Option (Int32 × Sp × Dt) :=
  (Ws_in (Int32.toInt64 p1) 0 2 S d).bind fun r1 =>
  if ¬ r1 = 0 then
    (isK S 0 (some this)).bind fun z2 =>
    (aix S 55 (S.2.1 z2 1) p1).bind fun q3 =>
    if ¬ (S.2.1 q3.1 q3.2) = none then
      (isK S 1 (S.2.1 q3.1 q3.2)).bind fun z4 =>
      bind3 (To_same z4 S d) fun r5 S6 d7 =>
      (isK S6 0 (some this)).bind fun z8 =>
      (some (sR S6 z8 0 r5)).bind fun S9 =>
      (isK S9 0 (some this)).bind fun z10 =>
      bind2 (Ws_lays this S9 d7) fun _ d11 =>
      some (0, S9, d11)
    else
      some ((-6), S, d)
  else
    some ((-2), S, d)
set_option maxHeartbeats 4000000 in
theorem Ws_back_fn (this : Nat) (p1 : Int32) (S : Sp) (d : Dt) : Fn yX0_back (ws_ yX0_back cX0_back 2 (some .int)) 6 153 [va_rf (some this), .int p1] S d rvI Λa (Ws_back this p1 S d) := by
  refine Fn.ofJ (own := RX0) (lv := [(0, va_rf (some this)), (1, .int p1)]) (by decide +kernel) rfl (by simp [cat_i, cat_l, cat_f, cat_d, rf_cat]) (by simp [lv_args, cat_i, cat_l, cat_f, cat_d, rf_cat]) ?_
  intro X F G hRm hR hI
  unfold Ws_back
  refine JR_iload_n (pc := 0) (k := 1) (i := 1) G rfl rfl dX0_back_0 ?_
  refine JR_i2l (pc := 1) G dX0_back_1 ?_
  refine JR_lconst (pc := 2) G cl_0 dX0_back_2 ?_
  refine JR_ldc2 (pc := 3) G q1557 dX0_back_3 ?_
  refine JPS_I (pc := 6) (as := [.long (Int32.toInt64 p1), .long 0, .long 2]) (st' := []) G (Ws_in_fn (Int32.toInt64 p1) 0 2 S d) (JC_S (n := 3) G hRm q575 q576 q137 q577 dd_X0_in ⟨by decide, by decide⟩ dX0_back_6 rfl (Nat.le_of_ble_eq_true rfl)) rfl (fun r1 hr1 => ?_)
  refine JR_if_ne (pc := 9) (tgt := 15) G dX0_back_9 (by decide) (fun c13 => ?_) (fun c13 => ?_)
  · refine JR_aload_n (pc := 15) (k := 0) (i := 0) (o := some this) G rfl rfl dX0_back_15 ?_
    refine J_bd (fun z2 hz2 => ?_)
    refine JR_gR (pc := 16) (k := 1) G cl_X0 in_X0 (by decide) (by decide) rfl (Or.inl rfl) q452 hz2 dX0_back_16 ?_
    refine JR_iload_n (pc := 19) (k := 1) (i := 1) G rfl rfl dX0_back_19 ?_
    refine J_bd (fun q3 hq3 => ?_)
    refine JR_aaload (pc := 20) (t := 5) G (by decide) rfl hq3 dX0_back_20 ?_
    refine JR_ifnonnull (pc := 21) (tgt := 27) G dX0_back_21 (by decide) (fun c12 => ?_) (fun c12 => ?_)
    · refine JR_aload_n (pc := 27) (k := 0) (i := 0) (o := some this) G rfl rfl dX0_back_27 ?_
      refine JR_aload_n (pc := 28) (k := 0) (i := 0) (o := some this) G rfl rfl dX0_back_28 ?_
      refine JR_gR (pc := 29) (k := 1) G cl_X0 in_X0 (by decide) (by decide) rfl (Or.inl rfl) q452 hz2 dX0_back_29 ?_
      refine JR_iload_n (pc := 32) (k := 1) (i := 1) G rfl rfl dX0_back_32 ?_
      refine JR_aaload (pc := 33) (t := 5) G (by decide) rfl hq3 dX0_back_33 ?_
      refine J_bd (fun z4 hz4 => ?_)
      refine J_stk (st' := [va_rf (some z4), va_rf (some this)]) (by rw [(isK_at hz4).1]) ?_
      refine JAV_R (pc := 34) (as := []) (st' := [va_rf (some this)]) (o := some z4) G (To_same_fn z4 S d) (JC_V (n := 0) G hRm cl_X1 q1558 q1559 q1560 q138 q1561 ⟨rfl, dd_X1_same⟩ ⟨by decide, by decide⟩ dX0_back_34 (isK_s hz4) rfl (Nat.le_of_ble_eq_true rfl)) rfl (fun _ _ _ => rfl) (fun r5 S6 d7 hd7 => ?_)
      refine J_bd (fun z8 hz8 => ?_)
      refine JW_pR (pc := 37) (k := 0) G cl_X0 in_X0 tyX0_ok nmX0 (by decide) (by decide) rfl (Or.inl rfl) rfl q451 hz8 (fun _ => rfl) dX0_back_37 ?_
      refine J_nmS (fun S9 hS9 => ?_)
      refine JR_aload_n (pc := 40) (k := 0) (i := 0) (o := some this) G rfl rfl dX0_back_40 ?_
      refine J_bd (fun z10 hz10 => ?_)
      refine JQV_U (pc := 41) (as := []) (st' := []) (o := some this) G (Ws_lays_fn this S9 d7) (JC_V (n := 0) G hRm cl_X0 q419 q421 qs0 q137 q422 ⟨rfl, dd_X0_lays⟩ ⟨by decide, by decide⟩ dX0_back_41 hz10 rfl (Nat.le_of_ble_eq_true rfl)) rfl (fun _ _ => rfl) (fun _ d11 hd11 => ?_)
      refine JR_iconst (pc := 44) G ci_0 dX0_back_44 ?_
      exact JR_iret (pc := 45) G hR dX0_back_45 rfl rfl
    · refine JR_bipush (pc := 24) (v := (-6)) G (by decide) dX0_back_24 ?_
      exact JR_iret (pc := 26) G hR dX0_back_26 rfl rfl
  · refine JR_bipush (pc := 12) (v := (-2)) G (by decide) dX0_back_12 ?_
    exact JR_iret (pc := 14) G hR dX0_back_14 rfl rfl
