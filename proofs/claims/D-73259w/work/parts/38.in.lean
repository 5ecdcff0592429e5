/-! THE COMPONENT, printed: constructors -/
set_option maxRecDepth 100000
def Li_init (this : Nat) (S : Sp) (d : Dt) : Option Unit :=
  some (())
set_option maxHeartbeats 4000000 in
theorem Li_init_fn (this : Nat) (S : Sp) (d : Dt) : Fn yX9_init (ws_ yX9_init cX9_init 1 none) 1 20 [va_rf (some this)] S d rvU Λp (Li_init this S d) := by
  refine Fn.ofJ (own := RX9) (lv := [(0, va_rf (some this))]) (by decide +kernel) rfl (by simp [cat_i, cat_l, cat_f, cat_d, rf_cat]) (by simp [lv_args, cat_i, cat_l, cat_f, cat_d, rf_cat]) ?_
  intro X F G hRm hR hI
  unfold Li_init
  refine JR_aload_n (pc := 0) (k := 0) (i := 0) (o := some this) G rfl rfl dX9_init_0 ?_
  refine JR_objInit (pc := 1) G hRm q337 q_oi1 q_oi2 ⟨by decide, by decide⟩ (by decide) dX9_init_1 ?_
  exact JR_vret (pc := 4) G hR dX9_init_4 rfl rfl

def No_init (this : Nat) (S : Sp) (d : Dt) : Option Unit :=
  some (())
set_option maxHeartbeats 4000000 in
theorem No_init_fn (this : Nat) (S : Sp) (d : Dt) : Fn yX6_init (ws_ yX6_init cX6_init 1 none) 1 20 [va_rf (some this)] S d rvU Λp (No_init this S d) := by
  refine Fn.ofJ (own := RX6) (lv := [(0, va_rf (some this))]) (by decide +kernel) rfl (by simp [cat_i, cat_l, cat_f, cat_d, rf_cat]) (by simp [lv_args, cat_i, cat_l, cat_f, cat_d, rf_cat]) ?_
  intro X F G hRm hR hI
  unfold No_init
  refine JR_aload_n (pc := 0) (k := 0) (i := 0) (o := some this) G rfl rfl dX6_init_0 ?_
  refine JR_objInit (pc := 1) G hRm q323 q_oi1 q_oi2 ⟨by decide, by decide⟩ (by decide) dX6_init_1 ?_
  exact JR_vret (pc := 4) G hR dX6_init_4 rfl rfl

def Tn_init (this : Nat) (S : Sp) (d : Dt) : Option Unit :=
  (No_init this S d).bind fun _ =>
  some (())
set_option maxHeartbeats 4000000 in
theorem Tn_init_fn (this : Nat) (S : Sp) (d : Dt) : Fn yX7_init (ws_ yX7_init cX7_init 1 none) 2 40 [va_rf (some this)] S d rvU Λp (Tn_init this S d) := by
  refine Fn.ofJ (own := RX7) (lv := [(0, va_rf (some this))]) (by decide +kernel) rfl (by simp [cat_i, cat_l, cat_f, cat_d, rf_cat]) (by simp [lv_args, cat_i, cat_l, cat_f, cat_d, rf_cat]) ?_
  intro X F G hRm hR hI
  unfold Tn_init
  refine JR_aload_n (pc := 0) (k := 0) (i := 0) (o := some this) G rfl rfl dX7_init_0 ?_
  refine JPV_U (pc := 1) (as := []) (st' := []) (o := some this) G (No_init_fn this S d) (JC_IN (n := 0) G hRm q320 q321 q146 q322 rfl dd_X6_init ⟨by decide, by decide⟩ dX7_init_1 rfl (Nat.le_of_ble_eq_true rfl)) rfl (fun _ he1 => ?_)
  exact JR_vret (pc := 4) G hR dX7_init_4 rfl rfl

def Wn_init (this : Nat) (S : Sp) (d : Dt) : Option Unit :=
  (No_init this S d).bind fun _ =>
  some (())
set_option maxHeartbeats 4000000 in
theorem Wn_init_fn (this : Nat) (S : Sp) (d : Dt) : Fn yX8_init (ws_ yX8_init cX8_init 1 none) 2 40 [va_rf (some this)] S d rvU Λp (Wn_init this S d) := by
  refine Fn.ofJ (own := RX8) (lv := [(0, va_rf (some this))]) (by decide +kernel) rfl (by simp [cat_i, cat_l, cat_f, cat_d, rf_cat]) (by simp [lv_args, cat_i, cat_l, cat_f, cat_d, rf_cat]) ?_
  intro X F G hRm hR hI
  unfold Wn_init
  refine JR_aload_n (pc := 0) (k := 0) (i := 0) (o := some this) G rfl rfl dX8_init_0 ?_
  refine JPV_U (pc := 1) (as := []) (st' := []) (o := some this) G (No_init_fn this S d) (JC_IN (n := 0) G hRm q331 q321 q146 q322 rfl dd_X6_init ⟨by decide, by decide⟩ dX8_init_1 rfl (Nat.le_of_ble_eq_true rfl)) rfl (fun _ he1 => ?_)
  exact JR_vret (pc := 4) G hR dX8_init_4 rfl rfl

def Le_init_b20 (this : Nat) (p1 : Int32) (s0 : Option Nat) (s1 : Option Nat) (S : Sp) (d : Dt) : Option (Unit × Sp × Dt) :=
  (isK S 15 s1).bind fun z8 =>
  (some (sR S z8 0 s0)).bind fun S9 =>
  some ((), S9, d)
def Le_init (this : Nat) (p1 : Int32) (S : Sp) (d : Dt) : Option (Unit × Sp × Dt) :=
  if ¬ p1 = 0 then
    (gn 1).bind fun n1 =>
    bind2 (some (mmNew S (50 + 11, n1) n1, mmNewD S d)) fun S2 d3 =>
    Le_init_b20 this p1 (some S.1.length) (some this) S2 d3
  else
    (gn 1).bind fun n4 =>
    bind2 (some (mmNew S (50 + 10, n4) n4, mmNewD S d)) fun S5 d6 =>
    Le_init_b20 this p1 (some S.1.length) (some this) S5 d6
set_option maxHeartbeats 4000000 in
theorem Le_init_fn (this : Nat) (p1 : Int32) (S : Sp) (d : Dt) : Fn yX16_init (ws_ yX16_init cX16_init 2 none) 1 20 [va_rf (some this), .int p1] S d rvU Λa (Le_init this p1 S d) := by
  refine Fn.ofJ (own := RX16) (lv := [(0, va_rf (some this)), (1, .int p1)]) (by decide +kernel) rfl (by simp [cat_i, cat_l, cat_f, cat_d, rf_cat]) (by simp [lv_args, cat_i, cat_l, cat_f, cat_d, rf_cat]) ?_
  intro X F G hRm hR hI
  have hLe_init_b20 : ∀ (s0 : Option Nat) (s1 : Option Nat) (S : Sp) (d : Dt), J X F Λa S d 20 [(0, va_rf (some this)), (1, .int p1)] [va_rf s0, va_rf s1] (Le_init_b20 this p1 s0 s1 S d) := by
    intro s0 s1 S d
    unfold Le_init_b20
    refine J_bd (fun z8 hz8 => ?_)
    refine JW_pRf (pc := 20) (k := 0) G cl_X16 in_X16 tyX16_ok nmX16 (by decide) (by decide) rfl (Or.inl rfl) rfl (hI rfl) rfl q1398 hz8 (fun _ => rfl) dX16_init_20 ?_
    refine J_nmS (fun S9 hS9 => ?_)
    exact JR_vret (pc := 23) G hR dX16_init_23 rfl rfl
  unfold Le_init
  refine JR_aload_n (pc := 0) (k := 0) (i := 0) (o := some this) G rfl rfl dX16_init_0 ?_
  refine JR_objInit (pc := 1) G hRm q1393 q_oi1 q_oi2 ⟨by decide, by decide⟩ (by decide) dX16_init_1 ?_
  refine JR_aload_n (pc := 4) (k := 0) (i := 0) (o := some this) G rfl rfl dX16_init_4 ?_
  refine JR_iload_n (pc := 5) (k := 1) (i := 1) G rfl rfl dX16_init_5 ?_
  refine JR_if_ne (pc := 6) (tgt := 16) G dX16_init_6 (by decide) (fun c7 => ?_) (fun c7 => ?_)
  · refine JR_iconst (pc := 16) G ci_1 dX16_init_16 ?_
    refine J_bd (fun n1 hn1 => ?_)
    refine JW_newq (pc := 17) (t := 11) G (by decide) rfl q1396 (by decide) hn1 (fun _ => rfl) dX16_init_17 ?_
    refine J_nm2 (fun S2 d3 hS2 hd3 => ?_)
    exact hLe_init_b20 (some S.1.length) (some this) S2 d3
  · refine JR_iconst (pc := 9) G ci_1 dX16_init_9 ?_
    refine J_bd (fun n4 hn4 => ?_)
    refine JW_newq (pc := 10) (t := 10) G (by decide) rfl q1394 (by decide) hn4 (fun _ => rfl) dX16_init_10 ?_
    refine J_nm2 (fun S5 d6 hS5 hd6 => ?_)
    refine JR_goto (pc := 13) (tgt := 20) G dX16_init_13 (by decide) ?_
    exact hLe_init_b20 (some S.1.length) (some this) S5 d6

def Ru_init (this : Nat) (p1 : Option Nat) (S : Sp) (d : Dt) : Option (Unit × Sp × Dt) :=
  (isRg S 2 (some this)).bind fun z1 =>
  (some (sR S z1 0 p1)).bind fun S2 =>
  some ((), S2, d)
set_option maxHeartbeats 4000000 in
theorem Ru_init_fn (this : Nat) (p1 : Option Nat) (S : Sp) (d : Dt) : Fn yX2_init (ws_ yX2_init cX2_init 2 none) 1 20 [va_rf (some this), va_rf p1] S d rvU Λa (Ru_init this p1 S d) := by
  refine Fn.ofJ (own := RX2) (lv := [(0, va_rf (some this)), (1, va_rf p1)]) (by decide +kernel) rfl (by simp [cat_i, cat_l, cat_f, cat_d, rf_cat]) (by simp [lv_args, cat_i, cat_l, cat_f, cat_d, rf_cat]) ?_
  intro X F G hRm hR hI
  unfold Ru_init
  refine JR_aload_n (pc := 0) (k := 0) (i := 0) (o := some this) G rfl rfl dX2_init_0 ?_
  refine JR_aload_n (pc := 1) (k := 1) (i := 1) (o := p1) G rfl rfl dX2_init_1 ?_
  refine J_bd (fun z1 hz1 => ?_)
  refine JW_pO2 (pc := 2) G (hI rfl) q272 hz1 (fun _ => rfl) dX2_init_2 ?_
  refine J_nmS (fun S2 hS2 => ?_)
  refine JR_aload_n (pc := 5) (k := 0) (i := 0) (o := some this) G rfl rfl dX2_init_5 ?_
  refine JR_objInit (pc := 6) G hRm q271 q_oi1 q_oi2 ⟨by decide, by decide⟩ (by decide) dX2_init_6 ?_
  exact JR_vret (pc := 9) G hR dX2_init_9 rfl rfl

def Gr_init (this : Nat) (p1 : Option Nat) (S : Sp) (d : Dt) : Option (Unit × Sp × Dt) :=
  (isRg S 3 (some this)).bind fun z1 =>
  (some (sR S z1 1 p1)).bind fun S2 =>
  bind3 (Ru_init this p1 S2 d) fun _ S3 d4 =>
  some ((), S3, d4)
set_option maxHeartbeats 4000000 in
theorem Gr_init_fn (this : Nat) (p1 : Option Nat) (S : Sp) (d : Dt) : Fn yX3_init (ws_ yX3_init cX3_init 2 none) 2 41 [va_rf (some this), va_rf p1] S d rvU Λa (Gr_init this p1 S d) := by
  refine Fn.ofJ (own := RX3) (lv := [(0, va_rf (some this)), (1, va_rf p1)]) (by decide +kernel) rfl (by simp [cat_i, cat_l, cat_f, cat_d, rf_cat]) (by simp [lv_args, cat_i, cat_l, cat_f, cat_d, rf_cat]) ?_
  intro X F G hRm hR hI
  unfold Gr_init
  refine JR_aload_n (pc := 0) (k := 0) (i := 0) (o := some this) G rfl rfl dX3_init_0 ?_
  refine JR_aload_n (pc := 1) (k := 1) (i := 1) (o := p1) G rfl rfl dX3_init_1 ?_
  refine J_bd (fun z1 hz1 => ?_)
  refine JW_pO3 (pc := 2) G (hI rfl) q283 hz1 (fun _ => rfl) dX3_init_2 ?_
  refine J_nmS (fun S2 hS2 => ?_)
  refine JR_aload_n (pc := 5) (k := 0) (i := 0) (o := some this) G rfl rfl dX3_init_5 ?_
  refine JR_aload_n (pc := 6) (k := 1) (i := 1) (o := p1) G rfl rfl dX3_init_6 ?_
  refine JAV_U (pc := 7) (as := [va_rf p1]) (st' := []) (o := some this) G (Ru_init_fn this p1 S2 d) (JC_IN (n := 1) G hRm q282 q269 q142 q270 rfl dd_X2_init ⟨by decide, by decide⟩ dX3_init_7 rfl (Nat.le_of_ble_eq_true rfl)) rfl (fun _ _ _ => rfl) (fun _ S3 d4 hd4 => ?_)
  exact JR_vret (pc := 10) G hR dX3_init_10 rfl rfl

def Wa_init (this : Nat) (p1 : Option Nat) (S : Sp) (d : Dt) : Option (Unit × Sp × Dt) :=
  (isRg S 4 (some this)).bind fun z1 =>
  (some (sR S z1 2 p1)).bind fun S2 =>
  bind3 (Gr_init this p1 S2 d) fun _ S3 d4 =>
  some ((), S3, d4)
set_option maxHeartbeats 4000000 in
theorem Wa_init_fn (this : Nat) (p1 : Option Nat) (S : Sp) (d : Dt) : Fn yX4_init (ws_ yX4_init cX4_init 2 none) 3 62 [va_rf (some this), va_rf p1] S d rvU Λa (Wa_init this p1 S d) := by
  refine Fn.ofJ (own := RX4) (lv := [(0, va_rf (some this)), (1, va_rf p1)]) (by decide +kernel) rfl (by simp [cat_i, cat_l, cat_f, cat_d, rf_cat]) (by simp [lv_args, cat_i, cat_l, cat_f, cat_d, rf_cat]) ?_
  intro X F G hRm hR hI
  unfold Wa_init
  refine JR_aload_n (pc := 0) (k := 0) (i := 0) (o := some this) G rfl rfl dX4_init_0 ?_
  refine JR_aload_n (pc := 1) (k := 1) (i := 1) (o := p1) G rfl rfl dX4_init_1 ?_
  refine J_bd (fun z1 hz1 => ?_)
  refine JW_pO4 (pc := 2) G (hI rfl) q294 hz1 (fun _ => rfl) dX4_init_2 ?_
  refine J_nmS (fun S2 hS2 => ?_)
  refine JR_aload_n (pc := 5) (k := 0) (i := 0) (o := some this) G rfl rfl dX4_init_5 ?_
  refine JR_aload_n (pc := 6) (k := 1) (i := 1) (o := p1) G rfl rfl dX4_init_6 ?_
  refine JAV_U (pc := 7) (as := [va_rf p1]) (st' := []) (o := some this) G (Gr_init_fn this p1 S2 d) (JC_IN (n := 1) G hRm q293 q280 q143 q281 rfl dd_X3_init ⟨by decide, by decide⟩ dX4_init_7 rfl (Nat.le_of_ble_eq_true rfl)) rfl (fun _ _ _ => rfl) (fun _ S3 d4 hd4 => ?_)
  exact JR_vret (pc := 10) G hR dX4_init_10 rfl rfl

def Bo_init (this : Nat) (p1 : Option Nat) (S : Sp) (d : Dt) : Option (Unit × Sp × Dt) :=
  (isRg S 5 (some this)).bind fun z1 =>
  (some (sR S z1 3 p1)).bind fun S2 =>
  bind3 (Wa_init this p1 S2 d) fun _ S3 d4 =>
  some ((), S3, d4)
set_option maxHeartbeats 4000000 in
theorem Bo_init_fn (this : Nat) (p1 : Option Nat) (S : Sp) (d : Dt) : Fn yX5_init (ws_ yX5_init cX5_init 2 none) 4 83 [va_rf (some this), va_rf p1] S d rvU Λa (Bo_init this p1 S d) := by
  refine Fn.ofJ (own := RX5) (lv := [(0, va_rf (some this)), (1, va_rf p1)]) (by decide +kernel) rfl (by simp [cat_i, cat_l, cat_f, cat_d, rf_cat]) (by simp [lv_args, cat_i, cat_l, cat_f, cat_d, rf_cat]) ?_
  intro X F G hRm hR hI
  unfold Bo_init
  refine JR_aload_n (pc := 0) (k := 0) (i := 0) (o := some this) G rfl rfl dX5_init_0 ?_
  refine JR_aload_n (pc := 1) (k := 1) (i := 1) (o := p1) G rfl rfl dX5_init_1 ?_
  refine J_bd (fun z1 hz1 => ?_)
  refine JW_pO5 (pc := 2) G (hI rfl) q306 hz1 (fun _ => rfl) dX5_init_2 ?_
  refine J_nmS (fun S2 hS2 => ?_)
  refine JR_aload_n (pc := 5) (k := 0) (i := 0) (o := some this) G rfl rfl dX5_init_5 ?_
  refine JR_aload_n (pc := 6) (k := 1) (i := 1) (o := p1) G rfl rfl dX5_init_6 ?_
  refine JAV_U (pc := 7) (as := [va_rf p1]) (st' := []) (o := some this) G (Wa_init_fn this p1 S2 d) (JC_IN (n := 1) G hRm q305 q291 q144 q292 rfl dd_X4_init ⟨by decide, by decide⟩ dX5_init_7 rfl (Nat.le_of_ble_eq_true rfl)) rfl (fun _ _ _ => rfl) (fun _ S3 d4 hd4 => ?_)
  exact JR_vret (pc := 10) G hR dX5_init_10 rfl rfl

def Ws_init_h229 (this : Nat) : Nat → Int32 → Sp → Dt → Option (Unit × Sp × Dt)
  | 0, _, _, _ => none
  | f + 1, v1, S, d =>
    if 5 ≤ v1 then
      (isK S 0 (some this)).bind fun z133 =>
      bind2 (Ws_lays this S d) fun _ d134 =>
      some ((), S, d134)
    else
      (isK S 0 (some this)).bind fun z135 =>
      bind2 (some (mmNew S (8, 0) 20, mmNewD S d)) fun S136 d137 =>
      (Li_init S.1.length S136 d137).bind fun _ =>
      (aix S136 57 (S.2.1 z135 12) v1).bind fun q139 =>
      (isK S136 8 (some S.1.length)).bind fun z140 =>
      (some (sR S136 q139.1 q139.2 (some S.1.length))).bind fun S141 =>
      Ws_init_h229 this f (v1 + 1) S141 d137
def Ws_init (this : Nat) (S : Sp) (d : Dt) : Option (Unit × Sp × Dt) :=
  bind2 (some (mmNew S (1, 0) 9, mmNewD S d)) fun S1 d2 =>
  bind3 (To_init S.1.length S1 d2) fun _ S3 d4 =>
  (isK S3 0 (some this)).bind fun z5 =>
  (some (sR S3 z5 0 (some S.1.length))).bind fun S6 =>
  (gn 3).bind fun n7 =>
  bind2 (some (mmNew S6 (50 + 5, n7) n7, mmNewD S6 d4)) fun S8 d9 =>
  (isK S8 0 (some this)).bind fun z10 =>
  (some (sR S8 z10 1 (some S6.1.length))).bind fun S11 =>
  (gn 1000).bind fun n12 =>
  bind2 (some (mmNew S11 (50 + 2, n12) n12, mmNewD S11 d9)) fun S13 d14 =>
  (isK S13 0 (some this)).bind fun z15 =>
  (some (sR S13 z15 2 (some S11.1.length))).bind fun S16 =>
  (isK S16 0 (some this)).bind fun z17 =>
  (some (dI d14 z17 5 ((-1)))).bind fun d18 =>
  (some (dI d18 z17 6 ((-1)))).bind fun d19 =>
  (gn 64).bind fun n20 =>
  bind2 (some (mmNew S16 (50 + 0, n20) n20, mmNewD S16 d19)) fun S21 d22 =>
  (isK S21 0 (some this)).bind fun z23 =>
  (some (sR S21 z23 8 (some S16.1.length))).bind fun S24 =>
  (gn 5).bind fun n25 =>
  bind2 (some (mmNew S24 (50 + 0, n25) n25, mmNewD S24 d22)) fun S26 d27 =>
  (isK S26 0 (some this)).bind fun z28 =>
  (some (sR S26 z28 9 (some S24.1.length))).bind fun S29 =>
  (gn 4).bind fun n30 =>
  bind2 (some (mmNew S29 (50 + 6, n30) n30, mmNewD S29 d27)) fun S31 d32 =>
  bind2 (some (mmNew S31 (2, 0) 1, mmNewD S31 d32)) fun S33 d34 =>
  bind3 (Ru_init S31.1.length (some this) S33 d34) fun _ S35 d36 =>
  (aix S35 56 (some S29.1.length) 0).bind fun q37 =>
  (isK S35 2 (some S31.1.length)).bind fun z38 =>
  (some (sR S35 q37.1 q37.2 (some S31.1.length))).bind fun S39 =>
  bind2 (some (mmNew S39 (3, 0) 2, mmNewD S39 d36)) fun S40 d41 =>
  bind3 (Gr_init S39.1.length (some this) S40 d41) fun _ S42 d43 =>
  (aix S42 56 (some S29.1.length) 1).bind fun q44 =>
  (isK S42 3 (some S39.1.length)).bind fun z45 =>
  (some (sR S42 q44.1 q44.2 (some S39.1.length))).bind fun S46 =>
  bind2 (some (mmNew S46 (4, 0) 3, mmNewD S46 d43)) fun S47 d48 =>
  bind3 (Wa_init S46.1.length (some this) S47 d48) fun _ S49 d50 =>
  (aix S49 56 (some S29.1.length) 2).bind fun q51 =>
  (isK S49 4 (some S46.1.length)).bind fun z52 =>
  (some (sR S49 q51.1 q51.2 (some S46.1.length))).bind fun S53 =>
  bind2 (some (mmNew S53 (5, 0) 4, mmNewD S53 d50)) fun S54 d55 =>
  bind3 (Bo_init S53.1.length (some this) S54 d55) fun _ S56 d57 =>
  (aix S56 56 (some S29.1.length) 3).bind fun q58 =>
  (isK S56 5 (some S53.1.length)).bind fun z59 =>
  (some (sR S56 q58.1 q58.2 (some S53.1.length))).bind fun S60 =>
  (isK S60 0 (some this)).bind fun z61 =>
  (some (sR S60 z61 11 (some S29.1.length))).bind fun S62 =>
  (gn 5).bind fun n63 =>
  bind2 (some (mmNew S62 (50 + 7, n63) n63, mmNewD S62 d57)) fun S64 d65 =>
  (isK S64 0 (some this)).bind fun z66 =>
  (some (sR S64 z66 12 (some S62.1.length))).bind fun S67 =>
  (gn 200).bind fun n68 =>
  bind2 (some (mmNew S67 (50 + 0, n68) n68, mmNewD S67 d65)) fun S69 d70 =>
  (isK S69 0 (some this)).bind fun z71 =>
  (some (sR S69 z71 13 (some S67.1.length))).bind fun S72 =>
  (gn 3).bind fun n73 =>
  bind2 (some (mmNew S72 (50 + 0, n73) n73, mmNewD S72 d70)) fun S74 d75 =>
  (isK S74 0 (some this)).bind fun z76 =>
  (some (sR S74 z76 14 (some S72.1.length))).bind fun S77 =>
  (gn 3).bind fun n78 =>
  bind2 (some (mmNew S77 (50 + 0, n78) n78, mmNewD S77 d75)) fun S79 d80 =>
  (isK S79 0 (some this)).bind fun z81 =>
  (some (sR S79 z81 15 (some S77.1.length))).bind fun S82 =>
  (gn 3).bind fun n83 =>
  bind2 (some (mmNew S82 (50 + 1, n83) n83, mmNewD S82 d80)) fun S84 d85 =>
  (isK S84 0 (some this)).bind fun z86 =>
  (some (sR S84 z86 16 (some S82.1.length))).bind fun S87 =>
  (gn 3000).bind fun n88 =>
  bind2 (some (mmNew S87 (50 + 0, n88) n88, mmNewD S87 d85)) fun S89 d90 =>
  (isK S89 0 (some this)).bind fun z91 =>
  (some (sR S89 z91 17 (some S87.1.length))).bind fun S92 =>
  (gn 3000).bind fun n93 =>
  bind2 (some (mmNew S92 (50 + 0, n93) n93, mmNewD S92 d90)) fun S94 d95 =>
  (isK S94 0 (some this)).bind fun z96 =>
  (some (sR S94 z96 18 (some S92.1.length))).bind fun S97 =>
  (gn 3000).bind fun n98 =>
  bind2 (some (mmNew S97 (50 + 0, n98) n98, mmNewD S97 d95)) fun S99 d100 =>
  (isK S99 0 (some this)).bind fun z101 =>
  (some (sR S99 z101 19 (some S97.1.length))).bind fun S102 =>
  (gn 3000).bind fun n103 =>
  bind2 (some (mmNew S102 (50 + 0, n103) n103, mmNewD S102 d100)) fun S104 d105 =>
  (isK S104 0 (some this)).bind fun z106 =>
  (some (sR S104 z106 20 (some S102.1.length))).bind fun S107 =>
  (gn 5).bind fun n108 =>
  bind2 (some (mmNew S107 (50 + 0, n108) n108, mmNewD S107 d105)) fun S109 d110 =>
  (isK S109 0 (some this)).bind fun z111 =>
  (some (sR S109 z111 21 (some S107.1.length))).bind fun S112 =>
  (gn 5).bind fun n113 =>
  bind2 (some (mmNew S112 (50 + 0, n113) n113, mmNewD S112 d110)) fun S114 d115 =>
  (isK S114 0 (some this)).bind fun z116 =>
  (some (sR S114 z116 22 (some S112.1.length))).bind fun S117 =>
  (gn 19).bind fun n118 =>
  bind2 (some (mmNew S117 (50 + 0, n118) n118, mmNewD S117 d115)) fun S119 d120 =>
  (isK S119 0 (some this)).bind fun z121 =>
  (some (sR S119 z121 23 (some S117.1.length))).bind fun S122 =>
  bind2 (some (mmNew S122 (6, 0) 0, mmNewD S122 d120)) fun S123 d124 =>
  (Tn_init S122.1.length S123 d124).bind fun _ =>
  (isK S123 0 (some this)).bind fun z126 =>
  (some (sR S123 z126 32 (some S122.1.length))).bind fun S127 =>
  bind2 (some (mmNew S127 (7, 0) 0, mmNewD S127 d124)) fun S128 d129 =>
  (Wn_init S127.1.length S128 d129).bind fun _ =>
  (isK S128 0 (some this)).bind fun z131 =>
  (some (sR S128 z131 33 (some S127.1.length))).bind fun S132 =>
  Ws_init_h229 this FU 0 S132 d129
set_option maxHeartbeats 4000000 in
theorem Ws_init_fn (this : Nat) (S : Sp) (d : Dt) : Fn yX0_init (ws_ yX0_init cX0_init 2 none) 5 106 [va_rf (some this)] S d rvU Λa (Ws_init this S d) := by
  refine Fn.ofJ (own := RX0) (lv := [(0, va_rf (some this))]) (by decide +kernel) rfl (by simp [cat_i, cat_l, cat_f, cat_d, rf_cat]) (by simp [lv_args, cat_i, cat_l, cat_f, cat_d, rf_cat]) ?_
  intro X F G hRm hR hI
  have hWs_init_h229 : ∀ (f : Nat) (v1 : Int32) (S : Sp) (d : Dt), J X F Λa S d 229 [(0, va_rf (some this)), (1, .int v1)] [] (Ws_init_h229 this f v1 S d) := by
    intro  f
    induction f with
    | zero => intro v1 S d; exact J_no
    | succ f ih =>
      intro v1 S d
      unfold Ws_init_h229
      refine JR_iload_n (pc := 229) (k := 1) (i := 1) G rfl rfl dX0_init_229 ?_
      refine JR_iconst (pc := 230) G ci_5 dX0_init_230 ?_
      refine JR_icmp_ge (pc := 231) (tgt := 253) G dX0_init_231 (by decide) (fun c142 => ?_) (fun c142 => ?_)
      · refine JR_aload_n (pc := 253) (k := 0) (i := 0) (o := some this) G rfl rfl dX0_init_253 ?_
        refine J_bd (fun z133 hz133 => ?_)
        refine JQV_U (pc := 254) (as := []) (st' := []) (o := some this) G (Ws_lays_fn this S d) (JC_V (n := 0) G hRm cl_X0 q419 q421 qs0 q137 q422 ⟨rfl, dd_X0_lays⟩ ⟨by decide, by decide⟩ dX0_init_254 hz133 rfl (Nat.le_of_ble_eq_true rfl)) rfl (fun _ _ => rfl) (fun _ d134 hd134 => ?_)
        exact JR_vret (pc := 257) G hR dX0_init_257 rfl rfl
      · refine JR_aload_n (pc := 234) (k := 0) (i := 0) (o := some this) G rfl rfl dX0_init_234 ?_
        refine J_bd (fun z135 hz135 => ?_)
        refine JR_gR (pc := 235) (k := 12) G cl_X0 in_X0 (by decide) (by decide) rfl (Or.inl rfl) q464 hz135 dX0_init_235 ?_
        refine JR_iload_n (pc := 238) (k := 1) (i := 1) G rfl rfl dX0_init_238 ?_
        refine JW_new (pc := 239) G cl_X9 in_X9 tyX9_ok (by decide) lg_X9 q313 q333 q149 (fun _ => rfl) dX0_init_239 ?_
        refine J_nm2 (fun S136 d137 hS136 hd137 => ?_)
        refine JR_dup (pc := 242) G (rf_cat _) dX0_init_242 ?_
        refine JPV_U (pc := 243) (as := []) (st' := [va_rf (some S.1.length), .int v1, va_rf (S.2.1 z135 12)]) (o := some S.1.length) G (Li_init_fn S.1.length S136 d137) (JC_IN (n := 0) G hRm q334 q335 q149 q336 rfl dd_X9_init ⟨by decide, by decide⟩ dX0_init_243 rfl (Nat.le_of_ble_eq_true rfl)) rfl (fun _ he138 => ?_)
        refine J_bd (fun q139 hq139 => ?_)
        refine J_bd (fun z140 hz140 => ?_)
        refine JW_aastE (pc := 246) (t := 7) G (by decide) rfl cl_X9 hz140 hq139 (fun _ => rfl) dX0_init_246 ?_
        refine J_nmS (fun S141 hS141 => ?_)
        refine JR_iinc (pc := 247) (i := 1) (v := v1 + 1) (lv' := [(1, .int (v1 + 1)), (0, va_rf (some this))]) G rfl (congrArg (fun z => v1 + z) (by decide)) (by decide) rfl dX0_init_247 ?_
        refine JR_goto (pc := 250) (tgt := 229) G dX0_init_250 (by decide) ?_
        refine J_sub [1, 0] rfl ?_
        exact ih (v1 + 1) S141 d137
  unfold Ws_init
  refine JR_aload_n (pc := 0) (k := 0) (i := 0) (o := some this) G rfl rfl dX0_init_0 ?_
  refine JR_objInit (pc := 1) G hRm q179 q_oi1 q_oi2 ⟨by decide, by decide⟩ (by decide) dX0_init_1 ?_
  refine JR_aload_n (pc := 4) (k := 0) (i := 0) (o := some this) G rfl rfl dX0_init_4 ?_
  refine JW_new (pc := 5) G cl_X1 in_X1 tyX1_ok (by decide) lg_X1 q182 q183 q138 (fun _ => rfl) dX0_init_5 ?_
  refine J_nm2 (fun S1 d2 hS1 hd2 => ?_)
  refine JR_dup (pc := 8) G (rf_cat _) dX0_init_8 ?_
  refine JAV_U (pc := 9) (as := []) (st' := [va_rf (some S.1.length), va_rf (some this)]) (o := some S.1.length) G (To_init_fn S.1.length S1 d2) (JC_IN (n := 0) G hRm q184 q185 q138 q186 rfl dd_X1_init ⟨by decide, by decide⟩ dX0_init_9 rfl (Nat.le_of_ble_eq_true rfl)) rfl (fun _ _ _ => rfl) (fun _ S3 d4 hd4 => ?_)
  refine J_bd (fun z5 hz5 => ?_)
  refine JW_pR (pc := 12) (k := 0) G cl_X0 in_X0 tyX0_ok nmX0 (by decide) (by decide) rfl (Or.inl rfl) rfl q451 hz5 (fun _ => rfl) dX0_init_12 ?_
  refine J_nmS (fun S6 hS6 => ?_)
  refine JR_aload_n (pc := 15) (k := 0) (i := 0) (o := some this) G rfl rfl dX0_init_15 ?_
  refine JR_iconst (pc := 16) G ci_3 dX0_init_16 ?_
  refine J_bd (fun n7 hn7 => ?_)
  refine JW_newq (pc := 17) (t := 5) G (by decide) rfl q182 (by decide) hn7 (fun _ => rfl) dX0_init_17 ?_
  refine J_nm2 (fun S8 d9 hS8 hd9 => ?_)
  refine J_bd (fun z10 hz10 => ?_)
  refine JW_pRf (pc := 20) (k := 1) G cl_X0 in_X0 tyX0_ok nmX0 (by decide) (by decide) rfl (Or.inl rfl) rfl (hI rfl) rfl q452 hz10 (fun _ => rfl) dX0_init_20 ?_
  refine J_nmS (fun S11 hS11 => ?_)
  refine JR_aload_n (pc := 23) (k := 0) (i := 0) (o := some this) G rfl rfl dX0_init_23 ?_
  refine JR_sipush (pc := 24) (v := 1000) G (by decide) dX0_init_24 ?_
  refine J_bd (fun n12 hn12 => ?_)
  refine JW_newaB (pc := 27) (t := 2) G rfl q276 hn12 (fun _ => rfl) dX0_init_27 ?_
  refine J_nm2 (fun S13 d14 hS13 hd14 => ?_)
  refine J_bd (fun z15 hz15 => ?_)
  refine JW_pRf (pc := 29) (k := 2) G cl_X0 in_X0 tyX0_ok nmX0 (by decide) (by decide) rfl (Or.inl rfl) rfl (hI rfl) rfl q453 hz15 (fun _ => rfl) dX0_init_29 ?_
  refine J_nmS (fun S16 hS16 => ?_)
  refine JR_aload_n (pc := 32) (k := 0) (i := 0) (o := some this) G rfl rfl dX0_init_32 ?_
  refine JR_iconst (pc := 33) G ci_m1 dX0_init_33 ?_
  refine J_bd (fun z17 hz17 => ?_)
  refine JW_pI (pc := 34) (k := 5) G cl_X0 in_X0 tyX0_ok nmX0 (by decide) (by decide) rfl (Or.inl rfl) rfl q456 rfl rfl hz17 (fun _ => rfl) dX0_init_34 ?_
  refine J_nmD (fun d18 hd18 => ?_)
  refine JR_aload_n (pc := 37) (k := 0) (i := 0) (o := some this) G rfl rfl dX0_init_37 ?_
  refine JR_iconst (pc := 38) G ci_m1 dX0_init_38 ?_
  refine JW_pI (pc := 39) (k := 6) G cl_X0 in_X0 tyX0_ok nmX0 (by decide) (by decide) rfl (Or.inl rfl) rfl q457 rfl rfl hz17 (fun _ => rfl) dX0_init_39 ?_
  refine J_nmD (fun d19 hd19 => ?_)
  refine JR_aload_n (pc := 42) (k := 0) (i := 0) (o := some this) G rfl rfl dX0_init_42 ?_
  refine JR_bipush (pc := 43) (v := 64) G (by decide) dX0_init_43 ?_
  refine J_bd (fun n20 hn20 => ?_)
  refine JW_newaI (pc := 45) (t := 0) G rfl q263 hn20 (fun _ => rfl) dX0_init_45 ?_
  refine J_nm2 (fun S21 d22 hS21 hd22 => ?_)
  refine J_bd (fun z23 hz23 => ?_)
  refine JW_pRf (pc := 47) (k := 8) G cl_X0 in_X0 tyX0_ok nmX0 (by decide) (by decide) rfl (Or.inl rfl) rfl (hI rfl) rfl q459 hz23 (fun _ => rfl) dX0_init_47 ?_
  refine J_nmS (fun S24 hS24 => ?_)
  refine JR_aload_n (pc := 50) (k := 0) (i := 0) (o := some this) G rfl rfl dX0_init_50 ?_
  refine JR_iconst (pc := 51) G ci_5 dX0_init_51 ?_
  refine J_bd (fun n25 hn25 => ?_)
  refine JW_newaI (pc := 52) (t := 0) G rfl q263 hn25 (fun _ => rfl) dX0_init_52 ?_
  refine J_nm2 (fun S26 d27 hS26 hd27 => ?_)
  refine J_bd (fun z28 hz28 => ?_)
  refine JW_pRf (pc := 54) (k := 9) G cl_X0 in_X0 tyX0_ok nmX0 (by decide) (by decide) rfl (Or.inl rfl) rfl (hI rfl) rfl q460 hz28 (fun _ => rfl) dX0_init_54 ?_
  refine J_nmS (fun S29 hS29 => ?_)
  refine JR_aload_n (pc := 57) (k := 0) (i := 0) (o := some this) G rfl rfl dX0_init_57 ?_
  refine JR_iconst (pc := 58) G ci_4 dX0_init_58 ?_
  refine J_bd (fun n30 hn30 => ?_)
  refine JW_newq (pc := 59) (t := 6) G (by decide) rfl q265 (by decide) hn30 (fun _ => rfl) dX0_init_59 ?_
  refine J_nm2 (fun S31 d32 hS31 hd32 => ?_)
  refine JR_dup (pc := 62) G (rf_cat _) dX0_init_62 ?_
  refine JR_iconst (pc := 63) G ci_0 dX0_init_63 ?_
  refine JW_new (pc := 64) G cl_X2 in_X2 tyX2_ok (by decide) lg_X2 q265 q267 q142 (fun _ => rfl) dX0_init_64 ?_
  refine J_nm2 (fun S33 d34 hS33 hd34 => ?_)
  refine JR_dup (pc := 67) G (rf_cat _) dX0_init_67 ?_
  refine JR_aload_n (pc := 68) (k := 0) (i := 0) (o := some this) G rfl rfl dX0_init_68 ?_
  refine JAV_U (pc := 69) (as := [va_rf (some this)]) (st' := [va_rf (some S31.1.length), .int 0, va_rf (some S29.1.length), va_rf (some S29.1.length), va_rf (some this)]) (o := some S31.1.length) G (Ru_init_fn S31.1.length (some this) S33 d34) (JC_INs (n := 1) G hRm q268 q269 q142 q270 rfl dd_X2_init ⟨by decide, by decide⟩ dX0_init_69 rfl (by simp [cat_i, rf_cat])) rfl (fun _ _ _ => rfl) (fun _ S35 d36 hd36 => ?_)
  refine J_bd (fun q37 hq37 => ?_)
  refine J_bd (fun z38 hz38 => ?_)
  refine JW_aastE (pc := 72) (t := 6) G (by decide) rfl cl_X2 hz38 hq37 (fun _ => rfl) dX0_init_72 ?_
  refine J_nmS (fun S39 hS39 => ?_)
  refine JR_dup (pc := 73) G (rf_cat _) dX0_init_73 ?_
  refine JR_iconst (pc := 74) G ci_1 dX0_init_74 ?_
  refine JW_new (pc := 75) G cl_X3 in_X3 tyX3_ok (by decide) lg_X3 q277 q278 q143 (fun _ => rfl) dX0_init_75 ?_
  refine J_nm2 (fun S40 d41 hS40 hd41 => ?_)
  refine JR_dup (pc := 78) G (rf_cat _) dX0_init_78 ?_
  refine JR_aload_n (pc := 79) (k := 0) (i := 0) (o := some this) G rfl rfl dX0_init_79 ?_
  refine JAV_U (pc := 80) (as := [va_rf (some this)]) (st' := [va_rf (some S39.1.length), .int 1, va_rf (some S29.1.length), va_rf (some S29.1.length), va_rf (some this)]) (o := some S39.1.length) G (Gr_init_fn S39.1.length (some this) S40 d41) (JC_INs (n := 1) G hRm q279 q280 q143 q281 rfl dd_X3_init ⟨by decide, by decide⟩ dX0_init_80 rfl (by simp [cat_i, rf_cat])) rfl (fun _ _ _ => rfl) (fun _ S42 d43 hd43 => ?_)
  refine J_bd (fun q44 hq44 => ?_)
  refine J_bd (fun z45 hz45 => ?_)
  refine JW_aast (pc := 83) (t := 6) G (by decide) rfl cl_X3 q2384 hz45 hq44 (fun _ => rfl) dX0_init_83 ?_
  refine J_nmS (fun S46 hS46 => ?_)
  refine JR_dup (pc := 84) G (rf_cat _) dX0_init_84 ?_
  refine JR_iconst (pc := 85) G ci_2 dX0_init_85 ?_
  refine JW_new (pc := 86) G cl_X4 in_X4 tyX4_ok (by decide) lg_X4 q288 q289 q144 (fun _ => rfl) dX0_init_86 ?_
  refine J_nm2 (fun S47 d48 hS47 hd48 => ?_)
  refine JR_dup (pc := 89) G (rf_cat _) dX0_init_89 ?_
  refine JR_aload_n (pc := 90) (k := 0) (i := 0) (o := some this) G rfl rfl dX0_init_90 ?_
  refine JAV_U (pc := 91) (as := [va_rf (some this)]) (st' := [va_rf (some S46.1.length), .int 2, va_rf (some S29.1.length), va_rf (some S29.1.length), va_rf (some this)]) (o := some S46.1.length) G (Wa_init_fn S46.1.length (some this) S47 d48) (JC_INs (n := 1) G hRm q290 q291 q144 q292 rfl dd_X4_init ⟨by decide, by decide⟩ dX0_init_91 rfl (by simp [cat_i, rf_cat])) rfl (fun _ _ _ => rfl) (fun _ S49 d50 hd50 => ?_)
  refine J_bd (fun q51 hq51 => ?_)
  refine J_bd (fun z52 hz52 => ?_)
  refine JW_aast (pc := 94) (t := 6) G (by decide) rfl cl_X4 q2385 hz52 hq51 (fun _ => rfl) dX0_init_94 ?_
  refine J_nmS (fun S53 hS53 => ?_)
  refine JR_dup (pc := 95) G (rf_cat _) dX0_init_95 ?_
  refine JR_iconst (pc := 96) G ci_3 dX0_init_96 ?_
  refine JW_new (pc := 97) G cl_X5 in_X5 tyX5_ok (by decide) lg_X5 q300 q301 q145 (fun _ => rfl) dX0_init_97 ?_
  refine J_nm2 (fun S54 d55 hS54 hd55 => ?_)
  refine JR_dup (pc := 100) G (rf_cat _) dX0_init_100 ?_
  refine JR_aload_n (pc := 101) (k := 0) (i := 0) (o := some this) G rfl rfl dX0_init_101 ?_
  refine JAV_U (pc := 102) (as := [va_rf (some this)]) (st' := [va_rf (some S53.1.length), .int 3, va_rf (some S29.1.length), va_rf (some S29.1.length), va_rf (some this)]) (o := some S53.1.length) G (Bo_init_fn S53.1.length (some this) S54 d55) (JC_INs (n := 1) G hRm q302 q303 q145 q304 rfl dd_X5_init ⟨by decide, by decide⟩ dX0_init_102 rfl (by simp [cat_i, rf_cat])) rfl (fun _ _ _ => rfl) (fun _ S56 d57 hd57 => ?_)
  refine J_bd (fun q58 hq58 => ?_)
  refine J_bd (fun z59 hz59 => ?_)
  refine JW_aast (pc := 105) (t := 6) G (by decide) rfl cl_X5 q2386 hz59 hq58 (fun _ => rfl) dX0_init_105 ?_
  refine J_nmS (fun S60 hS60 => ?_)
  refine J_bd (fun z61 hz61 => ?_)
  refine JW_pRf (pc := 106) (k := 11) G cl_X0 in_X0 tyX0_ok nmX0 (by decide) (by decide) rfl (Or.inl rfl) rfl (hI rfl) rfl q462 hz61 (fun _ => rfl) dX0_init_106 ?_
  refine J_nmS (fun S62 hS62 => ?_)
  refine JR_aload_n (pc := 109) (k := 0) (i := 0) (o := some this) G rfl rfl dX0_init_109 ?_
  refine JR_iconst (pc := 110) G ci_5 dX0_init_110 ?_
  refine J_bd (fun n63 hn63 => ?_)
  refine JW_newq (pc := 111) (t := 7) G (by decide) rfl q313 (by decide) hn63 (fun _ => rfl) dX0_init_111 ?_
  refine J_nm2 (fun S64 d65 hS64 hd65 => ?_)
  refine J_bd (fun z66 hz66 => ?_)
  refine JW_pRf (pc := 114) (k := 12) G cl_X0 in_X0 tyX0_ok nmX0 (by decide) (by decide) rfl (Or.inl rfl) rfl (hI rfl) rfl q464 hz66 (fun _ => rfl) dX0_init_114 ?_
  refine J_nmS (fun S67 hS67 => ?_)
  refine JR_aload_n (pc := 117) (k := 0) (i := 0) (o := some this) G rfl rfl dX0_init_117 ?_
  refine JR_sipush (pc := 118) (v := 200) G (by decide) dX0_init_118 ?_
  refine J_bd (fun n68 hn68 => ?_)
  refine JW_newaI (pc := 121) (t := 0) G rfl q263 hn68 (fun _ => rfl) dX0_init_121 ?_
  refine J_nm2 (fun S69 d70 hS69 hd70 => ?_)
  refine J_bd (fun z71 hz71 => ?_)
  refine JW_pRf (pc := 123) (k := 13) G cl_X0 in_X0 tyX0_ok nmX0 (by decide) (by decide) rfl (Or.inl rfl) rfl (hI rfl) rfl q465 hz71 (fun _ => rfl) dX0_init_123 ?_
  refine J_nmS (fun S72 hS72 => ?_)
  refine JR_aload_n (pc := 126) (k := 0) (i := 0) (o := some this) G rfl rfl dX0_init_126 ?_
  refine JR_iconst (pc := 127) G ci_3 dX0_init_127 ?_
  refine J_bd (fun n73 hn73 => ?_)
  refine JW_newaI (pc := 128) (t := 0) G rfl q263 hn73 (fun _ => rfl) dX0_init_128 ?_
  refine J_nm2 (fun S74 d75 hS74 hd75 => ?_)
  refine J_bd (fun z76 hz76 => ?_)
  refine JW_pRf (pc := 130) (k := 14) G cl_X0 in_X0 tyX0_ok nmX0 (by decide) (by decide) rfl (Or.inl rfl) rfl (hI rfl) rfl q467 hz76 (fun _ => rfl) dX0_init_130 ?_
  refine J_nmS (fun S77 hS77 => ?_)
  refine JR_aload_n (pc := 133) (k := 0) (i := 0) (o := some this) G rfl rfl dX0_init_133 ?_
  refine JR_iconst (pc := 134) G ci_3 dX0_init_134 ?_
  refine J_bd (fun n78 hn78 => ?_)
  refine JW_newaI (pc := 135) (t := 0) G rfl q263 hn78 (fun _ => rfl) dX0_init_135 ?_
  refine J_nm2 (fun S79 d80 hS79 hd80 => ?_)
  refine J_bd (fun z81 hz81 => ?_)
  refine JW_pRf (pc := 137) (k := 15) G cl_X0 in_X0 tyX0_ok nmX0 (by decide) (by decide) rfl (Or.inl rfl) rfl (hI rfl) rfl q468 hz81 (fun _ => rfl) dX0_init_137 ?_
  refine J_nmS (fun S82 hS82 => ?_)
  refine JR_aload_n (pc := 140) (k := 0) (i := 0) (o := some this) G rfl rfl dX0_init_140 ?_
  refine JR_iconst (pc := 141) G ci_3 dX0_init_141 ?_
  refine J_bd (fun n83 hn83 => ?_)
  refine JW_newaZ (pc := 142) (t := 1) G rfl q325 hn83 (fun _ => rfl) dX0_init_142 ?_
  refine J_nm2 (fun S84 d85 hS84 hd85 => ?_)
  refine J_bd (fun z86 hz86 => ?_)
  refine JW_pRf (pc := 144) (k := 16) G cl_X0 in_X0 tyX0_ok nmX0 (by decide) (by decide) rfl (Or.inl rfl) rfl (hI rfl) rfl q469 hz86 (fun _ => rfl) dX0_init_144 ?_
  refine J_nmS (fun S87 hS87 => ?_)
  refine JR_aload_n (pc := 147) (k := 0) (i := 0) (o := some this) G rfl rfl dX0_init_147 ?_
  refine JR_sipush (pc := 148) (v := 3000) G (by decide) dX0_init_148 ?_
  refine J_bd (fun n88 hn88 => ?_)
  refine JW_newaI (pc := 151) (t := 0) G rfl q263 hn88 (fun _ => rfl) dX0_init_151 ?_
  refine J_nm2 (fun S89 d90 hS89 hd90 => ?_)
  refine J_bd (fun z91 hz91 => ?_)
  refine JW_pRf (pc := 153) (k := 17) G cl_X0 in_X0 tyX0_ok nmX0 (by decide) (by decide) rfl (Or.inl rfl) rfl (hI rfl) rfl q470 hz91 (fun _ => rfl) dX0_init_153 ?_
  refine J_nmS (fun S92 hS92 => ?_)
  refine JR_aload_n (pc := 156) (k := 0) (i := 0) (o := some this) G rfl rfl dX0_init_156 ?_
  refine JR_sipush (pc := 157) (v := 3000) G (by decide) dX0_init_157 ?_
  refine J_bd (fun n93 hn93 => ?_)
  refine JW_newaI (pc := 160) (t := 0) G rfl q263 hn93 (fun _ => rfl) dX0_init_160 ?_
  refine J_nm2 (fun S94 d95 hS94 hd95 => ?_)
  refine J_bd (fun z96 hz96 => ?_)
  refine JW_pRf (pc := 162) (k := 18) G cl_X0 in_X0 tyX0_ok nmX0 (by decide) (by decide) rfl (Or.inl rfl) rfl (hI rfl) rfl q471 hz96 (fun _ => rfl) dX0_init_162 ?_
  refine J_nmS (fun S97 hS97 => ?_)
  refine JR_aload_n (pc := 165) (k := 0) (i := 0) (o := some this) G rfl rfl dX0_init_165 ?_
  refine JR_sipush (pc := 166) (v := 3000) G (by decide) dX0_init_166 ?_
  refine J_bd (fun n98 hn98 => ?_)
  refine JW_newaI (pc := 169) (t := 0) G rfl q263 hn98 (fun _ => rfl) dX0_init_169 ?_
  refine J_nm2 (fun S99 d100 hS99 hd100 => ?_)
  refine J_bd (fun z101 hz101 => ?_)
  refine JW_pRf (pc := 171) (k := 19) G cl_X0 in_X0 tyX0_ok nmX0 (by decide) (by decide) rfl (Or.inl rfl) rfl (hI rfl) rfl q472 hz101 (fun _ => rfl) dX0_init_171 ?_
  refine J_nmS (fun S102 hS102 => ?_)
  refine JR_aload_n (pc := 174) (k := 0) (i := 0) (o := some this) G rfl rfl dX0_init_174 ?_
  refine JR_sipush (pc := 175) (v := 3000) G (by decide) dX0_init_175 ?_
  refine J_bd (fun n103 hn103 => ?_)
  refine JW_newaI (pc := 178) (t := 0) G rfl q263 hn103 (fun _ => rfl) dX0_init_178 ?_
  refine J_nm2 (fun S104 d105 hS104 hd105 => ?_)
  refine J_bd (fun z106 hz106 => ?_)
  refine JW_pRf (pc := 180) (k := 20) G cl_X0 in_X0 tyX0_ok nmX0 (by decide) (by decide) rfl (Or.inl rfl) rfl (hI rfl) rfl q473 hz106 (fun _ => rfl) dX0_init_180 ?_
  refine J_nmS (fun S107 hS107 => ?_)
  refine JR_aload_n (pc := 183) (k := 0) (i := 0) (o := some this) G rfl rfl dX0_init_183 ?_
  refine JR_iconst (pc := 184) G ci_5 dX0_init_184 ?_
  refine J_bd (fun n108 hn108 => ?_)
  refine JW_newaI (pc := 185) (t := 0) G rfl q263 hn108 (fun _ => rfl) dX0_init_185 ?_
  refine J_nm2 (fun S109 d110 hS109 hd110 => ?_)
  refine J_bd (fun z111 hz111 => ?_)
  refine JW_pRf (pc := 187) (k := 21) G cl_X0 in_X0 tyX0_ok nmX0 (by decide) (by decide) rfl (Or.inl rfl) rfl (hI rfl) rfl q474 hz111 (fun _ => rfl) dX0_init_187 ?_
  refine J_nmS (fun S112 hS112 => ?_)
  refine JR_aload_n (pc := 190) (k := 0) (i := 0) (o := some this) G rfl rfl dX0_init_190 ?_
  refine JR_iconst (pc := 191) G ci_5 dX0_init_191 ?_
  refine J_bd (fun n113 hn113 => ?_)
  refine JW_newaI (pc := 192) (t := 0) G rfl q263 hn113 (fun _ => rfl) dX0_init_192 ?_
  refine J_nm2 (fun S114 d115 hS114 hd115 => ?_)
  refine J_bd (fun z116 hz116 => ?_)
  refine JW_pRf (pc := 194) (k := 22) G cl_X0 in_X0 tyX0_ok nmX0 (by decide) (by decide) rfl (Or.inl rfl) rfl (hI rfl) rfl q475 hz116 (fun _ => rfl) dX0_init_194 ?_
  refine J_nmS (fun S117 hS117 => ?_)
  refine JR_aload_n (pc := 197) (k := 0) (i := 0) (o := some this) G rfl rfl dX0_init_197 ?_
  refine JR_bipush (pc := 198) (v := 19) G (by decide) dX0_init_198 ?_
  refine J_bd (fun n118 hn118 => ?_)
  refine JW_newaI (pc := 200) (t := 0) G rfl q263 hn118 (fun _ => rfl) dX0_init_200 ?_
  refine J_nm2 (fun S119 d120 hS119 hd120 => ?_)
  refine J_bd (fun z121 hz121 => ?_)
  refine JW_pRf (pc := 202) (k := 23) G cl_X0 in_X0 tyX0_ok nmX0 (by decide) (by decide) rfl (Or.inl rfl) rfl (hI rfl) rfl q476 hz121 (fun _ => rfl) dX0_init_202 ?_
  refine J_nmS (fun S122 hS122 => ?_)
  refine JR_aload_n (pc := 205) (k := 0) (i := 0) (o := some this) G rfl rfl dX0_init_205 ?_
  refine JW_new (pc := 206) G cl_X7 in_X7 tyX7_ok (by decide) lg_X7 q315 q316 q147 (fun _ => rfl) dX0_init_206 ?_
  refine J_nm2 (fun S123 d124 hS123 hd124 => ?_)
  refine JR_dup (pc := 209) G (rf_cat _) dX0_init_209 ?_
  refine JPV_U (pc := 210) (as := []) (st' := [va_rf (some S122.1.length), va_rf (some this)]) (o := some S122.1.length) G (Tn_init_fn S122.1.length S123 d124) (JC_IN (n := 0) G hRm q317 q318 q147 q319 rfl dd_X7_init ⟨by decide, by decide⟩ dX0_init_210 rfl (Nat.le_of_ble_eq_true rfl)) rfl (fun _ he125 => ?_)
  refine J_bd (fun z126 hz126 => ?_)
  refine JW_pRf (pc := 213) (k := 32) G cl_X0 in_X0 tyX0_ok nmX0 (by decide) (by decide) rfl (Or.inl rfl) rfl (hI rfl) rfl q490 hz126 (fun _ => rfl) dX0_init_213 ?_
  refine J_nmS (fun S127 hS127 => ?_)
  refine JR_aload_n (pc := 216) (k := 0) (i := 0) (o := some this) G rfl rfl dX0_init_216 ?_
  refine JW_new (pc := 217) G cl_X8 in_X8 tyX8_ok (by decide) lg_X8 q326 q327 q148 (fun _ => rfl) dX0_init_217 ?_
  refine J_nm2 (fun S128 d129 hS128 hd129 => ?_)
  refine JR_dup (pc := 220) G (rf_cat _) dX0_init_220 ?_
  refine JPV_U (pc := 221) (as := []) (st' := [va_rf (some S127.1.length), va_rf (some this)]) (o := some S127.1.length) G (Wn_init_fn S127.1.length S128 d129) (JC_IN (n := 0) G hRm q328 q329 q148 q330 rfl dd_X8_init ⟨by decide, by decide⟩ dX0_init_221 rfl (Nat.le_of_ble_eq_true rfl)) rfl (fun _ he130 => ?_)
  refine J_bd (fun z131 hz131 => ?_)
  refine JW_pRf (pc := 224) (k := 33) G cl_X0 in_X0 tyX0_ok nmX0 (by decide) (by decide) rfl (Or.inl rfl) rfl (hI rfl) rfl q491 hz131 (fun _ => rfl) dX0_init_224 ?_
  refine J_nmS (fun S132 hS132 => ?_)
  refine JR_iconst (pc := 227) G ci_0 dX0_init_227 ?_
  refine JR_istore_n (pc := 228) (k := 1) (i := 1) (lv' := [(1, .int 0), (0, va_rf (some this))]) G rfl (by decide) rfl dX0_init_228 ?_
  refine J_sub [1, 0] rfl ?_
  exact hWs_init_h229 FU 0 S132 d129
