/-! THE COMPONENT, printed -/
set_option maxRecDepth 100000
def Ws_lays_h2 (this : Nat) (S : Sp) : Nat → Int32 → Dt → Option (Unit × Dt)
  | 0, _, _ => none
  | f + 1, v1, d =>
    (isK S 0 (some this)).bind fun z1 =>
    (Ws_tasks this S d).bind fun r2 =>
    if r2 ≤ v1 then
      some ((), d)
    else
      (Ws_taskOf this v1 S d).bind fun r3 =>
      (isK S 12 r3).bind fun z4 =>
      (aix S 50 (S.2.1 z1 21) v1).bind fun q5 =>
      (some (dI d q5.1 q5.2 (d.1 z4 2))).bind fun d6 =>
      (Ws_taskOf this v1 S d6).bind fun r7 =>
      (isK S 12 r7).bind fun z8 =>
      (aix S 50 (S.2.1 z1 22) v1).bind fun q9 =>
      (some (dI d6 q9.1 q9.2 (d6.1 z8 3))).bind fun d10 =>
      Ws_lays_h2 this S f (v1 + 1) d10
def Ws_lays (this : Nat) (S : Sp) (d : Dt) : Option (Unit × Dt) :=
  Ws_lays_h2 this S FU 0 d
set_option maxHeartbeats 4000000 in
theorem Ws_lays_fn (this : Nat) (S : Sp) (d : Dt) : Fn yX0_lays (ws_ yX0_lays cX0_lays 2 none) 4 85 [va_rf (some this)] S d rvU Λw (Ws_lays this S d) := by
  refine Fn.ofJ (own := RX0) (lv := [(0, va_rf (some this))]) (by decide +kernel) rfl (by simp [cat_i, cat_l, cat_f, cat_d, rf_cat]) (by simp [lv_args, cat_i, cat_l, cat_f, cat_d, rf_cat]) ?_
  intro X F G hRm hR hI
  have hWs_lays_h2 : ∀ (f : Nat) (v1 : Int32) (d : Dt), J X F Λw S d 2 [(0, va_rf (some this)), (1, .int v1)] [] (Ws_lays_h2 this S f v1 d) := by
    intro  f
    induction f with
    | zero => intro v1 d; exact J_no
    | succ f ih =>
      intro v1 d
      unfold Ws_lays_h2
      refine JR_iload_n (pc := 2) (k := 1) (i := 1) G rfl rfl dX0_lays_2 ?_
      refine JR_aload_n (pc := 3) (k := 0) (i := 0) (o := some this) G rfl rfl dX0_lays_3 ?_
      refine J_bd (fun z1 hz1 => ?_)
      refine JPV_I (pc := 4) (as := []) (st' := [.int v1]) (o := some this) G (Ws_tasks_fn this S d) (JC_V (n := 0) G hRm cl_X0 q423 q425 qs1 q137 q426 ⟨rfl, dd_X0_tasks⟩ ⟨by decide, by decide⟩ dX0_lays_4 hz1 rfl (Nat.le_of_ble_eq_true rfl)) rfl (fun r2 hr2 => ?_)
      refine JR_icmp_ge (pc := 7) (tgt := 44) G dX0_lays_7 (by decide) (fun c11 => ?_) (fun c11 => ?_)
      · exact JR_vret (pc := 44) G hR dX0_lays_44 rfl rfl
      · refine JR_aload_n (pc := 10) (k := 0) (i := 0) (o := some this) G rfl rfl dX0_lays_10 ?_
        refine JR_gR (pc := 11) (k := 21) G cl_X0 in_X0 (by decide) (by decide) rfl (Or.inl rfl) q474 hz1 dX0_lays_11 ?_
        refine JR_iload_n (pc := 14) (k := 1) (i := 1) G rfl rfl dX0_lays_14 ?_
        refine JR_aload_n (pc := 15) (k := 0) (i := 0) (o := some this) G rfl rfl dX0_lays_15 ?_
        refine JR_iload_n (pc := 16) (k := 1) (i := 1) G rfl rfl dX0_lays_16 ?_
        refine JPV_R (pc := 17) (as := [.int v1]) (st' := [.int v1, va_rf (S.2.1 z1 21)]) (o := some this) G (Ws_taskOf_fn this v1 S d) (JC_V (n := 1) G hRm cl_X0 q431 q433 qs2 q137 q434 ⟨rfl, dd_X0_taskOf⟩ ⟨by decide, by decide⟩ dX0_lays_17 hz1 rfl (Nat.le_of_ble_eq_true rfl)) rfl (fun r3 hr3 => ?_)
        refine J_bd (fun z4 hz4 => ?_)
        refine JR_gIN (pc := 20) (k := 2) G cl_X13 in_X13 (by decide) (by decide) rfl (Or.inl rfl) q824 hz4 dX0_lays_20 ?_
        refine J_bd (fun q5 hq5 => ?_)
        refine JW_iastore (pc := 23) G hq5 (fun _ => rfl) dX0_lays_23 ?_
        refine J_nmD (fun d6 hd6 => ?_)
        refine JR_aload_n (pc := 24) (k := 0) (i := 0) (o := some this) G rfl rfl dX0_lays_24 ?_
        refine JR_gR (pc := 25) (k := 22) G cl_X0 in_X0 (by decide) (by decide) rfl (Or.inl rfl) q475 hz1 dX0_lays_25 ?_
        refine JR_iload_n (pc := 28) (k := 1) (i := 1) G rfl rfl dX0_lays_28 ?_
        refine JR_aload_n (pc := 29) (k := 0) (i := 0) (o := some this) G rfl rfl dX0_lays_29 ?_
        refine JR_iload_n (pc := 30) (k := 1) (i := 1) G rfl rfl dX0_lays_30 ?_
        refine JPV_R (pc := 31) (as := [.int v1]) (st' := [.int v1, va_rf (S.2.1 z1 22)]) (o := some this) G (Ws_taskOf_fn this v1 S d6) (JC_V (n := 1) G hRm cl_X0 q431 q433 qs2 q137 q434 ⟨rfl, dd_X0_taskOf⟩ ⟨by decide, by decide⟩ dX0_lays_31 hz1 rfl (Nat.le_of_ble_eq_true rfl)) rfl (fun r7 hr7 => ?_)
        refine J_bd (fun z8 hz8 => ?_)
        refine JR_gIN (pc := 34) (k := 3) G cl_X13 in_X13 (by decide) (by decide) rfl (Or.inl rfl) q826 hz8 dX0_lays_34 ?_
        refine J_bd (fun q9 hq9 => ?_)
        refine JW_iastore (pc := 37) G hq9 (fun _ => rfl) dX0_lays_37 ?_
        refine J_nmD (fun d10 hd10 => ?_)
        refine JR_iinc (pc := 38) (i := 1) (v := v1 + 1) (lv' := [(1, .int (v1 + 1)), (0, va_rf (some this))]) G rfl (congrArg (fun z => v1 + z) (by decide)) (by decide) rfl dX0_lays_38 ?_
        refine JR_goto (pc := 41) (tgt := 2) G dX0_lays_41 (by decide) ?_
        refine J_sub [1, 0] rfl ?_
        exact ih (v1 + 1) d10
  unfold Ws_lays
  refine JR_iconst (pc := 0) G ci_0 dX0_lays_0 ?_
  refine JR_istore_n (pc := 1) (k := 1) (i := 1) (lv' := [(1, .int 0), (0, va_rf (some this))]) G rfl (by decide) rfl dX0_lays_1 ?_
  refine J_sub [1, 0] rfl ?_
  exact hWs_lays_h2 FU 0 d

def Ws_feed_h45 (this : Nat) (p1 : Int32) (p2 : Int32) (p3 : Int32) (p4 : Int32) (p5 : Int32) : Nat → (Option Nat) → Int32 → Sp → Dt → Option (Int32 × Sp × Dt)
  | 0, _, _, _, _ => none
  | f + 1, v6, v7, S, d =>
    if 20 ≤ v7 then
      (isK S 0 (some this)).bind fun z16 =>
      (some (dI d z16 3 ((d.1 z16 3) + 20))).bind fun d17 =>
      some (d17.1 z16 3, S, d17)
    else
      (isK S 0 (some this)).bind fun z18 =>
      (aix S 50 v6 (v7 / 4)).bind fun q19 =>
      (aix S 52 (S.2.1 z18 2) ((d.1 z18 3) + v7)).bind fun q20 =>
      (some (dI d q20.1 q20.2 (vp_nar .byte ((Int32.toInt8 ((d.1 q19.1 q19.2) >>> ((24 - (8 * (irm v7 4))) &&& 31))).toInt32)))).bind fun d21 =>
      Ws_feed_h45 this p1 p2 p3 p4 p5 f v6 (v7 + 1) S d21
def Ws_feed (this : Nat) (p1 : Int32) (p2 : Int32) (p3 : Int32) (p4 : Int32) (p5 : Int32) (S : Sp) (d : Dt) : Option (Int32 × Sp × Dt) :=
  (isK S 0 (some this)).bind fun z1 =>
  if ((d.1 z1 3) + 20) ≤ 1000 then
    (gn 5).bind fun n2 =>
    bind2 (some (mmNew S (50 + 0, n2) n2, mmNewD S d)) fun S3 d4 =>
    (aix S3 50 (some S.1.length) 0).bind fun q5 =>
    (some (dI d4 q5.1 q5.2 p1)).bind fun d6 =>
    (aix S3 50 (some S.1.length) 1).bind fun q7 =>
    (some (dI d6 q7.1 q7.2 p2)).bind fun d8 =>
    (aix S3 50 (some S.1.length) 2).bind fun q9 =>
    (some (dI d8 q9.1 q9.2 p3)).bind fun d10 =>
    (aix S3 50 (some S.1.length) 3).bind fun q11 =>
    (some (dI d10 q11.1 q11.2 p4)).bind fun d12 =>
    (aix S3 50 (some S.1.length) 4).bind fun q13 =>
    (some (dI d12 q13.1 q13.2 p5)).bind fun d14 =>
    Ws_feed_h45 this p1 p2 p3 p4 p5 FU (some S.1.length) 0 S3 d14
  else
    some ((-1), S, d)
set_option maxHeartbeats 4000000 in
theorem Ws_feed_fn (this : Nat) (p1 : Int32) (p2 : Int32) (p3 : Int32) (p4 : Int32) (p5 : Int32) (S : Sp) (d : Dt) : Fn yX0_feed (ws_ yX0_feed cX0_feed 8 (some .int)) 0 0 [va_rf (some this), .int p1, .int p2, .int p3, .int p4, .int p5] S d rvI Λa (Ws_feed this p1 p2 p3 p4 p5 S d) := by
  refine Fn.ofJ (own := RX0) (lv := [(0, va_rf (some this)), (1, .int p1), (2, .int p2), (3, .int p3), (4, .int p4), (5, .int p5)]) (by decide +kernel) rfl (by simp [cat_i, cat_l, cat_f, cat_d, rf_cat]) (by simp [lv_args, cat_i, cat_l, cat_f, cat_d, rf_cat]) ?_
  intro X F G hRm hR hI
  have hWs_feed_h45 : ∀ (f : Nat) (v6 : Option Nat) (v7 : Int32) (S : Sp) (d : Dt), J X F Λa S d 45 [(0, va_rf (some this)), (1, .int p1), (2, .int p2), (3, .int p3), (4, .int p4), (5, .int p5), (6, va_rf v6), (7, .int v7)] [] (Ws_feed_h45 this p1 p2 p3 p4 p5 f v6 v7 S d) := by
    intro  f
    induction f with
    | zero => intro v6 v7 S d; exact J_no
    | succ f ih =>
      intro v6 v7 S d
      unfold Ws_feed_h45
      refine JR_iload (pc := 45) (i := 7) G rfl dX0_feed_45 ?_
      refine JR_bipush (pc := 47) (v := 20) G (by decide) dX0_feed_47 ?_
      refine JR_icmp_ge (pc := 49) (tgt := 89) G dX0_feed_49 (by decide) (fun c22 => ?_) (fun c22 => ?_)
      · refine JR_aload_n (pc := 89) (k := 0) (i := 0) (o := some this) G rfl rfl dX0_feed_89 ?_
        refine JR_dup (pc := 90) G (rf_cat _) dX0_feed_90 ?_
        refine J_bd (fun z16 hz16 => ?_)
        refine JR_gI (pc := 91) (k := 3) G cl_X0 in_X0 (by decide) (by decide) rfl (Or.inl rfl) q454 hz16 dX0_feed_91 ?_
        refine JR_bipush (pc := 94) (v := 20) G (by decide) dX0_feed_94 ?_
        refine JR_iadd (pc := 96) G dX0_feed_96 ?_
        refine JW_pI (pc := 97) (k := 3) G cl_X0 in_X0 tyX0_ok nmX0 (by decide) (by decide) rfl (Or.inl rfl) rfl q454 rfl rfl hz16 (fun _ => rfl) dX0_feed_97 ?_
        refine J_nmD (fun d17 hd17 => ?_)
        refine JR_aload_n (pc := 100) (k := 0) (i := 0) (o := some this) G rfl rfl dX0_feed_100 ?_
        refine JR_gI (pc := 101) (k := 3) G cl_X0 in_X0 (by decide) (by decide) rfl (Or.inl rfl) q454 hz16 dX0_feed_101 ?_
        exact JR_iret (pc := 104) G hR dX0_feed_104 rfl rfl
      · refine JR_aload_n (pc := 52) (k := 0) (i := 0) (o := some this) G rfl rfl dX0_feed_52 ?_
        refine J_bd (fun z18 hz18 => ?_)
        refine JR_gR (pc := 53) (k := 2) G cl_X0 in_X0 (by decide) (by decide) rfl (Or.inl rfl) q453 hz18 dX0_feed_53 ?_
        refine JR_aload_n (pc := 56) (k := 0) (i := 0) (o := some this) G rfl rfl dX0_feed_56 ?_
        refine JR_gI (pc := 57) (k := 3) G cl_X0 in_X0 (by decide) (by decide) rfl (Or.inl rfl) q454 hz18 dX0_feed_57 ?_
        refine JR_iload (pc := 60) (i := 7) G rfl dX0_feed_60 ?_
        refine JR_iadd (pc := 62) G dX0_feed_62 ?_
        refine JR_aload (pc := 63) (i := 6) (o := v6) G rfl dX0_feed_63 ?_
        refine JR_iload (pc := 65) (i := 7) G rfl dX0_feed_65 ?_
        refine JR_iconst (pc := 67) G ci_4 dX0_feed_67 ?_
        refine JR_idiv (pc := 68) G (by decide) dX0_feed_68 ?_
        refine J_bd (fun q19 hq19 => ?_)
        refine JR_iaload (pc := 69) G hq19 dX0_feed_69 ?_
        refine JR_bipush (pc := 70) (v := 24) G (by decide) dX0_feed_70 ?_
        refine JR_bipush (pc := 72) (v := 8) G (by decide) dX0_feed_72 ?_
        refine JR_iload (pc := 74) (i := 7) G rfl dX0_feed_74 ?_
        refine JR_iconst (pc := 76) G ci_4 dX0_feed_76 ?_
        refine JR_irem (pc := 77) G (by decide) dX0_feed_77 ?_
        refine JR_imul (pc := 78) G dX0_feed_78 ?_
        refine JR_isub (pc := 79) G dX0_feed_79 ?_
        refine JR_ishr (pc := 80) G dX0_feed_80 ?_
        refine JR_i2b (pc := 81) G dX0_feed_81 ?_
        refine J_bd (fun q20 hq20 => ?_)
        refine JW_bastore (pc := 82) G hq20 (fun _ => rfl) dX0_feed_82 ?_
        refine J_nmD (fun d21 hd21 => ?_)
        refine JR_iinc (pc := 83) (i := 7) (v := v7 + 1) (lv' := [(7, .int (v7 + 1)), (0, va_rf (some this)), (1, .int p1), (2, .int p2), (3, .int p3), (4, .int p4), (5, .int p5), (6, va_rf v6)]) G rfl (congrArg (fun z => v7 + z) (by decide)) (by decide) (by simp [lvS, rf_cat]) dX0_feed_83 ?_
        refine JR_goto (pc := 86) (tgt := 45) G dX0_feed_86 (by decide) ?_
        refine J_sub [1, 2, 3, 4, 5, 6, 7, 0] rfl ?_
        exact ih v6 (v7 + 1) S d21
  unfold Ws_feed
  refine JR_aload_n (pc := 0) (k := 0) (i := 0) (o := some this) G rfl rfl dX0_feed_0 ?_
  refine J_bd (fun z1 hz1 => ?_)
  refine JR_gI (pc := 1) (k := 3) G cl_X0 in_X0 (by decide) (by decide) rfl (Or.inl rfl) q454 hz1 dX0_feed_1 ?_
  refine JR_bipush (pc := 4) (v := 20) G (by decide) dX0_feed_4 ?_
  refine JR_iadd (pc := 6) G dX0_feed_6 ?_
  refine JR_sipush (pc := 7) (v := 1000) G (by decide) dX0_feed_7 ?_
  refine JR_icmp_le (pc := 10) (tgt := 15) G dX0_feed_10 (by decide) (fun c15 => ?_) (fun c15 => ?_)
  · refine JR_iconst (pc := 15) G ci_5 dX0_feed_15 ?_
    refine J_bd (fun n2 hn2 => ?_)
    refine JW_newaI (pc := 16) (t := 0) G rfl q263 hn2 (fun _ => rfl) dX0_feed_16 ?_
    refine J_nm2 (fun S3 d4 hS3 hd4 => ?_)
    refine JR_dup (pc := 18) G (rf_cat _) dX0_feed_18 ?_
    refine JR_iconst (pc := 19) G ci_0 dX0_feed_19 ?_
    refine JR_iload_n (pc := 20) (k := 1) (i := 1) G rfl rfl dX0_feed_20 ?_
    refine J_bd (fun q5 hq5 => ?_)
    refine JW_iastore (pc := 21) G hq5 (fun _ => rfl) dX0_feed_21 ?_
    refine J_nmD (fun d6 hd6 => ?_)
    refine JR_dup (pc := 22) G (rf_cat _) dX0_feed_22 ?_
    refine JR_iconst (pc := 23) G ci_1 dX0_feed_23 ?_
    refine JR_iload_n (pc := 24) (k := 2) (i := 2) G rfl rfl dX0_feed_24 ?_
    refine J_bd (fun q7 hq7 => ?_)
    refine JW_iastore (pc := 25) G hq7 (fun _ => rfl) dX0_feed_25 ?_
    refine J_nmD (fun d8 hd8 => ?_)
    refine JR_dup (pc := 26) G (rf_cat _) dX0_feed_26 ?_
    refine JR_iconst (pc := 27) G ci_2 dX0_feed_27 ?_
    refine JR_iload_n (pc := 28) (k := 3) (i := 3) G rfl rfl dX0_feed_28 ?_
    refine J_bd (fun q9 hq9 => ?_)
    refine JW_iastore (pc := 29) G hq9 (fun _ => rfl) dX0_feed_29 ?_
    refine J_nmD (fun d10 hd10 => ?_)
    refine JR_dup (pc := 30) G (rf_cat _) dX0_feed_30 ?_
    refine JR_iconst (pc := 31) G ci_3 dX0_feed_31 ?_
    refine JR_iload (pc := 32) (i := 4) G rfl dX0_feed_32 ?_
    refine J_bd (fun q11 hq11 => ?_)
    refine JW_iastore (pc := 34) G hq11 (fun _ => rfl) dX0_feed_34 ?_
    refine J_nmD (fun d12 hd12 => ?_)
    refine JR_dup (pc := 35) G (rf_cat _) dX0_feed_35 ?_
    refine JR_iconst (pc := 36) G ci_4 dX0_feed_36 ?_
    refine JR_iload (pc := 37) (i := 5) G rfl dX0_feed_37 ?_
    refine J_bd (fun q13 hq13 => ?_)
    refine JW_iastore (pc := 39) G hq13 (fun _ => rfl) dX0_feed_39 ?_
    refine J_nmD (fun d14 hd14 => ?_)
    refine JR_astore (pc := 40) (i := 6) (lv' := [(6, va_rf (some S.1.length)), (0, va_rf (some this)), (1, .int p1), (2, .int p2), (3, .int p3), (4, .int p4), (5, .int p5)]) G (by decide) rfl dX0_feed_40 ?_
    refine JR_iconst (pc := 42) G ci_0 dX0_feed_42 ?_
    refine JR_istore (pc := 43) (i := 7) (lv' := [(7, .int 0), (6, va_rf (some S.1.length)), (0, va_rf (some this)), (1, .int p1), (2, .int p2), (3, .int p3), (4, .int p4), (5, .int p5)]) G (by decide) rfl dX0_feed_43 ?_
    refine J_sub [2, 3, 4, 5, 6, 7, 1, 0] rfl ?_
    exact hWs_feed_h45 FU (some S.1.length) 0 S3 d14
  · refine JR_iconst (pc := 13) G ci_m1 dX0_feed_13 ?_
    exact JR_iret (pc := 14) G hR dX0_feed_14 rfl rfl

def Ws_in (p0 : Int64) (p2 : Int64) (p4 : Int64) (S : Sp) (d : Dt) : Option Int32 :=
  if (lg_cmp p0 p2) < 0 then
    some 0
  else
    if 0 < (lg_cmp p0 p4) then
      some 0
    else
      some 1
set_option maxHeartbeats 4000000 in
theorem Ws_in_fn (p0 : Int64) (p2 : Int64) (p4 : Int64) (S : Sp) (d : Dt) : Fn yX0_in (ws_ yX0_in cX0_in 6 (some .boolean)) 0 0 [.long p0, .long p2, .long p4] S d rvI Λp (Ws_in p0 p2 p4 S d) := by
  refine Fn.ofJ (own := RX0) (lv := [(0, .long p0), (2, .long p2), (4, .long p4)]) (by decide +kernel) rfl (by simp [cat_i, cat_l, cat_f, cat_d, rf_cat]) (by simp [lv_args, cat_i, cat_l, cat_f, cat_d, rf_cat]) ?_
  intro X F G hRm hR hI
  unfold Ws_in
  refine JR_lload_n (pc := 0) (k := 0) (i := 0) G rfl rfl dX0_in_0 ?_
  refine JR_lload_n (pc := 1) (k := 2) (i := 2) G rfl rfl dX0_in_1 ?_
  refine JR_lcmp (pc := 2) G dX0_in_2 ?_
  refine JR_if_lt (pc := 3) (tgt := 17) G dX0_in_3 (by decide) (fun c2 => ?_) (fun c2 => ?_)
  · refine JR_iconst (pc := 17) G ci_0 dX0_in_17 ?_
    exact JR_zret (pc := 18) G hR dX0_in_18 (Or.inl rfl) rfl rfl
  · refine JR_lload_n (pc := 6) (k := 0) (i := 0) G rfl rfl dX0_in_6 ?_
    refine JR_lload (pc := 7) (i := 4) G rfl dX0_in_7 ?_
    refine JR_lcmp (pc := 9) G dX0_in_9 ?_
    refine JR_if_gt (pc := 10) (tgt := 17) G dX0_in_10 (by decide) (fun c1 => ?_) (fun c1 => ?_)
    · refine JR_iconst (pc := 17) G ci_0 dX0_in_17 ?_
      exact JR_zret (pc := 18) G hR dX0_in_18 (Or.inl rfl) rfl rfl
    · refine JR_iconst (pc := 13) G ci_1 dX0_in_13 ?_
      refine JR_goto (pc := 14) (tgt := 18) G dX0_in_14 (by decide) ?_
      exact JR_zret (pc := 18) G hR dX0_in_18 (Or.inr rfl) rfl rfl

def Ws_end (this : Nat) (p1 : Int32) (S : Sp) (d : Dt) : Option (Int32 × Dt) :=
  (isK S 0 (some this)).bind fun z1 =>
  (Ws_in (Int32.toInt64 p1) 0 (Int32.toInt64 (d.1 z1 3)) S d).bind fun r2 =>
  if ¬ r2 = 0 then
    (some (dI d z1 3 p1)).bind fun d3 =>
    some (p1, d3)
  else
    some ((-1), d)
set_option maxHeartbeats 4000000 in
theorem Ws_end_fn (this : Nat) (p1 : Int32) (S : Sp) (d : Dt) : Fn yX0_end (ws_ yX0_end cX0_end 2 (some .int)) 1 25 [va_rf (some this), .int p1] S d rvI Λw (Ws_end this p1 S d) := by
  refine Fn.ofJ (own := RX0) (lv := [(0, va_rf (some this)), (1, .int p1)]) (by decide +kernel) rfl (by simp [cat_i, cat_l, cat_f, cat_d, rf_cat]) (by simp [lv_args, cat_i, cat_l, cat_f, cat_d, rf_cat]) ?_
  intro X F G hRm hR hI
  unfold Ws_end
  refine JR_iload_n (pc := 0) (k := 1) (i := 1) G rfl rfl dX0_end_0 ?_
  refine JR_i2l (pc := 1) G dX0_end_1 ?_
  refine JR_lconst (pc := 2) G cl_0 dX0_end_2 ?_
  refine JR_aload_n (pc := 3) (k := 0) (i := 0) (o := some this) G rfl rfl dX0_end_3 ?_
  refine J_bd (fun z1 hz1 => ?_)
  refine JR_gI (pc := 4) (k := 3) G cl_X0 in_X0 (by decide) (by decide) rfl (Or.inl rfl) q454 hz1 dX0_end_4 ?_
  refine JR_i2l (pc := 7) G dX0_end_7 ?_
  refine JPS_I (pc := 8) (as := [.long (Int32.toInt64 p1), .long 0, .long (Int32.toInt64 (d.1 z1 3))]) (st' := []) G (Ws_in_fn (Int32.toInt64 p1) 0 (Int32.toInt64 (d.1 z1 3)) S d) (JC_S (n := 3) G hRm q575 q576 q137 q577 dd_X0_in ⟨by decide, by decide⟩ dX0_end_8 rfl (Nat.le_of_ble_eq_true rfl)) rfl (fun r2 hr2 => ?_)
  refine JR_if_ne (pc := 11) (tgt := 16) G dX0_end_11 (by decide) (fun c4 => ?_) (fun c4 => ?_)
  · refine JR_aload_n (pc := 16) (k := 0) (i := 0) (o := some this) G rfl rfl dX0_end_16 ?_
    refine JR_iload_n (pc := 17) (k := 1) (i := 1) G rfl rfl dX0_end_17 ?_
    refine JW_pI (pc := 18) (k := 3) G cl_X0 in_X0 tyX0_ok nmX0 (by decide) (by decide) rfl (Or.inl rfl) rfl q454 rfl rfl hz1 (fun _ => rfl) dX0_end_18 ?_
    refine J_nmD (fun d3 hd3 => ?_)
    refine JR_iload_n (pc := 21) (k := 1) (i := 1) G rfl rfl dX0_end_21 ?_
    exact JR_iret (pc := 22) G hR dX0_end_22 rfl rfl
  · refine JR_iconst (pc := 14) G ci_m1 dX0_end_14 ?_
    exact JR_iret (pc := 15) G hR dX0_end_15 rfl rfl

def Jac_init (this : Nat) (S : Sp) (d : Dt) : Option Unit :=
  some (())
set_option maxHeartbeats 4000000 in
theorem Jac_init_fn (this : Nat) (S : Sp) (d : Dt) : Fn yJ0_init (ws_ yJ0_init cJ0_init 1 none) 1 20 [va_rf (some this)] S d rvU Λp (Jac_init this S d) := by
  refine Fn.ofJ (own := RJ0) (lv := [(0, va_rf (some this))]) (by decide +kernel) rfl (by simp [cat_i, cat_l, cat_f, cat_d, rf_cat]) (by simp [lv_args, cat_i, cat_l, cat_f, cat_d, rf_cat]) ?_
  intro X F G hRm hR hI
  unfold Jac_init
  refine JR_aload_n (pc := 0) (k := 0) (i := 0) (o := some this) G rfl rfl dJ0_init_0 ?_
  refine JR_objInit (pc := 1) G hRm q199 q_oi1 q_oi2 ⟨by decide, by decide⟩ (by decide) dJ0_init_1 ?_
  exact JR_vret (pc := 4) G hR dJ0_init_4 rfl rfl

def Jal_init (this : Nat) (S : Sp) (d : Dt) : Option (Unit × Dt) :=
  (Jac_init this S d).bind fun _ =>
  (isK S 16 (some this)).bind fun z2 =>
  (some (dI d z2 0 0)).bind fun d3 =>
  some ((), d3)
set_option maxHeartbeats 4000000 in
theorem Jal_init_fn (this : Nat) (S : Sp) (d : Dt) : Fn yJ1_init (ws_ yJ1_init cJ1_init 1 none) 2 40 [va_rf (some this)] S d rvU Λw (Jal_init this S d) := by
  refine Fn.ofJ (own := RJ1) (lv := [(0, va_rf (some this))]) (by decide +kernel) rfl (by simp [cat_i, cat_l, cat_f, cat_d, rf_cat]) (by simp [lv_args, cat_i, cat_l, cat_f, cat_d, rf_cat]) ?_
  intro X F G hRm hR hI
  unfold Jal_init
  refine JR_aload_n (pc := 0) (k := 0) (i := 0) (o := some this) G rfl rfl dJ1_init_0 ?_
  refine JPV_U (pc := 1) (as := []) (st' := []) (o := some this) G (Jac_init_fn this S d) (JC_I (n := 0) G hRm q196 q197 q139 q198 rfl dd_J0_init ⟨by decide, by decide⟩ dJ1_init_1 rfl (Nat.le_of_ble_eq_true rfl)) rfl (fun _ he1 => ?_)
  refine JR_aload_n (pc := 4) (k := 0) (i := 0) (o := some this) G rfl rfl dJ1_init_4 ?_
  refine JR_iconst (pc := 5) G ci_0 dJ1_init_5 ?_
  refine J_bd (fun z2 hz2 => ?_)
  refine JW_pI (pc := 6) (k := 0) G cl_J2 in_J2 tyJ2_ok nmJ2 (by decide) (by decide) rfl (Or.inl rfl) rfl q206 rfl rfl hz2 (fun _ => rfl) dJ1_init_6 ?_
  refine J_nmD (fun d3 hd3 => ?_)
  exact JR_vret (pc := 9) G hR dJ1_init_9 rfl rfl

def Jl_init (this : Nat) (p1 : Int32) (S : Sp) (d : Dt) : Option (Unit × Sp × Dt) :=
  bind2 (Jal_init this S d) fun _ d1 =>
  if p1 ≤ 0 then
    none
  else
    (gn p1).bind fun n2 =>
    bind2 (some (mmNew S (50 + 8, n2) n2, mmNewD S d1)) fun S3 d4 =>
    (isK S3 16 (some this)).bind fun z5 =>
    (some (sR S3 z5 1 (some S.1.length))).bind fun S6 =>
    some ((), S6, d4)
set_option maxHeartbeats 4000000 in
theorem Jl_init_fn (this : Nat) (p1 : Int32) (S : Sp) (d : Dt) : Fn yJ2_init (ws_ yJ2_init cJ2_init 2 none) 3 60 [va_rf (some this), .int p1] S d rvU Λa (Jl_init this p1 S d) := by
  refine Fn.ofJ (own := RJ2) (lv := [(0, va_rf (some this)), (1, .int p1)]) (by decide +kernel) rfl (by simp [cat_i, cat_l, cat_f, cat_d, rf_cat]) (by simp [lv_args, cat_i, cat_l, cat_f, cat_d, rf_cat]) ?_
  intro X F G hRm hR hI
  unfold Jl_init
  refine JR_aload_n (pc := 0) (k := 0) (i := 0) (o := some this) G rfl rfl dJ2_init_0 ?_
  refine JQV_U (pc := 1) (as := []) (st' := []) (o := some this) G (Jal_init_fn this S d) (JC_I (n := 0) G hRm q193 q194 q140 q195 rfl dd_J1_init ⟨by decide, by decide⟩ dJ2_init_1 rfl (Nat.le_of_ble_eq_true rfl)) rfl (fun _ _ => rfl) (fun _ d1 hd1 => ?_)
  refine JR_iload_n (pc := 4) (k := 1) (i := 1) G rfl rfl dJ2_init_4 ?_
  refine JR_if_le (pc := 5) (tgt := 19) G dJ2_init_5 (by decide) (fun c7 => ?_) (fun c7 => ?_)
  · exact J_no
  · refine JR_aload_n (pc := 8) (k := 0) (i := 0) (o := some this) G rfl rfl dJ2_init_8 ?_
    refine JR_iload_n (pc := 9) (k := 1) (i := 1) G rfl rfl dJ2_init_9 ?_
    refine J_bd (fun n2 hn2 => ?_)
    refine JW_newq (pc := 10) (t := 8) G (by decide) rfl q200 (by decide) hn2 (fun _ => rfl) dJ2_init_10 ?_
    refine J_nm2 (fun S3 d4 hS3 hd4 => ?_)
    refine J_bd (fun z5 hz5 => ?_)
    refine JW_pR (pc := 13) (k := 1) G cl_J2 in_J2 tyJ2_ok nmJ2 (by decide) (by decide) rfl (Or.inl rfl) rfl q204 hz5 (fun _ => rfl) dJ2_init_13 ?_
    refine J_nmS (fun S6 hS6 => ?_)
    refine JR_goto (pc := 16) (tgt := 60) G dJ2_init_16 (by decide) ?_
    exact JR_vret (pc := 60) G hR dJ2_init_60 rfl rfl

def To_init (this : Nat) (S : Sp) (d : Dt) : Option (Unit × Sp × Dt) :=
  bind2 (some (mmNew S (16, 0) 3, mmNewD S d)) fun S1 d2 =>
  bind3 (Jl_init S.1.length 5 S1 d2) fun _ S3 d4 =>
  (isK S3 1 (some this)).bind fun z5 =>
  (some (sR S3 z5 0 (some S.1.length))).bind fun S6 =>
  bind2 (some (mmNew S6 (16, 0) 3, mmNewD S6 d4)) fun S7 d8 =>
  bind3 (Jl_init S6.1.length 18 S7 d8) fun _ S9 d10 =>
  (isK S9 1 (some this)).bind fun z11 =>
  (some (sR S9 z11 1 (some S6.1.length))).bind fun S12 =>
  (gn 3).bind fun n13 =>
  bind2 (some (mmNew S12 (50 + 0, n13) n13, mmNewD S12 d10)) fun S14 d15 =>
  (isK S14 1 (some this)).bind fun z16 =>
  (some (sR S14 z16 2 (some S12.1.length))).bind fun S17 =>
  some ((), S17, d15)
set_option maxHeartbeats 4000000 in
theorem To_init_fn (this : Nat) (S : Sp) (d : Dt) : Fn yX1_init (ws_ yX1_init cX1_init 1 none) 4 81 [va_rf (some this)] S d rvU Λa (To_init this S d) := by
  refine Fn.ofJ (own := RX1) (lv := [(0, va_rf (some this))]) (by decide +kernel) rfl (by simp [cat_i, cat_l, cat_f, cat_d, rf_cat]) (by simp [lv_args, cat_i, cat_l, cat_f, cat_d, rf_cat]) ?_
  intro X F G hRm hR hI
  unfold To_init
  refine JR_aload_n (pc := 0) (k := 0) (i := 0) (o := some this) G rfl rfl dX1_init_0 ?_
  refine JR_objInit (pc := 1) G hRm q187 q_oi1 q_oi2 ⟨by decide, by decide⟩ (by decide) dX1_init_1 ?_
  refine JR_aload_n (pc := 4) (k := 0) (i := 0) (o := some this) G rfl rfl dX1_init_4 ?_
  refine JW_new (pc := 5) G cl_J2 in_J2 tyJ2_ok (by decide) lg_J2 q188 q189 q141 (fun _ => rfl) dX1_init_5 ?_
  refine J_nm2 (fun S1 d2 hS1 hd2 => ?_)
  refine JR_dup (pc := 8) G (rf_cat _) dX1_init_8 ?_
  refine JR_iconst (pc := 9) G ci_5 dX1_init_9 ?_
  refine JAV_U (pc := 10) (as := [.int 5]) (st' := [va_rf (some S.1.length), va_rf (some this)]) (o := some S.1.length) G (Jl_init_fn S.1.length 5 S1 d2) (JC_I (n := 1) G hRm q190 q191 q141 q192 rfl dd_J2_init ⟨by decide, by decide⟩ dX1_init_10 rfl (Nat.le_of_ble_eq_true rfl)) rfl (fun _ _ _ => rfl) (fun _ S3 d4 hd4 => ?_)
  refine J_bd (fun z5 hz5 => ?_)
  refine JW_pRf (pc := 13) (k := 0) G cl_X1 in_X1 tyX1_ok nmX1 (by decide) (by decide) rfl (Or.inl rfl) rfl (hI rfl) rfl q216 hz5 (fun _ => rfl) dX1_init_13 ?_
  refine J_nmS (fun S6 hS6 => ?_)
  refine JR_aload_n (pc := 16) (k := 0) (i := 0) (o := some this) G rfl rfl dX1_init_16 ?_
  refine JW_new (pc := 17) G cl_J2 in_J2 tyJ2_ok (by decide) lg_J2 q188 q189 q141 (fun _ => rfl) dX1_init_17 ?_
  refine J_nm2 (fun S7 d8 hS7 hd8 => ?_)
  refine JR_dup (pc := 20) G (rf_cat _) dX1_init_20 ?_
  refine JR_bipush (pc := 21) (v := 18) G (by decide) dX1_init_21 ?_
  refine JAV_U (pc := 23) (as := [.int 18]) (st' := [va_rf (some S6.1.length), va_rf (some this)]) (o := some S6.1.length) G (Jl_init_fn S6.1.length 18 S7 d8) (JC_I (n := 1) G hRm q190 q191 q141 q192 rfl dd_J2_init ⟨by decide, by decide⟩ dX1_init_23 rfl (Nat.le_of_ble_eq_true rfl)) rfl (fun _ _ _ => rfl) (fun _ S9 d10 hd10 => ?_)
  refine J_bd (fun z11 hz11 => ?_)
  refine JW_pRf (pc := 26) (k := 1) G cl_X1 in_X1 tyX1_ok nmX1 (by decide) (by decide) rfl (Or.inl rfl) rfl (hI rfl) rfl q219 hz11 (fun _ => rfl) dX1_init_26 ?_
  refine J_nmS (fun S12 hS12 => ?_)
  refine JR_aload_n (pc := 29) (k := 0) (i := 0) (o := some this) G rfl rfl dX1_init_29 ?_
  refine JR_iconst (pc := 30) G ci_3 dX1_init_30 ?_
  refine J_bd (fun n13 hn13 => ?_)
  refine JW_newaI (pc := 31) (t := 0) G rfl q263 hn13 (fun _ => rfl) dX1_init_31 ?_
  refine J_nm2 (fun S14 d15 hS14 hd15 => ?_)
  refine J_bd (fun z16 hz16 => ?_)
  refine JW_pRf (pc := 33) (k := 2) G cl_X1 in_X1 tyX1_ok nmX1 (by decide) (by decide) rfl (Or.inl rfl) rfl (hI rfl) rfl q222 hz16 (fun _ => rfl) dX1_init_33 ?_
  refine J_nmS (fun S17 hS17 => ?_)
  exact JR_vret (pc := 36) G hR dX1_init_36 rfl rfl

def Re_isAt (this : Nat) (p1 : Int32) (p2 : Int32) (S : Sp) (d : Dt) : Option Int32 :=
  (isK S 10 (some this)).bind fun z1 =>
  if (d.1 z1 2) ≤ (d.1 z1 4) then
    some 0
  else
    (aix S 52 (S.2.1 z1 1) (d.1 z1 4)).bind fun q2 =>
    (Ws_in (Int32.toInt64 (d.1 q2.1 q2.2)) (Int32.toInt64 p1) (Int32.toInt64 p2) S d).bind fun r3 =>
    if r3 = 0 then
      some 0
    else
      some 1
set_option maxHeartbeats 4000000 in
theorem Re_isAt_fn (this : Nat) (p1 : Int32) (p2 : Int32) (S : Sp) (d : Dt) : Fn yX11_isAt (ws_ yX11_isAt cX11_isAt 3 (some .boolean)) 1 25 [va_rf (some this), .int p1, .int p2] S d rvI Λp (Re_isAt this p1 p2 S d) := by
  refine Fn.ofJ (own := RX11) (lv := [(0, va_rf (some this)), (1, .int p1), (2, .int p2)]) (by decide +kernel) rfl (by simp [cat_i, cat_l, cat_f, cat_d, rf_cat]) (by simp [lv_args, cat_i, cat_l, cat_f, cat_d, rf_cat]) ?_
  intro X F G hRm hR hI
  unfold Re_isAt
  refine JR_aload_n (pc := 0) (k := 0) (i := 0) (o := some this) G rfl rfl dX11_isAt_0 ?_
  refine J_bd (fun z1 hz1 => ?_)
  refine JR_gI (pc := 1) (k := 4) G cl_X11 in_X11 (by decide) (by decide) rfl (Or.inl rfl) q616 hz1 dX11_isAt_1 ?_
  refine JR_aload_n (pc := 4) (k := 0) (i := 0) (o := some this) G rfl rfl dX11_isAt_4 ?_
  refine JR_gI (pc := 5) (k := 2) G cl_X11 in_X11 (by decide) (by decide) rfl (Or.inl rfl) q614 hz1 dX11_isAt_5 ?_
  refine JR_icmp_ge (pc := 8) (tgt := 35) G dX11_isAt_8 (by decide) (fun c5 => ?_) (fun c5 => ?_)
  · refine JR_iconst (pc := 35) G ci_0 dX11_isAt_35 ?_
    exact JR_zret (pc := 36) G hR dX11_isAt_36 (Or.inl rfl) rfl rfl
  · refine JR_aload_n (pc := 11) (k := 0) (i := 0) (o := some this) G rfl rfl dX11_isAt_11 ?_
    refine JR_gR (pc := 12) (k := 1) G cl_X11 in_X11 (by decide) (by decide) rfl (Or.inl rfl) q613 hz1 dX11_isAt_12 ?_
    refine JR_aload_n (pc := 15) (k := 0) (i := 0) (o := some this) G rfl rfl dX11_isAt_15 ?_
    refine JR_gI (pc := 16) (k := 4) G cl_X11 in_X11 (by decide) (by decide) rfl (Or.inl rfl) q616 hz1 dX11_isAt_16 ?_
    refine J_bd (fun q2 hq2 => ?_)
    refine JR_baload (pc := 19) G hq2 dX11_isAt_19 ?_
    refine JR_i2l (pc := 20) G dX11_isAt_20 ?_
    refine JR_iload_n (pc := 21) (k := 1) (i := 1) G rfl rfl dX11_isAt_21 ?_
    refine JR_i2l (pc := 22) G dX11_isAt_22 ?_
    refine JR_iload_n (pc := 23) (k := 2) (i := 2) G rfl rfl dX11_isAt_23 ?_
    refine JR_i2l (pc := 24) G dX11_isAt_24 ?_
    refine JPS_I (pc := 25) (as := [.long (Int32.toInt64 (d.1 q2.1 q2.2)), .long (Int32.toInt64 p1), .long (Int32.toInt64 p2)]) (st' := []) G (Ws_in_fn (Int32.toInt64 (d.1 q2.1 q2.2)) (Int32.toInt64 p1) (Int32.toInt64 p2) S d) (JC_SN (n := 3) G hRm q607 q576 q137 q577 dd_X0_in ⟨by decide, by decide⟩ dX11_isAt_25 rfl (Nat.le_of_ble_eq_true rfl)) rfl (fun r3 hr3 => ?_)
    refine JR_if_eq (pc := 28) (tgt := 35) G dX11_isAt_28 (by decide) (fun c4 => ?_) (fun c4 => ?_)
    · refine JR_iconst (pc := 35) G ci_0 dX11_isAt_35 ?_
      exact JR_zret (pc := 36) G hR dX11_isAt_36 (Or.inl rfl) rfl rfl
    · refine JR_iconst (pc := 31) G ci_1 dX11_isAt_31 ?_
      refine JR_goto (pc := 32) (tgt := 36) G dX11_isAt_32 (by decide) ?_
      exact JR_zret (pc := 36) G hR dX11_isAt_36 (Or.inr rfl) rfl rfl

def Re_next_b22 (this : Nat) (S : Sp) (k0 : Dt → Option (Unit × Dt)) (d : Dt) : Option (Unit × Dt) :=
  (isK S 10 (some this)).bind fun z18 =>
  (some (dI d z18 4 ((d.1 z18 4) + 1))).bind fun d19 =>
  k0 d19
def Re_next_h83 (this : Nat) (S : Sp) : Nat → Dt → Option (Unit × Dt)
  | 0, _ => none
  | f + 1, d =>
    (isK S 10 (some this)).bind fun z30 =>
    (Re_isAt this 97 122 S d).bind fun r31 =>
    if r31 = 0 then
      some ((), d)
    else
      (some (dI d z30 4 ((d.1 z30 4) + 1))).bind fun d32 =>
      Re_next_h83 this S f d32
def Re_next_h123 (this : Nat) (S : Sp) : Nat → Dt → Option (Unit × Dt)
  | 0, _ => none
  | f + 1, d =>
    (isK S 10 (some this)).bind fun z24 =>
    (Re_isAt this 48 57 S d).bind fun r25 =>
    if r25 = 0 then
      some ((), d)
    else
      (aix S 52 (S.2.1 z24 1) (d.1 z24 4)).bind fun q26 =>
      (some (dI d z24 7 (imin 99999 (((10 * (d.1 z24 7)) + (d.1 q26.1 q26.2)) - 48)))).bind fun d27 =>
      (some (dI d27 z24 4 ((d27.1 z24 4) + 1))).bind fun d28 =>
      Re_next_h123 this S f d28
def Re_next_b193 (this : Nat) (S : Sp) (s0 : Int32) (s1 : Option Nat) (d : Dt) : Option (Unit × Dt) :=
  (isK S 10 s1).bind fun z20 =>
  (some (dI d z20 6 s0)).bind fun d21 =>
  (isK S 10 (some this)).bind fun z22 =>
  (some (dI d21 z22 4 ((d21.1 z22 4) + 1))).bind fun d23 =>
  some ((), d23)
def Re_next_h0 (this : Nat) (S : Sp) : Nat → Dt → Option (Unit × Dt)
  | 0, _ => none
  | f + 1, d =>
    (isK S 10 (some this)).bind fun z1 =>
    (Re_isAt this 32 32 S d).bind fun r2 =>
    if ¬ r2 = 0 then
      Re_next_b22 this S (Re_next_h0 this S f) d
    else
      (Re_isAt this 10 10 S d).bind fun r3 =>
      if r3 = 0 then
        (some (dI d z1 5 (d.1 z1 4))).bind fun d4 =>
        (some (dI d4 z1 7 0)).bind fun d5 =>
        if ¬ (d5.1 z1 4) = (d5.1 z1 2) then
          (Re_isAt this 97 122 S d5).bind fun r6 =>
          if r6 = 0 then
            (Re_isAt this 48 57 S d5).bind fun r7 =>
            if r7 = 0 then
              (Re_isAt this 59 59 S d5).bind fun r8 =>
              Re_next_b193 this S (if r8 = 0 then 4 else 3) (some this) d5
            else
              (some (dI d5 z1 6 2)).bind fun d10 =>
              Re_next_h123 this S FU d10
          else
            (some (dI d5 z1 6 1)).bind fun d12 =>
            Re_next_h83 this S FU d12
        else
          (some (dI d5 z1 6 0)).bind fun d14 =>
          some ((), d14)
      else
        Re_next_b22 this S (Re_next_h0 this S f) d
def Re_next (this : Nat) (S : Sp) (d : Dt) : Option (Unit × Dt) :=
  Re_next_h0 this S FU d
set_option maxHeartbeats 4000000 in
theorem Re_next_fn (this : Nat) (S : Sp) (d : Dt) : Fn yX11_next (ws_ yX11_next cX11_next 1 none) 2 47 [va_rf (some this)] S d rvU Λw (Re_next this S d) := by
  refine Fn.ofJ (own := RX11) (lv := [(0, va_rf (some this))]) (by decide +kernel) rfl (by simp [cat_i, cat_l, cat_f, cat_d, rf_cat]) (by simp [lv_args, cat_i, cat_l, cat_f, cat_d, rf_cat]) ?_
  intro X F G hRm hR hI
  have hRe_next_b22 : ∀ (k0 : Dt → Option (Unit × Dt)) (hk0 : ∀ (d : Dt), J X F Λw S d 0 [(0, va_rf (some this))] [] (k0 d)) (d : Dt), J X F Λw S d 22 [(0, va_rf (some this))] [] (Re_next_b22 this S k0 d) := by
    intro k0 hk0 d
    unfold Re_next_b22
    refine JR_aload_n (pc := 22) (k := 0) (i := 0) (o := some this) G rfl rfl dX11_next_22 ?_
    refine JR_dup (pc := 23) G (rf_cat _) dX11_next_23 ?_
    refine J_bd (fun z18 hz18 => ?_)
    refine JR_gI (pc := 24) (k := 4) G cl_X11 in_X11 (by decide) (by decide) rfl (Or.inl rfl) q616 hz18 dX11_next_24 ?_
    refine JR_iconst (pc := 27) G ci_1 dX11_next_27 ?_
    refine JR_iadd (pc := 28) G dX11_next_28 ?_
    refine JW_pI (pc := 29) (k := 4) G cl_X11 in_X11 tyX11_ok nmX11 (by decide) (by decide) rfl (Or.inl rfl) rfl q616 rfl rfl hz18 (fun _ => rfl) dX11_next_29 ?_
    refine J_nmD (fun d19 hd19 => ?_)
    refine JR_goto (pc := 32) (tgt := 0) G dX11_next_32 (by decide) ?_
    exact hk0 d19
  have hRe_next_h83 : ∀ (f : Nat) (d : Dt), J X F Λw S d 83 [(0, va_rf (some this))] [] (Re_next_h83 this S f d) := by
    intro  f
    induction f with
    | zero => intro d; exact J_no
    | succ f ih =>
      intro d
      unfold Re_next_h83
      refine JR_aload_n (pc := 83) (k := 0) (i := 0) (o := some this) G rfl rfl dX11_next_83 ?_
      refine JR_bipush (pc := 84) (v := 97) G (by decide) dX11_next_84 ?_
      refine JR_bipush (pc := 86) (v := 122) G (by decide) dX11_next_86 ?_
      refine J_bd (fun z30 hz30 => ?_)
      refine JPV_I (pc := 88) (as := [.int 97, .int 122]) (st' := []) (o := some this) G (Re_isAt_fn this 97 122 S d) (JC_V (n := 2) G hRm cl_X11 q603 q605 qs4 q153 q606 ⟨rfl, dd_X11_isAt⟩ ⟨by decide, by decide⟩ dX11_next_88 hz30 rfl (Nat.le_of_ble_eq_true rfl)) rfl (fun r31 hr31 => ?_)
      refine JR_if_eq (pc := 91) (tgt := 206) G dX11_next_91 (by decide) (fun c33 => ?_) (fun c33 => ?_)
      · exact JR_vret (pc := 206) G hR dX11_next_206 rfl rfl
      · refine JR_aload_n (pc := 94) (k := 0) (i := 0) (o := some this) G rfl rfl dX11_next_94 ?_
        refine JR_dup (pc := 95) G (rf_cat _) dX11_next_95 ?_
        refine JR_gI (pc := 96) (k := 4) G cl_X11 in_X11 (by decide) (by decide) rfl (Or.inl rfl) q616 hz30 dX11_next_96 ?_
        refine JR_iconst (pc := 99) G ci_1 dX11_next_99 ?_
        refine JR_iadd (pc := 100) G dX11_next_100 ?_
        refine JW_pI (pc := 101) (k := 4) G cl_X11 in_X11 tyX11_ok nmX11 (by decide) (by decide) rfl (Or.inl rfl) rfl q616 rfl rfl hz30 (fun _ => rfl) dX11_next_101 ?_
        refine J_nmD (fun d32 hd32 => ?_)
        refine JR_goto (pc := 104) (tgt := 83) G dX11_next_104 (by decide) ?_
        exact ih d32
  have hRe_next_h123 : ∀ (f : Nat) (d : Dt), J X F Λw S d 123 [(0, va_rf (some this))] [] (Re_next_h123 this S f d) := by
    intro  f
    induction f with
    | zero => intro d; exact J_no
    | succ f ih =>
      intro d
      unfold Re_next_h123
      refine JR_aload_n (pc := 123) (k := 0) (i := 0) (o := some this) G rfl rfl dX11_next_123 ?_
      refine JR_bipush (pc := 124) (v := 48) G (by decide) dX11_next_124 ?_
      refine JR_bipush (pc := 126) (v := 57) G (by decide) dX11_next_126 ?_
      refine J_bd (fun z24 hz24 => ?_)
      refine JPV_I (pc := 128) (as := [.int 48, .int 57]) (st' := []) (o := some this) G (Re_isAt_fn this 48 57 S d) (JC_V (n := 2) G hRm cl_X11 q603 q605 qs4 q153 q606 ⟨rfl, dd_X11_isAt⟩ ⟨by decide, by decide⟩ dX11_next_128 hz24 rfl (Nat.le_of_ble_eq_true rfl)) rfl (fun r25 hr25 => ?_)
      refine JR_if_eq (pc := 131) (tgt := 206) G dX11_next_131 (by decide) (fun c29 => ?_) (fun c29 => ?_)
      · exact JR_vret (pc := 206) G hR dX11_next_206 rfl rfl
      · refine JR_aload_n (pc := 134) (k := 0) (i := 0) (o := some this) G rfl rfl dX11_next_134 ?_
        refine JR_ldcI (pc := 135) G q608 dX11_next_135 ?_
        refine JR_bipush (pc := 137) (v := 10) G (by decide) dX11_next_137 ?_
        refine JR_aload_n (pc := 139) (k := 0) (i := 0) (o := some this) G rfl rfl dX11_next_139 ?_
        refine JR_gI (pc := 140) (k := 7) G cl_X11 in_X11 (by decide) (by decide) rfl (Or.inl rfl) q619 hz24 dX11_next_140 ?_
        refine JR_imul (pc := 143) G dX11_next_143 ?_
        refine JR_aload_n (pc := 144) (k := 0) (i := 0) (o := some this) G rfl rfl dX11_next_144 ?_
        refine JR_gR (pc := 145) (k := 1) G cl_X11 in_X11 (by decide) (by decide) rfl (Or.inl rfl) q613 hz24 dX11_next_145 ?_
        refine JR_aload_n (pc := 148) (k := 0) (i := 0) (o := some this) G rfl rfl dX11_next_148 ?_
        refine JR_gI (pc := 149) (k := 4) G cl_X11 in_X11 (by decide) (by decide) rfl (Or.inl rfl) q616 hz24 dX11_next_149 ?_
        refine J_bd (fun q26 hq26 => ?_)
        refine JR_baload (pc := 152) G hq26 dX11_next_152 ?_
        refine JR_iadd (pc := 153) G dX11_next_153 ?_
        refine JR_bipush (pc := 154) (v := 48) G (by decide) dX11_next_154 ?_
        refine JR_isub (pc := 156) G dX11_next_156 ?_
        refine JR_min (pc := 157) G hRm q609 q610 q154 q611 ⟨by decide, by decide⟩ (Nat.le_of_ble_eq_true rfl) dX11_next_157 ?_
        refine JW_pI (pc := 160) (k := 7) G cl_X11 in_X11 tyX11_ok nmX11 (by decide) (by decide) rfl (Or.inl rfl) rfl q619 rfl rfl hz24 (fun _ => rfl) dX11_next_160 ?_
        refine J_nmD (fun d27 hd27 => ?_)
        refine JR_aload_n (pc := 163) (k := 0) (i := 0) (o := some this) G rfl rfl dX11_next_163 ?_
        refine JR_dup (pc := 164) G (rf_cat _) dX11_next_164 ?_
        refine JR_gI (pc := 165) (k := 4) G cl_X11 in_X11 (by decide) (by decide) rfl (Or.inl rfl) q616 hz24 dX11_next_165 ?_
        refine JR_iconst (pc := 168) G ci_1 dX11_next_168 ?_
        refine JR_iadd (pc := 169) G dX11_next_169 ?_
        refine JW_pI (pc := 170) (k := 4) G cl_X11 in_X11 tyX11_ok nmX11 (by decide) (by decide) rfl (Or.inl rfl) rfl q616 rfl rfl hz24 (fun _ => rfl) dX11_next_170 ?_
        refine J_nmD (fun d28 hd28 => ?_)
        refine JR_goto (pc := 173) (tgt := 123) G dX11_next_173 (by decide) ?_
        exact ih d28
  have hRe_next_b193 : ∀ (s0 : Int32) (s1 : Option Nat) (d : Dt), J X F Λw S d 193 [(0, va_rf (some this))] [.int s0, va_rf s1] (Re_next_b193 this S s0 s1 d) := by
    intro s0 s1 d
    unfold Re_next_b193
    refine J_bd (fun z20 hz20 => ?_)
    refine JW_pI (pc := 193) (k := 6) G cl_X11 in_X11 tyX11_ok nmX11 (by decide) (by decide) rfl (Or.inl rfl) rfl q618 rfl rfl hz20 (fun _ => rfl) dX11_next_193 ?_
    refine J_nmD (fun d21 hd21 => ?_)
    refine JR_aload_n (pc := 196) (k := 0) (i := 0) (o := some this) G rfl rfl dX11_next_196 ?_
    refine JR_dup (pc := 197) G (rf_cat _) dX11_next_197 ?_
    refine J_bd (fun z22 hz22 => ?_)
    refine JR_gI (pc := 198) (k := 4) G cl_X11 in_X11 (by decide) (by decide) rfl (Or.inl rfl) q616 hz22 dX11_next_198 ?_
    refine JR_iconst (pc := 201) G ci_1 dX11_next_201 ?_
    refine JR_iadd (pc := 202) G dX11_next_202 ?_
    refine JW_pI (pc := 203) (k := 4) G cl_X11 in_X11 tyX11_ok nmX11 (by decide) (by decide) rfl (Or.inl rfl) rfl q616 rfl rfl hz22 (fun _ => rfl) dX11_next_203 ?_
    refine J_nmD (fun d23 hd23 => ?_)
    exact JR_vret (pc := 206) G hR dX11_next_206 rfl rfl
  have hRe_next_h0 : ∀ (f : Nat) (d : Dt), J X F Λw S d 0 [(0, va_rf (some this))] [] (Re_next_h0 this S f d) := by
    intro  f
    induction f with
    | zero => intro d; exact J_no
    | succ f ih =>
      intro d
      unfold Re_next_h0
      refine JR_aload_n (pc := 0) (k := 0) (i := 0) (o := some this) G rfl rfl dX11_next_0 ?_
      refine JR_bipush (pc := 1) (v := 32) G (by decide) dX11_next_1 ?_
      refine JR_bipush (pc := 3) (v := 32) G (by decide) dX11_next_3 ?_
      refine J_bd (fun z1 hz1 => ?_)
      refine JPV_I (pc := 5) (as := [.int 32, .int 32]) (st' := []) (o := some this) G (Re_isAt_fn this 32 32 S d) (JC_V (n := 2) G hRm cl_X11 q603 q605 qs4 q153 q606 ⟨rfl, dd_X11_isAt⟩ ⟨by decide, by decide⟩ dX11_next_5 hz1 rfl (Nat.le_of_ble_eq_true rfl)) rfl (fun r2 hr2 => ?_)
      refine JR_if_ne (pc := 8) (tgt := 22) G dX11_next_8 (by decide) (fun c17 => ?_) (fun c17 => ?_)
      · exact hRe_next_b22 (Re_next_h0 this S f) ih d
      · refine JR_aload_n (pc := 11) (k := 0) (i := 0) (o := some this) G rfl rfl dX11_next_11 ?_
        refine JR_bipush (pc := 12) (v := 10) G (by decide) dX11_next_12 ?_
        refine JR_bipush (pc := 14) (v := 10) G (by decide) dX11_next_14 ?_
        refine JPV_I (pc := 16) (as := [.int 10, .int 10]) (st' := []) (o := some this) G (Re_isAt_fn this 10 10 S d) (JC_V (n := 2) G hRm cl_X11 q603 q605 qs4 q153 q606 ⟨rfl, dd_X11_isAt⟩ ⟨by decide, by decide⟩ dX11_next_16 hz1 rfl (Nat.le_of_ble_eq_true rfl)) rfl (fun r3 hr3 => ?_)
        refine JR_if_eq (pc := 19) (tgt := 35) G dX11_next_19 (by decide) (fun c16 => ?_) (fun c16 => ?_)
        · refine JR_aload_n (pc := 35) (k := 0) (i := 0) (o := some this) G rfl rfl dX11_next_35 ?_
          refine JR_aload_n (pc := 36) (k := 0) (i := 0) (o := some this) G rfl rfl dX11_next_36 ?_
          refine JR_gI (pc := 37) (k := 4) G cl_X11 in_X11 (by decide) (by decide) rfl (Or.inl rfl) q616 hz1 dX11_next_37 ?_
          refine JW_pI (pc := 40) (k := 5) G cl_X11 in_X11 tyX11_ok nmX11 (by decide) (by decide) rfl (Or.inl rfl) rfl q617 rfl rfl hz1 (fun _ => rfl) dX11_next_40 ?_
          refine J_nmD (fun d4 hd4 => ?_)
          refine JR_aload_n (pc := 43) (k := 0) (i := 0) (o := some this) G rfl rfl dX11_next_43 ?_
          refine JR_iconst (pc := 44) G ci_0 dX11_next_44 ?_
          refine JW_pI (pc := 45) (k := 7) G cl_X11 in_X11 tyX11_ok nmX11 (by decide) (by decide) rfl (Or.inl rfl) rfl q619 rfl rfl hz1 (fun _ => rfl) dX11_next_45 ?_
          refine J_nmD (fun d5 hd5 => ?_)
          refine JR_aload_n (pc := 48) (k := 0) (i := 0) (o := some this) G rfl rfl dX11_next_48 ?_
          refine JR_gI (pc := 49) (k := 4) G cl_X11 in_X11 (by decide) (by decide) rfl (Or.inl rfl) q616 hz1 dX11_next_49 ?_
          refine JR_aload_n (pc := 52) (k := 0) (i := 0) (o := some this) G rfl rfl dX11_next_52 ?_
          refine JR_gI (pc := 53) (k := 2) G cl_X11 in_X11 (by decide) (by decide) rfl (Or.inl rfl) q614 hz1 dX11_next_53 ?_
          refine JR_icmp_ne (pc := 56) (tgt := 67) G dX11_next_56 (by decide) (fun c15 => ?_) (fun c15 => ?_)
          · refine JR_aload_n (pc := 67) (k := 0) (i := 0) (o := some this) G rfl rfl dX11_next_67 ?_
            refine JR_bipush (pc := 68) (v := 97) G (by decide) dX11_next_68 ?_
            refine JR_bipush (pc := 70) (v := 122) G (by decide) dX11_next_70 ?_
            refine JPV_I (pc := 72) (as := [.int 97, .int 122]) (st' := []) (o := some this) G (Re_isAt_fn this 97 122 S d5) (JC_V (n := 2) G hRm cl_X11 q603 q605 qs4 q153 q606 ⟨rfl, dd_X11_isAt⟩ ⟨by decide, by decide⟩ dX11_next_72 hz1 rfl (Nat.le_of_ble_eq_true rfl)) rfl (fun r6 hr6 => ?_)
            refine JR_if_eq (pc := 75) (tgt := 107) G dX11_next_75 (by decide) (fun c13 => ?_) (fun c13 => ?_)
            · refine JR_aload_n (pc := 107) (k := 0) (i := 0) (o := some this) G rfl rfl dX11_next_107 ?_
              refine JR_bipush (pc := 108) (v := 48) G (by decide) dX11_next_108 ?_
              refine JR_bipush (pc := 110) (v := 57) G (by decide) dX11_next_110 ?_
              refine JPV_I (pc := 112) (as := [.int 48, .int 57]) (st' := []) (o := some this) G (Re_isAt_fn this 48 57 S d5) (JC_V (n := 2) G hRm cl_X11 q603 q605 qs4 q153 q606 ⟨rfl, dd_X11_isAt⟩ ⟨by decide, by decide⟩ dX11_next_112 hz1 rfl (Nat.le_of_ble_eq_true rfl)) rfl (fun r7 hr7 => ?_)
              refine JR_if_eq (pc := 115) (tgt := 176) G dX11_next_115 (by decide) (fun c11 => ?_) (fun c11 => ?_)
              · refine JR_aload_n (pc := 176) (k := 0) (i := 0) (o := some this) G rfl rfl dX11_next_176 ?_
                refine JR_aload_n (pc := 177) (k := 0) (i := 0) (o := some this) G rfl rfl dX11_next_177 ?_
                refine JR_bipush (pc := 178) (v := 59) G (by decide) dX11_next_178 ?_
                refine JR_bipush (pc := 180) (v := 59) G (by decide) dX11_next_180 ?_
                refine JPV_I (pc := 182) (as := [.int 59, .int 59]) (st' := [va_rf (some this)]) (o := some this) G (Re_isAt_fn this 59 59 S d5) (JC_V (n := 2) G hRm cl_X11 q603 q605 qs4 q153 q606 ⟨rfl, dd_X11_isAt⟩ ⟨by decide, by decide⟩ dX11_next_182 hz1 rfl (Nat.le_of_ble_eq_true rfl)) rfl (fun r8 hr8 => ?_)
                refine J_eq (r' := if r8 = 0 then Re_next_b193 this S 4 (some this) d5 else Re_next_b193 this S 3 (some this) d5) (by split <;> rfl) ?_
                refine JR_if_eq (pc := 185) (tgt := 192) G dX11_next_185 (by decide) (fun c9 => ?_) (fun c9 => ?_)
                · refine JR_iconst (pc := 192) G ci_4 dX11_next_192 ?_
                  exact hRe_next_b193 4 (some this) d5
                · refine JR_iconst (pc := 188) G ci_3 dX11_next_188 ?_
                  refine JR_goto (pc := 189) (tgt := 193) G dX11_next_189 (by decide) ?_
                  exact hRe_next_b193 3 (some this) d5
              · refine JR_aload_n (pc := 118) (k := 0) (i := 0) (o := some this) G rfl rfl dX11_next_118 ?_
                refine JR_iconst (pc := 119) G ci_2 dX11_next_119 ?_
                refine JW_pI (pc := 120) (k := 6) G cl_X11 in_X11 tyX11_ok nmX11 (by decide) (by decide) rfl (Or.inl rfl) rfl q618 rfl rfl hz1 (fun _ => rfl) dX11_next_120 ?_
                refine J_nmD (fun d10 hd10 => ?_)
                exact hRe_next_h123 FU d10
            · refine JR_aload_n (pc := 78) (k := 0) (i := 0) (o := some this) G rfl rfl dX11_next_78 ?_
              refine JR_iconst (pc := 79) G ci_1 dX11_next_79 ?_
              refine JW_pI (pc := 80) (k := 6) G cl_X11 in_X11 tyX11_ok nmX11 (by decide) (by decide) rfl (Or.inl rfl) rfl q618 rfl rfl hz1 (fun _ => rfl) dX11_next_80 ?_
              refine J_nmD (fun d12 hd12 => ?_)
              exact hRe_next_h83 FU d12
          · refine JR_aload_n (pc := 59) (k := 0) (i := 0) (o := some this) G rfl rfl dX11_next_59 ?_
            refine JR_iconst (pc := 60) G ci_0 dX11_next_60 ?_
            refine JW_pI (pc := 61) (k := 6) G cl_X11 in_X11 tyX11_ok nmX11 (by decide) (by decide) rfl (Or.inl rfl) rfl q618 rfl rfl hz1 (fun _ => rfl) dX11_next_61 ?_
            refine J_nmD (fun d14 hd14 => ?_)
            refine JR_goto (pc := 64) (tgt := 206) G dX11_next_64 (by decide) ?_
            exact JR_vret (pc := 206) G hR dX11_next_206 rfl rfl
        · exact hRe_next_b22 (Re_next_h0 this S f) ih d
  unfold Re_next
  exact hRe_next_h0 FU d

def Re_init (this : Nat) (p1 : Option Nat) (p2 : Int32) (S : Sp) (d : Dt) : Option (Unit × Sp × Dt) :=
  (gn 6).bind fun n1 =>
  bind2 (some (mmNew S (50 + 9, n1) n1, mmNewD S d)) fun S2 d3 =>
  (aix S2 59 (some S.1.length) 0).bind fun q4 =>
  (some (sR S2 q4.1 q4.2 (some (OPQ + 0)))).bind fun S5 =>
  (aix S5 59 (some S.1.length) 1).bind fun q6 =>
  (some (sR S5 q6.1 q6.2 (some (OPQ + 1)))).bind fun S7 =>
  (aix S7 59 (some S.1.length) 2).bind fun q8 =>
  (some (sR S7 q8.1 q8.2 (some (OPQ + 2)))).bind fun S9 =>
  (aix S9 59 (some S.1.length) 3).bind fun q10 =>
  (some (sR S9 q10.1 q10.2 (some (OPQ + 3)))).bind fun S11 =>
  (aix S11 59 (some S.1.length) 4).bind fun q12 =>
  (some (sR S11 q12.1 q12.2 (some (OPQ + 4)))).bind fun S13 =>
  (aix S13 59 (some S.1.length) 5).bind fun q14 =>
  (some (sR S13 q14.1 q14.2 (some (OPQ + 5)))).bind fun S15 =>
  (isK S15 10 (some this)).bind fun z16 =>
  (some (sR S15 z16 0 (some S.1.length))).bind fun S17 =>
  bind2 (some (mmNew S17 (1, 0) 9, mmNewD S17 d3)) fun S18 d19 =>
  bind3 (To_init S17.1.length S18 d19) fun _ S20 d21 =>
  (isK S20 10 (some this)).bind fun z22 =>
  (some (sR S20 z22 3 (some S17.1.length))).bind fun S23 =>
  (isK S23 10 (some this)).bind fun z24 =>
  (some (sR S23 z24 1 p1)).bind fun S25 =>
  (isK S25 10 (some this)).bind fun z26 =>
  (some (dI d21 z26 2 p2)).bind fun d27 =>
  bind2 (Re_next this S25 d27) fun _ d28 =>
  some ((), S25, d28)
set_option maxHeartbeats 4000000 in
theorem Re_init_fn (this : Nat) (p1 : Option Nat) (p2 : Int32) (S : Sp) (d : Dt) : Fn yX11_init (ws_ yX11_init cX11_init 3 none) 5 101 [va_rf (some this), va_rf p1, .int p2] S d rvU Λa (Re_init this p1 p2 S d) := by
  refine Fn.ofJ (own := RX11) (lv := [(0, va_rf (some this)), (1, va_rf p1), (2, .int p2)]) (by decide +kernel) rfl (by simp [cat_i, cat_l, cat_f, cat_d, rf_cat]) (by simp [lv_args, cat_i, cat_l, cat_f, cat_d, rf_cat]) ?_
  intro X F G hRm hR hI
  unfold Re_init
  refine JR_aload_n (pc := 0) (k := 0) (i := 0) (o := some this) G rfl rfl dX11_init_0 ?_
  refine JR_objInit (pc := 1) G hRm q588 q_oi1 q_oi2 ⟨by decide, by decide⟩ (by decide) dX11_init_1 ?_
  refine JR_aload_n (pc := 4) (k := 0) (i := 0) (o := some this) G rfl rfl dX11_init_4 ?_
  refine JR_bipush (pc := 5) (v := 6) G (by decide) dX11_init_5 ?_
  refine J_bd (fun n1 hn1 => ?_)
  refine JW_newq (pc := 7) (t := 9) G (by decide) rfl q589 (by decide) hn1 (fun _ => rfl) dX11_init_7 ?_
  refine J_nm2 (fun S2 d3 hS2 hd3 => ?_)
  refine JR_dup (pc := 10) G (rf_cat _) dX11_init_10 ?_
  refine JR_iconst (pc := 11) G ci_0 dX11_init_11 ?_
  refine JR_ldcSR (pc := 12) (i := 11) (j := 0) G (by decide) (by decide) dX11_init_12 ?_
  refine J_bd (fun q4 hq4 => ?_)
  refine JW_aastS (pc := 14) (t := 9) G (by decide) rfl (by decide) rfl hq4 (fun _ => rfl) dX11_init_14 ?_
  refine J_nmS (fun S5 hS5 => ?_)
  refine JR_dup (pc := 15) G (rf_cat _) dX11_init_15 ?_
  refine JR_iconst (pc := 16) G ci_1 dX11_init_16 ?_
  refine JR_ldcSR (pc := 17) (i := 13) (j := 1) G (by decide) (by decide) dX11_init_17 ?_
  refine J_bd (fun q6 hq6 => ?_)
  refine JW_aastS (pc := 19) (t := 9) G (by decide) rfl (by decide) rfl hq6 (fun _ => rfl) dX11_init_19 ?_
  refine J_nmS (fun S7 hS7 => ?_)
  refine JR_dup (pc := 20) G (rf_cat _) dX11_init_20 ?_
  refine JR_iconst (pc := 21) G ci_2 dX11_init_21 ?_
  refine JR_ldcSR (pc := 22) (i := 15) (j := 2) G (by decide) (by decide) dX11_init_22 ?_
  refine J_bd (fun q8 hq8 => ?_)
  refine JW_aastS (pc := 24) (t := 9) G (by decide) rfl (by decide) rfl hq8 (fun _ => rfl) dX11_init_24 ?_
  refine J_nmS (fun S9 hS9 => ?_)
  refine JR_dup (pc := 25) G (rf_cat _) dX11_init_25 ?_
  refine JR_iconst (pc := 26) G ci_3 dX11_init_26 ?_
  refine JR_ldcSR (pc := 27) (i := 17) (j := 3) G (by decide) (by decide) dX11_init_27 ?_
  refine J_bd (fun q10 hq10 => ?_)
  refine JW_aastS (pc := 29) (t := 9) G (by decide) rfl (by decide) rfl hq10 (fun _ => rfl) dX11_init_29 ?_
  refine J_nmS (fun S11 hS11 => ?_)
  refine JR_dup (pc := 30) G (rf_cat _) dX11_init_30 ?_
  refine JR_iconst (pc := 31) G ci_4 dX11_init_31 ?_
  refine JR_ldcSR (pc := 32) (i := 19) (j := 4) G (by decide) (by decide) dX11_init_32 ?_
  refine J_bd (fun q12 hq12 => ?_)
  refine JW_aastS (pc := 34) (t := 9) G (by decide) rfl (by decide) rfl hq12 (fun _ => rfl) dX11_init_34 ?_
  refine J_nmS (fun S13 hS13 => ?_)
  refine JR_dup (pc := 35) G (rf_cat _) dX11_init_35 ?_
  refine JR_iconst (pc := 36) G ci_5 dX11_init_36 ?_
  refine JR_ldcSR (pc := 37) (i := 21) (j := 5) G (by decide) (by decide) dX11_init_37 ?_
  refine J_bd (fun q14 hq14 => ?_)
  refine JW_aastS (pc := 39) (t := 9) G (by decide) rfl (by decide) rfl hq14 (fun _ => rfl) dX11_init_39 ?_
  refine J_nmS (fun S15 hS15 => ?_)
  refine J_bd (fun z16 hz16 => ?_)
  refine JW_pRf (pc := 40) (k := 0) G cl_X11 in_X11 tyX11_ok nmX11 (by decide) (by decide) rfl (Or.inl rfl) rfl (hI rfl) rfl q612 hz16 (fun _ => rfl) dX11_init_40 ?_
  refine J_nmS (fun S17 hS17 => ?_)
  refine JR_aload_n (pc := 43) (k := 0) (i := 0) (o := some this) G rfl rfl dX11_init_43 ?_
  refine JW_new (pc := 44) G cl_X1 in_X1 tyX1_ok (by decide) lg_X1 q597 q183 q138 (fun _ => rfl) dX11_init_44 ?_
  refine J_nm2 (fun S18 d19 hS18 hd19 => ?_)
  refine JR_dup (pc := 47) G (rf_cat _) dX11_init_47 ?_
  refine JAV_U (pc := 48) (as := []) (st' := [va_rf (some S17.1.length), va_rf (some this)]) (o := some S17.1.length) G (To_init_fn S17.1.length S18 d19) (JC_IN (n := 0) G hRm q598 q185 q138 q186 rfl dd_X1_init ⟨by decide, by decide⟩ dX11_init_48 rfl (Nat.le_of_ble_eq_true rfl)) rfl (fun _ _ _ => rfl) (fun _ S20 d21 hd21 => ?_)
  refine J_bd (fun z22 hz22 => ?_)
  refine JW_pRf (pc := 51) (k := 3) G cl_X11 in_X11 tyX11_ok nmX11 (by decide) (by decide) rfl (Or.inl rfl) rfl (hI rfl) rfl q615 hz22 (fun _ => rfl) dX11_init_51 ?_
  refine J_nmS (fun S23 hS23 => ?_)
  refine JR_aload_n (pc := 54) (k := 0) (i := 0) (o := some this) G rfl rfl dX11_init_54 ?_
  refine JR_aload_n (pc := 55) (k := 1) (i := 1) (o := p1) G rfl rfl dX11_init_55 ?_
  refine J_bd (fun z24 hz24 => ?_)
  refine JW_pRf (pc := 56) (k := 1) G cl_X11 in_X11 tyX11_ok nmX11 (by decide) (by decide) rfl (Or.inl rfl) rfl (hI rfl) rfl q613 hz24 (fun _ => rfl) dX11_init_56 ?_
  refine J_nmS (fun S25 hS25 => ?_)
  refine JR_aload_n (pc := 59) (k := 0) (i := 0) (o := some this) G rfl rfl dX11_init_59 ?_
  refine JR_iload_n (pc := 60) (k := 2) (i := 2) G rfl rfl dX11_init_60 ?_
  refine J_bd (fun z26 hz26 => ?_)
  refine JW_pIf (pc := 61) (k := 2) G cl_X11 in_X11 tyX11_ok nmX11 (by decide) (by decide) rfl (Or.inl rfl) rfl (hI rfl) rfl q614 rfl rfl hz26 (fun _ => rfl) dX11_init_61 ?_
  refine J_nmD (fun d27 hd27 => ?_)
  refine JR_aload_n (pc := 64) (k := 0) (i := 0) (o := some this) G rfl rfl dX11_init_64 ?_
  refine JQV_U (pc := 65) (as := []) (st' := []) (o := some this) G (Re_next_fn this S25 d27) (JC_V (n := 0) G hRm cl_X11 q599 q601 qs3 q153 q602 ⟨rfl, dd_X11_next⟩ ⟨by decide, by decide⟩ dX11_init_65 hz26 rfl (Nat.le_of_ble_eq_true rfl)) rfl (fun _ _ => rfl) (fun _ d28 hd28 => ?_)
  exact JR_vret (pc := 68) G hR dX11_init_68 rfl rfl

def Re_is_h28 (this : Nat) (p1 : Option Nat) (S : Sp) (d : Dt) : Nat → Int32 → Option Int32
  | 0, _ => none
  | f + 1, v2 =>
    (isT p1).bind fun j6 =>
    (Js_length p1 S d).bind fun r7 =>
    if r7 ≤ v2 then
      some 1
    else
      (isK S 10 (some this)).bind fun z8 =>
      (aix S 52 (S.2.1 z8 1) ((d.1 z8 5) + v2)).bind fun q9 =>
      (Js_charAt p1 v2 S d).bind fun r10 =>
      if (d.1 q9.1 q9.2) = r10 then
        Re_is_h28 this p1 S d f (v2 + 1)
      else
        some 0
def Re_is (this : Nat) (p1 : Option Nat) (S : Sp) (d : Dt) : Option Int32 :=
  (isK S 10 (some this)).bind fun z1 =>
  if ¬ (d.1 z1 6) = 1 then
    some 0
  else
    (isT p1).bind fun j2 =>
    (Js_length p1 S d).bind fun r3 =>
    if ((d.1 z1 4) - (d.1 z1 5)) = r3 then
      Re_is_h28 this p1 S d FU 0
    else
      some 0
set_option maxHeartbeats 4000000 in
theorem Re_is_fn (this : Nat) (p1 : Option Nat) (S : Sp) (d : Dt) : Fn yX11_is (ws_ yX11_is cX11_is 3 (some .boolean)) 4 85 [va_rf (some this), va_rf p1] S d rvI Λp (Re_is this p1 S d) := by
  refine Fn.ofJ (own := RX11) (lv := [(0, va_rf (some this)), (1, va_rf p1)]) (by decide +kernel) rfl (by simp [cat_i, cat_l, cat_f, cat_d, rf_cat]) (by simp [lv_args, cat_i, cat_l, cat_f, cat_d, rf_cat]) ?_
  intro X F G hRm hR hI
  have hRe_is_h28 : ∀ (f : Nat) (v2 : Int32), J X F Λp S d 28 [(0, va_rf (some this)), (1, va_rf p1), (2, .int v2)] [] (Re_is_h28 this p1 S d f v2) := by
    intro  f
    induction f with
    | zero => intro v2; exact J_no
    | succ f ih =>
      intro v2
      unfold Re_is_h28
      refine JR_iload_n (pc := 28) (k := 2) (i := 2) G rfl rfl dX11_is_28 ?_
      refine JR_aload_n (pc := 29) (k := 1) (i := 1) (o := p1) G rfl rfl dX11_is_29 ?_
      refine J_bd (fun j6 hj6 => ?_)
      refine JPV_I (pc := 30) (as := []) (st' := [.int v2]) (o := p1) G (Js_length_fn p1 S d) (JC_VT (n := 0) G hRm q658 q659 q660 q155 q661 ⟨rfl, dd_J6_length⟩ ⟨by decide, by decide⟩ dX11_is_30 hj6 rfl (Nat.le_of_ble_eq_true rfl)) rfl (fun r7 hr7 => ?_)
      refine JR_icmp_ge (pc := 33) (tgt := 63) G dX11_is_33 (by decide) (fun c12 => ?_) (fun c12 => ?_)
      · refine JR_iconst (pc := 63) G ci_1 dX11_is_63 ?_
        exact JR_zret (pc := 64) G hR dX11_is_64 (Or.inr rfl) rfl rfl
      · refine JR_aload_n (pc := 36) (k := 0) (i := 0) (o := some this) G rfl rfl dX11_is_36 ?_
        refine J_bd (fun z8 hz8 => ?_)
        refine JR_gR (pc := 37) (k := 1) G cl_X11 in_X11 (by decide) (by decide) rfl (Or.inl rfl) q613 hz8 dX11_is_37 ?_
        refine JR_aload_n (pc := 40) (k := 0) (i := 0) (o := some this) G rfl rfl dX11_is_40 ?_
        refine JR_gI (pc := 41) (k := 5) G cl_X11 in_X11 (by decide) (by decide) rfl (Or.inl rfl) q617 hz8 dX11_is_41 ?_
        refine JR_iload_n (pc := 44) (k := 2) (i := 2) G rfl rfl dX11_is_44 ?_
        refine JR_iadd (pc := 45) G dX11_is_45 ?_
        refine J_bd (fun q9 hq9 => ?_)
        refine JR_baload (pc := 46) G hq9 dX11_is_46 ?_
        refine JR_aload_n (pc := 47) (k := 1) (i := 1) (o := p1) G rfl rfl dX11_is_47 ?_
        refine JR_iload_n (pc := 48) (k := 2) (i := 2) G rfl rfl dX11_is_48 ?_
        refine JPV_I (pc := 49) (as := [.int v2]) (st' := [.int (d.1 q9.1 q9.2)]) (o := p1) G (Js_charAt_fn p1 v2 S d) (JC_VT (n := 1) G hRm q668 q669 q670 q155 q671 ⟨rfl, dd_J6_charAt⟩ ⟨by decide, by decide⟩ dX11_is_49 hj6 rfl (Nat.le_of_ble_eq_true rfl)) rfl (fun r10 hr10 => ?_)
        refine JR_icmp_eq (pc := 52) (tgt := 57) G dX11_is_52 (by decide) (fun c11 => ?_) (fun c11 => ?_)
        · refine JR_iinc (pc := 57) (i := 2) (v := v2 + 1) (lv' := [(2, .int (v2 + 1)), (0, va_rf (some this)), (1, va_rf p1)]) G rfl (congrArg (fun z => v2 + z) (by decide)) (by decide) (by simp [lvS, rf_cat]) dX11_is_57 ?_
          refine JR_goto (pc := 60) (tgt := 28) G dX11_is_60 (by decide) ?_
          refine J_sub [1, 2, 0] rfl ?_
          exact ih (v2 + 1)
        · refine JR_iconst (pc := 55) G ci_0 dX11_is_55 ?_
          exact JR_zret (pc := 56) G hR dX11_is_56 (Or.inl rfl) rfl rfl
  unfold Re_is
  refine JR_aload_n (pc := 0) (k := 0) (i := 0) (o := some this) G rfl rfl dX11_is_0 ?_
  refine J_bd (fun z1 hz1 => ?_)
  refine JR_gI (pc := 1) (k := 6) G cl_X11 in_X11 (by decide) (by decide) rfl (Or.inl rfl) q618 hz1 dX11_is_1 ?_
  refine JR_iconst (pc := 4) G ci_1 dX11_is_4 ?_
  refine JR_icmp_ne (pc := 5) (tgt := 24) G dX11_is_5 (by decide) (fun c5 => ?_) (fun c5 => ?_)
  · refine JR_iconst (pc := 24) G ci_0 dX11_is_24 ?_
    exact JR_zret (pc := 25) G hR dX11_is_25 (Or.inl rfl) rfl rfl
  · refine JR_aload_n (pc := 8) (k := 0) (i := 0) (o := some this) G rfl rfl dX11_is_8 ?_
    refine JR_gI (pc := 9) (k := 4) G cl_X11 in_X11 (by decide) (by decide) rfl (Or.inl rfl) q616 hz1 dX11_is_9 ?_
    refine JR_aload_n (pc := 12) (k := 0) (i := 0) (o := some this) G rfl rfl dX11_is_12 ?_
    refine JR_gI (pc := 13) (k := 5) G cl_X11 in_X11 (by decide) (by decide) rfl (Or.inl rfl) q617 hz1 dX11_is_13 ?_
    refine JR_isub (pc := 16) G dX11_is_16 ?_
    refine JR_aload_n (pc := 17) (k := 1) (i := 1) (o := p1) G rfl rfl dX11_is_17 ?_
    refine J_bd (fun j2 hj2 => ?_)
    refine JPV_I (pc := 18) (as := []) (st' := [.int ((d.1 z1 4) - (d.1 z1 5))]) (o := p1) G (Js_length_fn p1 S d) (JC_VT (n := 0) G hRm q658 q659 q660 q155 q661 ⟨rfl, dd_J6_length⟩ ⟨by decide, by decide⟩ dX11_is_18 hj2 rfl (Nat.le_of_ble_eq_true rfl)) rfl (fun r3 hr3 => ?_)
    refine JR_icmp_eq (pc := 21) (tgt := 26) G dX11_is_21 (by decide) (fun c4 => ?_) (fun c4 => ?_)
    · refine JR_iconst (pc := 26) G ci_0 dX11_is_26 ?_
      refine JR_istore_n (pc := 27) (k := 2) (i := 2) (lv' := [(2, .int 0), (0, va_rf (some this)), (1, va_rf p1)]) G rfl (by decide) (by simp [lvS, rf_cat]) dX11_is_27 ?_
      refine J_sub [1, 2, 0] rfl ?_
      exact hRe_is_h28 FU 0
    · refine JR_iconst (pc := 24) G ci_0 dX11_is_24 ?_
      exact JR_zret (pc := 25) G hR dX11_is_25 (Or.inl rfl) rfl rfl

def Fa_init (this : Nat) (p1 : Int32) (p2 : Int32) (S : Sp) (d : Dt) : Option (Unit × Sp × Dt) :=
  bind3 (Th_RF this none none 0 0 S d) fun _ S1 d2 =>
  (isK S1 11 (some this)).bind fun z3 =>
  (some (dI d2 z3 6 p1)).bind fun d4 =>
  (some (dI d4 z3 7 p2)).bind fun d5 =>
  some ((), S1, d5)
set_option maxHeartbeats 4000000 in
theorem Fa_init_fn (this : Nat) (p1 : Int32) (p2 : Int32) (S : Sp) (d : Dt) : Fn yX12_init (ws_ yX12_init cX12_init 3 none) 4 92 [va_rf (some this), .int p1, .int p2] S d rvU Λa (Fa_init this p1 p2 S d) := by
  refine Fn.ofJ (own := RX12) (lv := [(0, va_rf (some this)), (1, .int p1), (2, .int p2)]) (by decide +kernel) rfl (by simp [cat_i, cat_l, cat_f, cat_d, rf_cat]) (by simp [lv_args, cat_i, cat_l, cat_f, cat_d, rf_cat]) ?_
  intro X F G hRm hR hI
  unfold Fa_init
  refine JR_aload_n (pc := 0) (k := 0) (i := 0) (o := some this) G rfl rfl dX12_init_0 ?_
  refine JR_null (pc := 1) G dX12_init_1 ?_
  refine JR_null (pc := 2) G dX12_init_2 ?_
  refine JR_iconst (pc := 3) G ci_0 dX12_init_3 ?_
  refine JR_iconst (pc := 4) G ci_0 dX12_init_4 ?_
  refine JAV_U (pc := 5) (as := [va_rf none, va_rf none, .int 0, .int 0]) (st' := []) (o := some this) G (Th_RF_fn this none none 0 0 S d) (JC_I (n := 4) G hRm q752 q753 q160 q754 rfl dd_J11_init ⟨by decide, by decide⟩ dX12_init_5 rfl (Nat.le_of_ble_eq_true rfl)) rfl (fun _ _ _ => rfl) (fun _ S1 d2 hd2 => ?_)
  refine JR_aload_n (pc := 8) (k := 0) (i := 0) (o := some this) G rfl rfl dX12_init_8 ?_
  refine JR_iload_n (pc := 9) (k := 1) (i := 1) G rfl rfl dX12_init_9 ?_
  refine J_bd (fun z3 hz3 => ?_)
  refine JW_pIf (pc := 10) (k := 6) G cl_X12 in_X12 tyX12_ok nmX12 (by decide) (by decide) rfl (Or.inl rfl) rfl (hI rfl) rfl q761 rfl rfl hz3 (fun _ => rfl) dX12_init_10 ?_
  refine J_nmD (fun d4 hd4 => ?_)
  refine JR_aload_n (pc := 13) (k := 0) (i := 0) (o := some this) G rfl rfl dX12_init_13 ?_
  refine JR_iload_n (pc := 14) (k := 2) (i := 2) G rfl rfl dX12_init_14 ?_
  refine JW_pIf (pc := 15) (k := 7) G cl_X12 in_X12 tyX12_ok nmX12 (by decide) (by decide) rfl (Or.inl rfl) rfl (hI rfl) rfl q763 rfl rfl hz3 (fun _ => rfl) dX12_init_15 ?_
  refine J_nmD (fun d5 hd5 => ?_)
  exact JR_vret (pc := 18) G hR dX12_init_18 rfl rfl

def Re_fault (this : Nat) (p1 : Int32) (S : Sp) (d : Dt) : Option ((Option Nat) × Sp × Dt) :=
  bind2 (some (mmNew S (11, 0) 8, mmNewD S d)) fun S1 d2 =>
  (isK S1 10 (some this)).bind fun z3 =>
  bind3 (Fa_init S.1.length p1 (d2.1 z3 5) S1 d2) fun _ S4 d5 =>
  some (some S.1.length, S4, d5)
set_option maxHeartbeats 4000000 in
theorem Re_fault_fn (this : Nat) (p1 : Int32) (S : Sp) (d : Dt) : Fn yX11_fault (ws_ yX11_fault cX11_fault 2 (some (.object "WatchStack$Fault"))) 5 114 [va_rf (some this), .int p1] S d rvR Λa (Re_fault this p1 S d) := by
  refine Fn.ofJ (own := RX11) (lv := [(0, va_rf (some this)), (1, .int p1)]) (by decide +kernel) rfl (by simp [cat_i, cat_l, cat_f, cat_d, rf_cat]) (by simp [lv_args, cat_i, cat_l, cat_f, cat_d, rf_cat]) ?_
  intro X F G hRm hR hI
  unfold Re_fault
  refine JW_new (pc := 0) G cl_X12 in_X12 tyX12_ok (by decide) lg_X12 q708 q709 q161 (fun _ => rfl) dX11_fault_0 ?_
  refine J_nm2 (fun S1 d2 hS1 hd2 => ?_)
  refine JR_dup (pc := 3) G (rf_cat _) dX11_fault_3 ?_
  refine JR_iload_n (pc := 4) (k := 1) (i := 1) G rfl rfl dX11_fault_4 ?_
  refine JR_aload_n (pc := 5) (k := 0) (i := 0) (o := some this) G rfl rfl dX11_fault_5 ?_
  refine J_bd (fun z3 hz3 => ?_)
  refine JR_gI (pc := 6) (k := 5) G cl_X11 in_X11 (by decide) (by decide) rfl (Or.inl rfl) q617 hz3 dX11_fault_6 ?_
  refine JAV_U (pc := 9) (as := [.int p1, .int (d2.1 z3 5)]) (st' := [va_rf (some S.1.length)]) (o := some S.1.length) G (Fa_init_fn S.1.length p1 (d2.1 z3 5) S1 d2) (JC_I (n := 2) G hRm q749 q750 q161 q751 rfl dd_X12_init ⟨by decide, by decide⟩ dX11_fault_9 rfl (Nat.le_of_ble_eq_true rfl)) rfl (fun _ _ _ => rfl) (fun _ S4 d5 hd5 => ?_)
  exact JR_aret (pc := 12) G hR ⟨_, rfl, Or.inl ⟨_, rfl⟩⟩ dX11_fault_12 rfl rfl

def Re_needs (this : Nat) (p1 : Option Nat) (S : Sp) (d : Dt) : Option ((Unit ⊕ Nat) × Sp × Dt) :=
  (isK S 10 (some this)).bind fun z1 =>
  (Re_is this p1 S d).bind fun r2 =>
  if ¬ r2 = 0 then
    bind2 (Re_next this S d) fun _ d3 =>
    some (.inl (()), S, d3)
  else
    bind3 (Re_fault this 1 S d) fun r4 S5 d6 =>
    (isK S5 11 r4).bind fun z7 =>
    some (.inr z7, S5, d6)
set_option maxHeartbeats 4000000 in
theorem Re_needs_fn (this : Nat) (p1 : Option Nat) (S : Sp) (d : Dt) : FnX yX11_needs (ws_ yX11_needs cX11_needs 2 none) 6 135 [va_rf (some this), va_rf p1] S d rvU "WatchStack$Fault" (Re_needs this p1 S d) := by
  refine FnX.ofJ (own := RX11) (lv := [(0, va_rf (some this)), (1, va_rf p1)]) (by decide +kernel) rfl (by simp [cat_i, cat_l, cat_f, cat_d, rf_cat]) (by simp [lv_args, cat_i, cat_l, cat_f, cat_d, rf_cat]) ?_
  intro X F G hRm hR
  unfold Re_needs
  refine JR_aload_n (pc := 0) (k := 0) (i := 0) (o := some this) G rfl rfl dX11_needs_0 ?_
  refine JR_aload_n (pc := 1) (k := 1) (i := 1) (o := p1) G rfl rfl dX11_needs_1 ?_
  refine J_bd (fun z1 hz1 => ?_)
  refine JPV_I (pc := 2) (as := [va_rf p1]) (st' := []) (o := some this) G (Re_is_fn this p1 S d) (JC_V (n := 1) G hRm cl_X11 q654 q656 qs8 q153 q657 ⟨rfl, dd_X11_is⟩ ⟨by decide, by decide⟩ dX11_needs_2 hz1 rfl (Nat.le_of_ble_eq_true rfl)) rfl (fun r2 hr2 => ?_)
  refine JR_if_ne (pc := 5) (tgt := 14) G dX11_needs_5 (by decide) (fun c8 => ?_) (fun c8 => ?_)
  · refine JR_aload_n (pc := 14) (k := 0) (i := 0) (o := some this) G rfl rfl dX11_needs_14 ?_
    refine JQV_U (pc := 15) (as := []) (st' := []) (o := some this) G (Re_next_fn this S d) (JC_V (n := 0) G hRm cl_X11 q599 q601 qs3 q153 q602 ⟨rfl, dd_X11_next⟩ ⟨by decide, by decide⟩ dX11_needs_15 hz1 rfl (Nat.le_of_ble_eq_true rfl)) rfl (fun _ _ => rfl) (fun _ d3 hd3 => ?_)
    exact JRX_vret (pc := 18) G hR dX11_needs_18
  · refine JR_aload_n (pc := 8) (k := 0) (i := 0) (o := some this) G rfl rfl dX11_needs_8 ?_
    refine JR_iconst (pc := 9) G ci_1 dX11_needs_9 ?_
    refine JAV_R (pc := 10) (as := [.int 1]) (st' := []) (o := some this) G (Re_fault_fn this 1 S d) (JC_V (n := 1) G hRm cl_X11 q704 q706 qs9 q153 q707 ⟨rfl, dd_X11_fault⟩ ⟨by decide, by decide⟩ dX11_needs_10 hz1 rfl (Nat.le_of_ble_eq_true rfl)) rfl (fun _ _ _ => rfl) (fun r4 S5 d6 hd6 => ?_)
    refine J_bd (fun z7 hz7 => ?_)
    refine J_stk (st' := [va_rf (some z7)]) (by rw [(isK_at hz7).1]) ?_
    refine JR_athrow (pc := 13) G cl_X12 dX11_needs_13 (isK_s hz7) ?_
    exact JX_out G hR

def Re_number_2 (this : Nat) (p1 : Int32) (p2 : Int32) (S : Sp) (d : Dt) : Option ((Int32 ⊕ Nat) × Sp × Dt) :=
  (isK S 10 (some this)).bind fun z1 =>
  if (d.1 z1 6) = 2 then
    (Ws_in (Int32.toInt64 (d.1 z1 7)) (Int32.toInt64 p1) (Int32.toInt64 p2) S d).bind fun r2 =>
    if ¬ r2 = 0 then
      (some (d.1 z1 7)).bind fun x3 =>
      bind2 (Re_next this S d) fun _ d4 =>
      some (.inl x3, S, d4)
    else
      bind3 (Re_fault this 2 S d) fun r5 S6 d7 =>
      (isK S6 11 r5).bind fun z8 =>
      some (.inr z8, S6, d7)
  else
    bind3 (Re_fault this 1 S d) fun r10 S11 d12 =>
    (isK S11 11 r10).bind fun z13 =>
    some (.inr z13, S11, d12)
set_option maxHeartbeats 4000000 in
theorem Re_number_2_fn (this : Nat) (p1 : Int32) (p2 : Int32) (S : Sp) (d : Dt) : FnX yX11_number_2 (ws_ yX11_number_2 cX11_number_2 4 (some .int)) 6 135 [va_rf (some this), .int p1, .int p2] S d rvI "WatchStack$Fault" (Re_number_2 this p1 p2 S d) := by
  refine FnX.ofJ (own := RX11) (lv := [(0, va_rf (some this)), (1, .int p1), (2, .int p2)]) (by decide +kernel) rfl (by simp [cat_i, cat_l, cat_f, cat_d, rf_cat]) (by simp [lv_args, cat_i, cat_l, cat_f, cat_d, rf_cat]) ?_
  intro X F G hRm hR
  unfold Re_number_2
  refine JR_aload_n (pc := 0) (k := 0) (i := 0) (o := some this) G rfl rfl dX11_number_2_0 ?_
  refine J_bd (fun z1 hz1 => ?_)
  refine JR_gI (pc := 1) (k := 6) G cl_X11 in_X11 (by decide) (by decide) rfl (Or.inl rfl) q618 hz1 dX11_number_2_1 ?_
  refine JR_iconst (pc := 4) G ci_2 dX11_number_2_4 ?_
  refine JR_icmp_eq (pc := 5) (tgt := 14) G dX11_number_2_5 (by decide) (fun c14 => ?_) (fun c14 => ?_)
  · refine JR_aload_n (pc := 14) (k := 0) (i := 0) (o := some this) G rfl rfl dX11_number_2_14 ?_
    refine JR_gI (pc := 15) (k := 7) G cl_X11 in_X11 (by decide) (by decide) rfl (Or.inl rfl) q619 hz1 dX11_number_2_15 ?_
    refine JR_i2l (pc := 18) G dX11_number_2_18 ?_
    refine JR_iload_n (pc := 19) (k := 1) (i := 1) G rfl rfl dX11_number_2_19 ?_
    refine JR_i2l (pc := 20) G dX11_number_2_20 ?_
    refine JR_iload_n (pc := 21) (k := 2) (i := 2) G rfl rfl dX11_number_2_21 ?_
    refine JR_i2l (pc := 22) G dX11_number_2_22 ?_
    refine JPS_I (pc := 23) (as := [.long (Int32.toInt64 (d.1 z1 7)), .long (Int32.toInt64 p1), .long (Int32.toInt64 p2)]) (st' := []) G (Ws_in_fn (Int32.toInt64 (d.1 z1 7)) (Int32.toInt64 p1) (Int32.toInt64 p2) S d) (JC_SN (n := 3) G hRm q607 q576 q137 q577 dd_X0_in ⟨by decide, by decide⟩ dX11_number_2_23 rfl (Nat.le_of_ble_eq_true rfl)) rfl (fun r2 hr2 => ?_)
    refine JR_if_ne (pc := 26) (tgt := 35) G dX11_number_2_26 (by decide) (fun c9 => ?_) (fun c9 => ?_)
    · refine JR_aload_n (pc := 35) (k := 0) (i := 0) (o := some this) G rfl rfl dX11_number_2_35 ?_
      refine JR_gI (pc := 36) (k := 7) G cl_X11 in_X11 (by decide) (by decide) rfl (Or.inl rfl) q619 hz1 dX11_number_2_36 ?_
      refine J_nm (fun x3 hx3 => ?_)
      refine JR_istore_n (pc := 39) (k := 3) (i := 3) (lv' := [(3, .int x3), (0, va_rf (some this)), (1, .int p1), (2, .int p2)]) G rfl (by decide) rfl dX11_number_2_39 ?_
      refine JR_aload_n (pc := 40) (k := 0) (i := 0) (o := some this) G rfl rfl dX11_number_2_40 ?_
      refine JQV_U (pc := 41) (as := []) (st' := []) (o := some this) G (Re_next_fn this S d) (JC_V (n := 0) G hRm cl_X11 q599 q601 qs3 q153 q602 ⟨rfl, dd_X11_next⟩ ⟨by decide, by decide⟩ dX11_number_2_41 hz1 rfl (Nat.le_of_ble_eq_true rfl)) rfl (fun _ _ => rfl) (fun _ d4 hd4 => ?_)
      refine JR_iload_n (pc := 44) (k := 3) (i := 3) G rfl rfl dX11_number_2_44 ?_
      exact JRX_iret (pc := 45) G hR dX11_number_2_45
    · refine JR_aload_n (pc := 29) (k := 0) (i := 0) (o := some this) G rfl rfl dX11_number_2_29 ?_
      refine JR_iconst (pc := 30) G ci_2 dX11_number_2_30 ?_
      refine JAV_R (pc := 31) (as := [.int 2]) (st' := []) (o := some this) G (Re_fault_fn this 2 S d) (JC_V (n := 1) G hRm cl_X11 q704 q706 qs9 q153 q707 ⟨rfl, dd_X11_fault⟩ ⟨by decide, by decide⟩ dX11_number_2_31 hz1 rfl (Nat.le_of_ble_eq_true rfl)) rfl (fun _ _ _ => rfl) (fun r5 S6 d7 hd7 => ?_)
      refine J_bd (fun z8 hz8 => ?_)
      refine J_stk (st' := [va_rf (some z8)]) (by rw [(isK_at hz8).1]) ?_
      refine JR_athrow (pc := 34) G cl_X12 dX11_number_2_34 (isK_s hz8) ?_
      exact JX_out G hR
  · refine JR_aload_n (pc := 8) (k := 0) (i := 0) (o := some this) G rfl rfl dX11_number_2_8 ?_
    refine JR_iconst (pc := 9) G ci_1 dX11_number_2_9 ?_
    refine JAV_R (pc := 10) (as := [.int 1]) (st' := []) (o := some this) G (Re_fault_fn this 1 S d) (JC_V (n := 1) G hRm cl_X11 q704 q706 qs9 q153 q707 ⟨rfl, dd_X11_fault⟩ ⟨by decide, by decide⟩ dX11_number_2_10 hz1 rfl (Nat.le_of_ble_eq_true rfl)) rfl (fun _ _ _ => rfl) (fun r10 S11 d12 hd12 => ?_)
    refine J_bd (fun z13 hz13 => ?_)
    refine J_stk (st' := [va_rf (some z13)]) (by rw [(isK_at hz13).1]) ?_
    refine JR_athrow (pc := 13) G cl_X12 dX11_number_2_13 (isK_s hz13) ?_
    exact JX_out G hR

def Re_number (this : Nat) (p1 : Option Nat) (p2 : Int32) (p3 : Int32) (S : Sp) (d : Dt) : Option ((Int32 ⊕ Nat) × Sp × Dt) :=
  (isK S 10 (some this)).bind fun z1 =>
  bindE (Re_needs this p1 S d) (fun v9 S9 d9 => some (.inr v9, S9, d9)) fun _ S2 d3 =>
  (isK S2 10 (some this)).bind fun z4 =>
  bindE (Re_number_2 this p2 p3 S2 d3) (fun v9 S9 d9 => some (.inr v9, S9, d9)) fun r5 S6 d7 =>
  some (.inl r5, S6, d7)
set_option maxHeartbeats 4000000 in
theorem Re_number_fn (this : Nat) (p1 : Option Nat) (p2 : Int32) (p3 : Int32) (S : Sp) (d : Dt) : FnX yX11_number (ws_ yX11_number cX11_number 4 (some .int)) 7 158 [va_rf (some this), va_rf p1, .int p2, .int p3] S d rvI "WatchStack$Fault" (Re_number this p1 p2 p3 S d) := by
  refine FnX.ofJ (own := RX11) (lv := [(0, va_rf (some this)), (1, va_rf p1), (2, .int p2), (3, .int p3)]) (by decide +kernel) rfl (by simp [cat_i, cat_l, cat_f, cat_d, rf_cat]) (by simp [lv_args, cat_i, cat_l, cat_f, cat_d, rf_cat]) ?_
  intro X F G hRm hR
  unfold Re_number
  refine JR_aload_n (pc := 0) (k := 0) (i := 0) (o := some this) G rfl rfl dX11_number_0 ?_
  refine JR_aload_n (pc := 1) (k := 1) (i := 1) (o := p1) G rfl rfl dX11_number_1 ?_
  refine J_bd (fun z1 hz1 => ?_)
  refine JXV_U (pc := 2) (as := [va_rf p1]) (st' := []) (o := some this) G (Re_needs_fn this p1 S d) (JXC_V (n := 1) G hRm cl_X11 q650 q652 qs7 q153 q653 ⟨rfl, dd_X11_needs⟩ ⟨by decide, by decide⟩ dX11_number_2 hz1 rfl (Nat.le_of_ble_eq_true rfl)) rfl (fun _ _ _ => rfl) (fun _ S2 d3 hd3 => ?_) (fun v9 S9 d9 h9 => JX_out G hR)
  refine JR_aload_n (pc := 5) (k := 0) (i := 0) (o := some this) G rfl rfl dX11_number_5 ?_
  refine JR_iload_n (pc := 6) (k := 2) (i := 2) G rfl rfl dX11_number_6 ?_
  refine JR_iload_n (pc := 7) (k := 3) (i := 3) G rfl rfl dX11_number_7 ?_
  refine J_bd (fun z4 hz4 => ?_)
  refine JXV_I (pc := 8) (as := [.int p2, .int p3]) (st' := []) (o := some this) G (Re_number_2_fn this p2 p3 S2 d3) (JXC_V (n := 2) G hRm cl_X11 q787 q789 qs12 q153 q790 ⟨rfl, dd_X11_number_2⟩ ⟨by decide, by decide⟩ dX11_number_8 hz4 rfl (Nat.le_of_ble_eq_true rfl)) rfl (fun _ _ _ => rfl) (fun r5 S6 d7 hd7 => ?_) (fun v9 S9 d9 h9 => JX_out G hR)
  exact JRX_iret (pc := 11) G hR dX11_number_11

def Re_boardLine (this : Nat) (S : Sp) (d : Dt) : Option ((Unit ⊕ Nat) × Sp × Dt) :=
  (isK S 10 (some this)).bind fun z1 =>
  bindE (Re_needs this (some (OPQ + 6)) S d) (fun v9 S9 d9 => some (.inr v9, S9, d9)) fun _ S2 d3 =>
  (isK S2 10 (some this)).bind fun z4 =>
  bindE (Re_number this (some (OPQ + 7)) 20 200 S2 d3) (fun v9 S9 d9 => some (.inr v9, S9, d9)) fun r5 S6 d7 =>
  (isK S6 1 (S2.2.1 z4 3)).bind fun z8 =>
  (some (dI d7 z8 3 r5)).bind fun d9 =>
  (isK S6 10 (some this)).bind fun z10 =>
  bindE (Re_number this (some (OPQ + 8)) 5 50 S6 d9) (fun v9 S9 d9 => some (.inr v9, S9, d9)) fun r11 S12 d13 =>
  (isK S12 1 (S6.2.1 z10 3)).bind fun z14 =>
  (some (dI d13 z14 4 r11)).bind fun d15 =>
  (isK S12 10 (some this)).bind fun z16 =>
  bindE (Re_number this (some (OPQ + 9)) 0 9 S12 d15) (fun v9 S9 d9 => some (.inr v9, S9, d9)) fun r17 S18 d19 =>
  (isK S18 1 (S12.2.1 z16 3)).bind fun z20 =>
  (some (dI d19 z20 5 r17)).bind fun d21 =>
  some (.inl (()), S18, d21)
set_option maxHeartbeats 4000000 in
theorem Re_boardLine_fn (this : Nat) (S : Sp) (d : Dt) : FnX yX11_boardLine (ws_ yX11_boardLine cX11_boardLine 1 none) 8 181 [va_rf (some this)] S d rvU "WatchStack$Fault" (Re_boardLine this S d) := by
  refine FnX.ofJ (own := RX11) (lv := [(0, va_rf (some this))]) (by decide +kernel) rfl (by simp [cat_i, cat_l, cat_f, cat_d, rf_cat]) (by simp [lv_args, cat_i, cat_l, cat_f, cat_d, rf_cat]) ?_
  intro X F G hRm hR
  unfold Re_boardLine
  refine JR_aload_n (pc := 0) (k := 0) (i := 0) (o := some this) G rfl rfl dX11_boardLine_0 ?_
  refine JR_ldcSR (pc := 1) (i := 102) (j := 6) G (by decide) (by decide) dX11_boardLine_1 ?_
  refine J_bd (fun z1 hz1 => ?_)
  refine JXV_U (pc := 3) (as := [va_rf (some (OPQ + 6))]) (st' := []) (o := some this) G (Re_needs_fn this (some (OPQ + 6)) S d) (JXC_V (n := 1) G hRm cl_X11 q650 q652 qs7 q153 q653 ⟨rfl, dd_X11_needs⟩ ⟨by decide, by decide⟩ dX11_boardLine_3 hz1 rfl (Nat.le_of_ble_eq_true rfl)) rfl (fun _ _ _ => rfl) (fun _ S2 d3 hd3 => ?_) (fun v9 S9 d9 h9 => JX_out G hR)
  refine JR_aload_n (pc := 6) (k := 0) (i := 0) (o := some this) G rfl rfl dX11_boardLine_6 ?_
  refine J_bd (fun z4 hz4 => ?_)
  refine JR_gR (pc := 7) (k := 3) G cl_X11 in_X11 (by decide) (by decide) rfl (Or.inl rfl) q615 hz4 dX11_boardLine_7 ?_
  refine JR_aload_n (pc := 10) (k := 0) (i := 0) (o := some this) G rfl rfl dX11_boardLine_10 ?_
  refine JR_ldcSR (pc := 11) (i := 104) (j := 7) G (by decide) (by decide) dX11_boardLine_11 ?_
  refine JR_bipush (pc := 13) (v := 20) G (by decide) dX11_boardLine_13 ?_
  refine JR_sipush (pc := 15) (v := 200) G (by decide) dX11_boardLine_15 ?_
  refine JXV_I (pc := 18) (as := [va_rf (some (OPQ + 7)), .int 20, .int 200]) (st' := [va_rf (S2.2.1 z4 3)]) (o := some this) G (Re_number_fn this (some (OPQ + 7)) 20 200 S2 d3) (JXC_V (n := 3) G hRm cl_X11 q783 q785 qs11 q153 q786 ⟨rfl, dd_X11_number⟩ ⟨by decide, by decide⟩ dX11_boardLine_18 hz4 rfl (Nat.le_of_ble_eq_true rfl)) rfl (fun _ _ _ => rfl) (fun r5 S6 d7 hd7 => ?_) (fun v9 S9 d9 h9 => JX_out G hR)
  refine J_bd (fun z8 hz8 => ?_)
  refine JW_pIN (pc := 21) (k := 3) G cl_X1 in_X1 tyX1_ok nmX1 (by decide) (by decide) rfl (Or.inl rfl) rfl q226 rfl rfl hz8 (fun _ => rfl) dX11_boardLine_21 ?_
  refine J_nmD (fun d9 hd9 => ?_)
  refine JR_aload_n (pc := 24) (k := 0) (i := 0) (o := some this) G rfl rfl dX11_boardLine_24 ?_
  refine J_bd (fun z10 hz10 => ?_)
  refine JR_gR (pc := 25) (k := 3) G cl_X11 in_X11 (by decide) (by decide) rfl (Or.inl rfl) q615 hz10 dX11_boardLine_25 ?_
  refine JR_aload_n (pc := 28) (k := 0) (i := 0) (o := some this) G rfl rfl dX11_boardLine_28 ?_
  refine JR_ldcSR (pc := 29) (i := 111) (j := 8) G (by decide) (by decide) dX11_boardLine_29 ?_
  refine JR_iconst (pc := 31) G ci_5 dX11_boardLine_31 ?_
  refine JR_bipush (pc := 32) (v := 50) G (by decide) dX11_boardLine_32 ?_
  refine JXV_I (pc := 34) (as := [va_rf (some (OPQ + 8)), .int 5, .int 50]) (st' := [va_rf (S6.2.1 z10 3)]) (o := some this) G (Re_number_fn this (some (OPQ + 8)) 5 50 S6 d9) (JXC_V (n := 3) G hRm cl_X11 q783 q785 qs11 q153 q786 ⟨rfl, dd_X11_number⟩ ⟨by decide, by decide⟩ dX11_boardLine_34 hz10 rfl (Nat.le_of_ble_eq_true rfl)) rfl (fun _ _ _ => rfl) (fun r11 S12 d13 hd13 => ?_) (fun v9 S9 d9 h9 => JX_out G hR)
  refine J_bd (fun z14 hz14 => ?_)
  refine JW_pIN (pc := 37) (k := 4) G cl_X1 in_X1 tyX1_ok nmX1 (by decide) (by decide) rfl (Or.inl rfl) rfl q229 rfl rfl hz14 (fun _ => rfl) dX11_boardLine_37 ?_
  refine J_nmD (fun d15 hd15 => ?_)
  refine JR_aload_n (pc := 40) (k := 0) (i := 0) (o := some this) G rfl rfl dX11_boardLine_40 ?_
  refine J_bd (fun z16 hz16 => ?_)
  refine JR_gR (pc := 41) (k := 3) G cl_X11 in_X11 (by decide) (by decide) rfl (Or.inl rfl) q615 hz16 dX11_boardLine_41 ?_
  refine JR_aload_n (pc := 44) (k := 0) (i := 0) (o := some this) G rfl rfl dX11_boardLine_44 ?_
  refine JR_ldcSR (pc := 45) (i := 115) (j := 9) G (by decide) (by decide) dX11_boardLine_45 ?_
  refine JR_iconst (pc := 47) G ci_0 dX11_boardLine_47 ?_
  refine JR_bipush (pc := 48) (v := 9) G (by decide) dX11_boardLine_48 ?_
  refine JXV_I (pc := 50) (as := [va_rf (some (OPQ + 9)), .int 0, .int 9]) (st' := [va_rf (S12.2.1 z16 3)]) (o := some this) G (Re_number_fn this (some (OPQ + 9)) 0 9 S12 d15) (JXC_V (n := 3) G hRm cl_X11 q783 q785 qs11 q153 q786 ⟨rfl, dd_X11_number⟩ ⟨by decide, by decide⟩ dX11_boardLine_50 hz16 rfl (Nat.le_of_ble_eq_true rfl)) rfl (fun _ _ _ => rfl) (fun r17 S18 d19 hd19 => ?_) (fun v9 S9 d9 h9 => JX_out G hR)
  refine J_bd (fun z20 hz20 => ?_)
  refine JW_pIN (pc := 53) (k := 5) G cl_X1 in_X1 tyX1_ok nmX1 (by decide) (by decide) rfl (Or.inl rfl) rfl q232 rfl rfl hz20 (fun _ => rfl) dX11_boardLine_53 ?_
  refine J_nmD (fun d21 hd21 => ?_)
  exact JRX_vret (pc := 56) G hR dX11_boardLine_56

def Re_watcherLine_b81 (this : Nat) (s0 : Int32) (s1 : Int32) (s2 : Option Nat) (S : Sp) (d : Dt) : Option ((Unit ⊕ Nat) × Sp × Dt) :=
  (aix S 50 s2 s1).bind fun q18 =>
  (some (dI d q18.1 q18.2 s0)).bind fun d19 =>
  (isK S 10 (some this)).bind fun z20 =>
  (isK S 1 (S.2.1 z20 3)).bind fun z21 =>
  (some (dI d19 z21 6 ((d19.1 z21 6) + 1))).bind fun d22 =>
  some (.inl (()), S, d22)
def Re_watcherLine_b37 (this : Nat) (S : Sp) (d : Dt) : Option ((Unit ⊕ Nat) × Sp × Dt) :=
  (isK S 10 (some this)).bind fun z12 =>
  (isK S 1 (S.2.1 z12 3)).bind fun z13 =>
  if ¬ (d.1 z13 6) = 0 then
    bindE (Re_number this (some (OPQ + 12)) 0 ((d.1 z13 6) - 1) S d) (fun v9 S9 d9 => some (.inr v9, S9, d9)) fun r14 S15 d16 =>
    Re_watcherLine_b81 this r14 (d.1 z13 6) (S.2.1 z13 2) S15 d16
  else
    Re_watcherLine_b81 this ((-1)) (d.1 z13 6) (S.2.1 z13 2) S d
def Re_watcherLine (this : Nat) (S : Sp) (d : Dt) : Option ((Unit ⊕ Nat) × Sp × Dt) :=
  (isK S 10 (some this)).bind fun z1 =>
  (isK S 1 (S.2.1 z1 3)).bind fun z2 =>
  if ¬ (d.1 z2 6) = 3 then
    bind2 (Re_next this S d) fun _ d3 =>
    if ¬ (d3.1 z2 6) = 0 then
      Re_watcherLine_b37 this S d3
    else
      bindE (Re_needs this (some (OPQ + 11)) S d3) (fun v9 S9 d9 => some (.inr v9, S9, d9)) fun _ S4 d5 =>
      Re_watcherLine_b37 this S4 d5
  else
    bind3 (Re_fault this 3 S d) fun r7 S8 d9 =>
    (isK S8 11 r7).bind fun z10 =>
    some (.inr z10, S8, d9)
set_option maxHeartbeats 4000000 in
theorem Re_watcherLine_fn (this : Nat) (S : Sp) (d : Dt) : FnX yX11_watcherLine (ws_ yX11_watcherLine cX11_watcherLine 1 none) 8 181 [va_rf (some this)] S d rvU "WatchStack$Fault" (Re_watcherLine this S d) := by
  refine FnX.ofJ (own := RX11) (lv := [(0, va_rf (some this))]) (by decide +kernel) rfl (by simp [cat_i, cat_l, cat_f, cat_d, rf_cat]) (by simp [lv_args, cat_i, cat_l, cat_f, cat_d, rf_cat]) ?_
  intro X F G hRm hR
  have hRe_watcherLine_b81 : ∀ (s0 : Int32) (s1 : Int32) (s2 : Option Nat) (S : Sp) (d : Dt), J X F Λa S d 81 [(0, va_rf (some this))] [.int s0, .int s1, va_rf s2] (Re_watcherLine_b81 this s0 s1 s2 S d) := by
    intro s0 s1 s2 S d
    unfold Re_watcherLine_b81
    refine J_bd (fun q18 hq18 => ?_)
    refine JW_iastore (pc := 81) G hq18 (fun _ => rfl) dX11_watcherLine_81 ?_
    refine J_nmD (fun d19 hd19 => ?_)
    refine JR_aload_n (pc := 82) (k := 0) (i := 0) (o := some this) G rfl rfl dX11_watcherLine_82 ?_
    refine J_bd (fun z20 hz20 => ?_)
    refine JR_gR (pc := 83) (k := 3) G cl_X11 in_X11 (by decide) (by decide) rfl (Or.inl rfl) q615 hz20 dX11_watcherLine_83 ?_
    refine JR_dup (pc := 86) G (rf_cat _) dX11_watcherLine_86 ?_
    refine J_bd (fun z21 hz21 => ?_)
    refine JR_gIN (pc := 87) (k := 6) G cl_X1 in_X1 (by decide) (by decide) rfl (Or.inl rfl) q236 hz21 dX11_watcherLine_87 ?_
    refine JR_iconst (pc := 90) G ci_1 dX11_watcherLine_90 ?_
    refine JR_iadd (pc := 91) G dX11_watcherLine_91 ?_
    refine JW_pIN (pc := 92) (k := 6) G cl_X1 in_X1 tyX1_ok nmX1 (by decide) (by decide) rfl (Or.inl rfl) rfl q236 rfl rfl hz21 (fun _ => rfl) dX11_watcherLine_92 ?_
    refine J_nmD (fun d22 hd22 => ?_)
    exact JRX_vret (pc := 95) G hR dX11_watcherLine_95
  have hRe_watcherLine_b37 : ∀ (S : Sp) (d : Dt), J X F Λa S d 37 [(0, va_rf (some this))] [] (Re_watcherLine_b37 this S d) := by
    intro S d
    unfold Re_watcherLine_b37
    refine JR_aload_n (pc := 37) (k := 0) (i := 0) (o := some this) G rfl rfl dX11_watcherLine_37 ?_
    refine J_bd (fun z12 hz12 => ?_)
    refine JR_gR (pc := 38) (k := 3) G cl_X11 in_X11 (by decide) (by decide) rfl (Or.inl rfl) q615 hz12 dX11_watcherLine_38 ?_
    refine J_bd (fun z13 hz13 => ?_)
    refine JR_gRN (pc := 41) (k := 2) G cl_X1 in_X1 (by decide) (by decide) rfl (Or.inl rfl) q223 hz13 dX11_watcherLine_41 ?_
    refine JR_aload_n (pc := 44) (k := 0) (i := 0) (o := some this) G rfl rfl dX11_watcherLine_44 ?_
    refine JR_gR (pc := 45) (k := 3) G cl_X11 in_X11 (by decide) (by decide) rfl (Or.inl rfl) q615 hz12 dX11_watcherLine_45 ?_
    refine JR_gIN (pc := 48) (k := 6) G cl_X1 in_X1 (by decide) (by decide) rfl (Or.inl rfl) q236 hz13 dX11_watcherLine_48 ?_
    refine JR_aload_n (pc := 51) (k := 0) (i := 0) (o := some this) G rfl rfl dX11_watcherLine_51 ?_
    refine JR_gR (pc := 52) (k := 3) G cl_X11 in_X11 (by decide) (by decide) rfl (Or.inl rfl) q615 hz12 dX11_watcherLine_52 ?_
    refine JR_gIN (pc := 55) (k := 6) G cl_X1 in_X1 (by decide) (by decide) rfl (Or.inl rfl) q236 hz13 dX11_watcherLine_55 ?_
    refine JR_if_ne (pc := 58) (tgt := 65) G dX11_watcherLine_58 (by decide) (fun c17 => ?_) (fun c17 => ?_)
    · refine JR_aload_n (pc := 65) (k := 0) (i := 0) (o := some this) G rfl rfl dX11_watcherLine_65 ?_
      refine JR_ldcSR (pc := 66) (i := 128) (j := 12) G (by decide) (by decide) dX11_watcherLine_66 ?_
      refine JR_iconst (pc := 68) G ci_0 dX11_watcherLine_68 ?_
      refine JR_aload_n (pc := 69) (k := 0) (i := 0) (o := some this) G rfl rfl dX11_watcherLine_69 ?_
      refine JR_gR (pc := 70) (k := 3) G cl_X11 in_X11 (by decide) (by decide) rfl (Or.inl rfl) q615 hz12 dX11_watcherLine_70 ?_
      refine JR_gIN (pc := 73) (k := 6) G cl_X1 in_X1 (by decide) (by decide) rfl (Or.inl rfl) q236 hz13 dX11_watcherLine_73 ?_
      refine JR_iconst (pc := 76) G ci_1 dX11_watcherLine_76 ?_
      refine JR_isub (pc := 77) G dX11_watcherLine_77 ?_
      refine JXV_I (pc := 78) (as := [va_rf (some (OPQ + 12)), .int 0, .int ((d.1 z13 6) - 1)]) (st' := [.int (d.1 z13 6), va_rf (S.2.1 z13 2)]) (o := some this) G (Re_number_fn this (some (OPQ + 12)) 0 ((d.1 z13 6) - 1) S d) (JXC_V (n := 3) G hRm cl_X11 q783 q785 qs11 q153 q786 ⟨rfl, dd_X11_number⟩ ⟨by decide, by decide⟩ dX11_watcherLine_78 hz12 rfl (Nat.le_of_ble_eq_true rfl)) rfl (fun _ _ _ => rfl) (fun r14 S15 d16 hd16 => ?_) (fun v9 S9 d9 h9 => JX_out G hR)
      exact hRe_watcherLine_b81 r14 (d.1 z13 6) (S.2.1 z13 2) S15 d16
    · refine JR_iconst (pc := 61) G ci_m1 dX11_watcherLine_61 ?_
      refine JR_goto (pc := 62) (tgt := 81) G dX11_watcherLine_62 (by decide) ?_
      exact hRe_watcherLine_b81 ((-1)) (d.1 z13 6) (S.2.1 z13 2) S d
  unfold Re_watcherLine
  refine JR_aload_n (pc := 0) (k := 0) (i := 0) (o := some this) G rfl rfl dX11_watcherLine_0 ?_
  refine J_bd (fun z1 hz1 => ?_)
  refine JR_gR (pc := 1) (k := 3) G cl_X11 in_X11 (by decide) (by decide) rfl (Or.inl rfl) q615 hz1 dX11_watcherLine_1 ?_
  refine J_bd (fun z2 hz2 => ?_)
  refine JR_gIN (pc := 4) (k := 6) G cl_X1 in_X1 (by decide) (by decide) rfl (Or.inl rfl) q236 hz2 dX11_watcherLine_4 ?_
  refine JR_iconst (pc := 7) G ci_3 dX11_watcherLine_7 ?_
  refine JR_icmp_ne (pc := 8) (tgt := 17) G dX11_watcherLine_8 (by decide) (fun c11 => ?_) (fun c11 => ?_)
  · refine JR_aload_n (pc := 17) (k := 0) (i := 0) (o := some this) G rfl rfl dX11_watcherLine_17 ?_
    refine JQV_U (pc := 18) (as := []) (st' := []) (o := some this) G (Re_next_fn this S d) (JC_V (n := 0) G hRm cl_X11 q599 q601 qs3 q153 q602 ⟨rfl, dd_X11_next⟩ ⟨by decide, by decide⟩ dX11_watcherLine_18 hz1 rfl (Nat.le_of_ble_eq_true rfl)) rfl (fun _ _ => rfl) (fun _ d3 hd3 => ?_)
    refine JR_aload_n (pc := 21) (k := 0) (i := 0) (o := some this) G rfl rfl dX11_watcherLine_21 ?_
    refine JR_gR (pc := 22) (k := 3) G cl_X11 in_X11 (by decide) (by decide) rfl (Or.inl rfl) q615 hz1 dX11_watcherLine_22 ?_
    refine JR_gIN (pc := 25) (k := 6) G cl_X1 in_X1 (by decide) (by decide) rfl (Or.inl rfl) q236 hz2 dX11_watcherLine_25 ?_
    refine JR_if_ne (pc := 28) (tgt := 37) G dX11_watcherLine_28 (by decide) (fun c6 => ?_) (fun c6 => ?_)
    · exact hRe_watcherLine_b37 S d3
    · refine JR_aload_n (pc := 31) (k := 0) (i := 0) (o := some this) G rfl rfl dX11_watcherLine_31 ?_
      refine JR_ldcSR (pc := 32) (i := 122) (j := 11) G (by decide) (by decide) dX11_watcherLine_32 ?_
      refine JXV_U (pc := 34) (as := [va_rf (some (OPQ + 11))]) (st' := []) (o := some this) G (Re_needs_fn this (some (OPQ + 11)) S d3) (JXC_V (n := 1) G hRm cl_X11 q650 q652 qs7 q153 q653 ⟨rfl, dd_X11_needs⟩ ⟨by decide, by decide⟩ dX11_watcherLine_34 hz1 rfl (Nat.le_of_ble_eq_true rfl)) rfl (fun _ _ _ => rfl) (fun _ S4 d5 hd5 => ?_) (fun v9 S9 d9 h9 => JX_out G hR)
      exact hRe_watcherLine_b37 S4 d5
  · refine JR_aload_n (pc := 11) (k := 0) (i := 0) (o := some this) G rfl rfl dX11_watcherLine_11 ?_
    refine JR_iconst (pc := 12) G ci_3 dX11_watcherLine_12 ?_
    refine JAV_R (pc := 13) (as := [.int 3]) (st' := []) (o := some this) G (Re_fault_fn this 3 S d) (JC_V (n := 1) G hRm cl_X11 q704 q706 qs9 q153 q707 ⟨rfl, dd_X11_fault⟩ ⟨by decide, by decide⟩ dX11_watcherLine_13 hz1 rfl (Nat.le_of_ble_eq_true rfl)) rfl (fun _ _ _ => rfl) (fun r7 S8 d9 hd9 => ?_)
    refine J_bd (fun z10 hz10 => ?_)
    refine J_stk (st' := [va_rf (some z10)]) (by rw [(isK_at hz10).1]) ?_
    refine JR_athrow (pc := 16) G cl_X12 dX11_watcherLine_16 (isK_s hz10) ?_
    exact JX_out G hR

def Ta_init (this : Nat) (p1 : Int32) (p2 : Int32) (p3 : Int32) (p4 : Int32) (p5 : Int32) (p6 : Int32) (S : Sp) (d : Dt) : Option (Unit × Sp × Dt) :=
  (gn 6).bind fun n1 =>
  bind2 (some (mmNew S (50 + 0, n1) n1, mmNewD S d)) fun S2 d3 =>
  (isK S2 12 (some this)).bind fun z4 =>
  (some (sR S2 z4 6 (some S.1.length))).bind fun S5 =>
  (gn 6).bind fun n6 =>
  bind2 (some (mmNew S5 (50 + 0, n6) n6, mmNewD S5 d3)) fun S7 d8 =>
  (isK S7 12 (some this)).bind fun z9 =>
  (some (sR S7 z9 7 (some S5.1.length))).bind fun S10 =>
  (isK S10 12 (some this)).bind fun z11 =>
  (some (dI d8 z11 0 p1)).bind fun d12 =>
  (some (dI d12 z11 1 p2)).bind fun d13 =>
  (some (dI d13 z11 2 p3)).bind fun d14 =>
  (some (dI d14 z11 3 p4)).bind fun d15 =>
  (some (dI d15 z11 4 p5)).bind fun d16 =>
  (some (dI d16 z11 5 p6)).bind fun d17 =>
  some ((), S10, d17)
set_option maxHeartbeats 4000000 in
theorem Ta_init_fn (this : Nat) (p1 : Int32) (p2 : Int32) (p3 : Int32) (p4 : Int32) (p5 : Int32) (p6 : Int32) (S : Sp) (d : Dt) : Fn yX13_init (ws_ yX13_init cX13_init 7 none) 1 20 [va_rf (some this), .int p1, .int p2, .int p3, .int p4, .int p5, .int p6] S d rvU Λa (Ta_init this p1 p2 p3 p4 p5 p6 S d) := by
  refine Fn.ofJ (own := RX13) (lv := [(0, va_rf (some this)), (1, .int p1), (2, .int p2), (3, .int p3), (4, .int p4), (5, .int p5), (6, .int p6)]) (by decide +kernel) rfl (by simp [cat_i, cat_l, cat_f, cat_d, rf_cat]) (by simp [lv_args, cat_i, cat_l, cat_f, cat_d, rf_cat]) ?_
  intro X F G hRm hR hI
  unfold Ta_init
  refine JR_aload_n (pc := 0) (k := 0) (i := 0) (o := some this) G rfl rfl dX13_init_0 ?_
  refine JR_objInit (pc := 1) G hRm q816 q_oi1 q_oi2 ⟨by decide, by decide⟩ (by decide) dX13_init_1 ?_
  refine JR_aload_n (pc := 4) (k := 0) (i := 0) (o := some this) G rfl rfl dX13_init_4 ?_
  refine JR_bipush (pc := 5) (v := 6) G (by decide) dX13_init_5 ?_
  refine J_bd (fun n1 hn1 => ?_)
  refine JW_newaI (pc := 7) (t := 0) G rfl q263 hn1 (fun _ => rfl) dX13_init_7 ?_
  refine J_nm2 (fun S2 d3 hS2 hd3 => ?_)
  refine J_bd (fun z4 hz4 => ?_)
  refine JW_pRf (pc := 9) (k := 6) G cl_X13 in_X13 tyX13_ok nmX13 (by decide) (by decide) rfl (Or.inl rfl) rfl (hI rfl) rfl q831 hz4 (fun _ => rfl) dX13_init_9 ?_
  refine J_nmS (fun S5 hS5 => ?_)
  refine JR_aload_n (pc := 12) (k := 0) (i := 0) (o := some this) G rfl rfl dX13_init_12 ?_
  refine JR_bipush (pc := 13) (v := 6) G (by decide) dX13_init_13 ?_
  refine J_bd (fun n6 hn6 => ?_)
  refine JW_newaI (pc := 15) (t := 0) G rfl q263 hn6 (fun _ => rfl) dX13_init_15 ?_
  refine J_nm2 (fun S7 d8 hS7 hd8 => ?_)
  refine J_bd (fun z9 hz9 => ?_)
  refine JW_pRf (pc := 17) (k := 7) G cl_X13 in_X13 tyX13_ok nmX13 (by decide) (by decide) rfl (Or.inl rfl) rfl (hI rfl) rfl q833 hz9 (fun _ => rfl) dX13_init_17 ?_
  refine J_nmS (fun S10 hS10 => ?_)
  refine JR_aload_n (pc := 20) (k := 0) (i := 0) (o := some this) G rfl rfl dX13_init_20 ?_
  refine JR_iload_n (pc := 21) (k := 1) (i := 1) G rfl rfl dX13_init_21 ?_
  refine J_bd (fun z11 hz11 => ?_)
  refine JW_pIf (pc := 22) (k := 0) G cl_X13 in_X13 tyX13_ok nmX13 (by decide) (by decide) rfl (Or.inl rfl) rfl (hI rfl) rfl q817 rfl rfl hz11 (fun _ => rfl) dX13_init_22 ?_
  refine J_nmD (fun d12 hd12 => ?_)
  refine JR_aload_n (pc := 25) (k := 0) (i := 0) (o := some this) G rfl rfl dX13_init_25 ?_
  refine JR_iload_n (pc := 26) (k := 2) (i := 2) G rfl rfl dX13_init_26 ?_
  refine JW_pIf (pc := 27) (k := 1) G cl_X13 in_X13 tyX13_ok nmX13 (by decide) (by decide) rfl (Or.inl rfl) rfl (hI rfl) rfl q820 rfl rfl hz11 (fun _ => rfl) dX13_init_27 ?_
  refine J_nmD (fun d13 hd13 => ?_)
  refine JR_aload_n (pc := 30) (k := 0) (i := 0) (o := some this) G rfl rfl dX13_init_30 ?_
  refine JR_iload_n (pc := 31) (k := 3) (i := 3) G rfl rfl dX13_init_31 ?_
  refine JW_pIf (pc := 32) (k := 2) G cl_X13 in_X13 tyX13_ok nmX13 (by decide) (by decide) rfl (Or.inl rfl) rfl (hI rfl) rfl q823 rfl rfl hz11 (fun _ => rfl) dX13_init_32 ?_
  refine J_nmD (fun d14 hd14 => ?_)
  refine JR_aload_n (pc := 35) (k := 0) (i := 0) (o := some this) G rfl rfl dX13_init_35 ?_
  refine JR_iload (pc := 36) (i := 4) G rfl dX13_init_36 ?_
  refine JW_pIf (pc := 38) (k := 3) G cl_X13 in_X13 tyX13_ok nmX13 (by decide) (by decide) rfl (Or.inl rfl) rfl (hI rfl) rfl q825 rfl rfl hz11 (fun _ => rfl) dX13_init_38 ?_
  refine J_nmD (fun d15 hd15 => ?_)
  refine JR_aload_n (pc := 41) (k := 0) (i := 0) (o := some this) G rfl rfl dX13_init_41 ?_
  refine JR_iload (pc := 42) (i := 5) G rfl dX13_init_42 ?_
  refine JW_pIf (pc := 44) (k := 4) G cl_X13 in_X13 tyX13_ok nmX13 (by decide) (by decide) rfl (Or.inl rfl) rfl (hI rfl) rfl q827 rfl rfl hz11 (fun _ => rfl) dX13_init_44 ?_
  refine J_nmD (fun d16 hd16 => ?_)
  refine JR_aload_n (pc := 47) (k := 0) (i := 0) (o := some this) G rfl rfl dX13_init_47 ?_
  refine JR_iload (pc := 48) (i := 6) G rfl dX13_init_48 ?_
  refine JW_pIf (pc := 50) (k := 5) G cl_X13 in_X13 tyX13_ok nmX13 (by decide) (by decide) rfl (Or.inl rfl) rfl (hI rfl) rfl q829 rfl rfl hz11 (fun _ => rfl) dX13_init_50 ?_
  refine J_nmD (fun d17 hd17 => ?_)
  exact JR_vret (pc := 53) G hR dX13_init_53 rfl rfl

def Ja_copyOf_2 (p0 : Option Nat) (p1 : Int32) (p2 : Option Nat) (S : Sp) (d : Dt) : Option ((Option Nat) × Sp × Dt) :=
  (geq p2 (some (OPQ + 300))).bind fun u1 =>
  (gn p1).bind fun n2 =>
  bind2 (some (mmNew S (50 + 8, n2) n2, mmNewD S d)) fun S3 d4 =>
  (aln S3 58 p0).bind fun n5 =>
  (gcp S3 58 p0 (some S.1.length) 0 0 (imin (nI n5) p1)).bind fun q6 =>
  (gel S3 q6.1 (Int32.toNatClampNeg 0) (Int32.toNatClampNeg (imin (nI n5) p1))).bind fun u7 =>
  (some ((S3.1, c2 S3.2.1 q6.1 q6.2 (Int32.toNatClampNeg 0) (Int32.toNatClampNeg 0) (Int32.toNatClampNeg (imin (nI n5) p1)), S3.2.2))).bind fun S8 =>
  some (some S.1.length, S8, d4)
set_option maxHeartbeats 4000000 in
theorem Ja_copyOf_2_fn (p0 : Option Nat) (p1 : Int32) (p2 : Option Nat) (S : Sp) (d : Dt) : Fn yJ13_copyOf_2 (ws_ yJ13_copyOf_2 cJ13_copyOf_2 4 (some (.array (.object "java/lang/Object")))) 1 40 [va_rf p0, .int p1, va_rf p2] S d rvR Λa (Ja_copyOf_2 p0 p1 p2 S d) := by
  refine Fn.ofJ (own := RJ13) (lv := [(0, va_rf p0), (1, .int p1), (2, va_rf p2)]) (by decide +kernel) rfl (by simp [cat_i, cat_l, cat_f, cat_d, rf_cat]) (by simp [lv_args, cat_i, cat_l, cat_f, cat_d, rf_cat]) ?_
  intro X F G hRm hR hI
  unfold Ja_copyOf_2
  refine JR_aload_n (pc := 0) (k := 2) (i := 2) (o := p2) G rfl rfl dJ13_copyOf_2_0 ?_
  refine JR_ldcM (pc := 1) G q913 dJ13_copyOf_2_1 ?_
  refine J_bd (fun u1 hu1 => ?_)
  refine J_stk (st' := [va_rf (some (OPQ + 300)), va_rf (some (OPQ + 300))]) (by rw [geq_at hu1]) ?_
  refine JR_acmp_neE (pc := 3) (tgt := 13) G dJ13_copyOf_2_3 (by decide) ?_
  refine JR_iload_n (pc := 6) (k := 1) (i := 1) G rfl rfl dJ13_copyOf_2_6 ?_
  refine J_bd (fun n2 hn2 => ?_)
  refine JW_newq (pc := 7) (t := 8) G (by decide) rfl q914 (by decide) hn2 (fun _ => rfl) dJ13_copyOf_2_7 ?_
  refine J_nm2 (fun S3 d4 hS3 hd4 => ?_)
  refine JR_goto (pc := 10) (tgt := 24) G dJ13_copyOf_2_10 (by decide) ?_
  refine JR_astore_n (pc := 24) (k := 3) (i := 3) (lv' := [(3, va_rf (some S.1.length)), (0, va_rf p0), (1, .int p1), (2, va_rf p2)]) G rfl (by decide) (by simp [lvS, rf_cat]) dJ13_copyOf_2_24 ?_
  refine JR_aload_n (pc := 25) (k := 0) (i := 0) (o := p0) G rfl rfl dJ13_copyOf_2_25 ?_
  refine JR_iconst (pc := 26) G ci_0 dJ13_copyOf_2_26 ?_
  refine JR_aload_n (pc := 27) (k := 3) (i := 3) (o := some S.1.length) G rfl rfl dJ13_copyOf_2_27 ?_
  refine JR_iconst (pc := 28) G ci_0 dJ13_copyOf_2_28 ?_
  refine JR_aload_n (pc := 29) (k := 0) (i := 0) (o := p0) G rfl rfl dJ13_copyOf_2_29 ?_
  refine J_bd (fun n5 hn5 => ?_)
  refine JR_alen (pc := 30) (t := 8) G (by decide) hn5 dJ13_copyOf_2_30 ?_
  refine JR_iload_n (pc := 31) (k := 1) (i := 1) G rfl rfl dJ13_copyOf_2_31 ?_
  refine JR_min (pc := 32) G hRm q915 q610 q154 q611 ⟨by decide, by decide⟩ (Nat.le_of_ble_eq_true rfl) dJ13_copyOf_2_32 ?_
  refine J_bd (fun q6 hq6 => ?_)
  refine J_bd (fun u7 hu7 => ?_)
  refine JW_copyR (pc := 35) G hRm q916 q918 q917 q165 q2378 q2379 ⟨by decide, by decide⟩ (Nat.le_of_ble_eq_true rfl) hq6 hu7 (fun _ => rfl) dJ13_copyOf_2_35 ?_
  refine J_nmS (fun S8 hS8 => ?_)
  refine JR_aload_n (pc := 38) (k := 3) (i := 3) (o := some S.1.length) G rfl rfl dJ13_copyOf_2_38 ?_
  exact JR_aret (pc := 39) G hR ⟨_, rfl, Or.inr ⟨_, rfl⟩⟩ dJ13_copyOf_2_39 rfl rfl

def Ja_copyOf (p0 : Option Nat) (p1 : Int32) (S : Sp) (d : Dt) : Option ((Option Nat) × Sp × Dt) :=
  (aln S 58 p0).bind fun n1 =>
  bind3 (Ja_copyOf_2 p0 p1 (some (OPQ + 300)) S d) fun r2 S3 d4 =>
  some (r2, S3, d4)
set_option maxHeartbeats 4000000 in
theorem Ja_copyOf_fn (p0 : Option Nat) (p1 : Int32) (S : Sp) (d : Dt) : Fn yJ13_copyOf (ws_ yJ13_copyOf cJ13_copyOf 2 (some (.array (.object "java/lang/Object")))) 2 63 [va_rf p0, .int p1] S d rvR Λa (Ja_copyOf p0 p1 S d) := by
  refine Fn.ofJ (own := RJ13) (lv := [(0, va_rf p0), (1, .int p1)]) (by decide +kernel) rfl (by simp [cat_i, cat_l, cat_f, cat_d, rf_cat]) (by simp [lv_args, cat_i, cat_l, cat_f, cat_d, rf_cat]) ?_
  intro X F G hRm hR hI
  unfold Ja_copyOf
  refine JR_aload_n (pc := 0) (k := 0) (i := 0) (o := p0) G rfl rfl dJ13_copyOf_0 ?_
  refine JR_iload_n (pc := 1) (k := 1) (i := 1) G rfl rfl dJ13_copyOf_1 ?_
  refine JR_aload_n (pc := 2) (k := 0) (i := 0) (o := p0) G rfl rfl dJ13_copyOf_2 ?_
  refine J_bd (fun n1 hn1 => ?_)
  refine JR_getC (pc := 3) G hRm q888 q2388 q889 q909 ⟨by decide, by decide⟩ (Nat.le_of_ble_eq_true rfl) hn1 dJ13_copyOf_3 ?_
  refine JAS_R (pc := 6) (as := [va_rf p0, .int p1, va_rf (some (OPQ + 300))]) (st' := []) G (Ja_copyOf_2_fn p0 p1 (some (OPQ + 300)) S d) (JC_S (n := 3) G hRm q910 q911 q164 q912 dd_J13_copyOf_2 ⟨by decide, by decide⟩ dJ13_copyOf_6 rfl (Nat.le_of_ble_eq_true rfl)) rfl (fun _ _ _ => rfl) (fun r2 S3 d4 hd4 => ?_)
  exact JR_aret (pc := 9) G hR ⟨_, rfl, Or.inr ⟨_, rfl⟩⟩ dJ13_copyOf_9 rfl rfl

def Jl_grow_2 (this : Nat) (p1 : Int32) (S : Sp) (d : Dt) : Option ((Option Nat) × Sp × Dt) :=
  (isK S 16 (some this)).bind fun z1 =>
  (aln S 58 (S.2.1 z1 1)).bind fun n2 =>
  (some (nI n2)).bind fun x3 =>
  if 0 < x3 then
    (Jas_newLength x3 (p1 - x3) (x3 >>> (1 &&& 31)) S d).bind fun r4 =>
    bind3 (Ja_copyOf (S.2.1 z1 1) r4 S d) fun r5 S6 d7 =>
    (isK S6 16 (some this)).bind fun z8 =>
    (some (sR S6 z8 1 r5)).bind fun S9 =>
    some (r5, S9, d7)
  else
    none
set_option maxHeartbeats 4000000 in
theorem Jl_grow_2_fn (this : Nat) (p1 : Int32) (S : Sp) (d : Dt) : Fn yJ2_grow_2 (ws_ yJ2_grow_2 cJ2_grow_2 4 (some (.array (.object "java/lang/Object")))) 3 84 [va_rf (some this), .int p1] S d rvR Λa (Jl_grow_2 this p1 S d) := by
  refine Fn.ofJ (own := RJ2) (lv := [(0, va_rf (some this)), (1, .int p1)]) (by decide +kernel) rfl (by simp [cat_i, cat_l, cat_f, cat_d, rf_cat]) (by simp [lv_args, cat_i, cat_l, cat_f, cat_d, rf_cat]) ?_
  intro X F G hRm hR hI
  unfold Jl_grow_2
  refine JR_aload_n (pc := 0) (k := 0) (i := 0) (o := some this) G rfl rfl dJ2_grow_2_0 ?_
  refine J_bd (fun z1 hz1 => ?_)
  refine JR_gR (pc := 1) (k := 1) G cl_J2 in_J2 (by decide) (by decide) rfl (Or.inl rfl) q204 hz1 dJ2_grow_2_1 ?_
  refine J_bd (fun n2 hn2 => ?_)
  refine JR_alen (pc := 4) (t := 8) G (by decide) hn2 dJ2_grow_2_4 ?_
  refine J_nm (fun x3 hx3 => ?_)
  refine JR_istore_n (pc := 5) (k := 2) (i := 2) (lv' := [(2, .int x3), (0, va_rf (some this)), (1, .int p1)]) G rfl (by decide) rfl dJ2_grow_2_5 ?_
  refine JR_iload_n (pc := 6) (k := 2) (i := 2) G rfl rfl dJ2_grow_2_6 ?_
  refine JR_if_gt (pc := 7) (tgt := 20) G dJ2_grow_2_7 (by decide) (fun c10 => ?_) (fun c10 => ?_)
  · refine JR_iload_n (pc := 20) (k := 2) (i := 2) G rfl rfl dJ2_grow_2_20 ?_
    refine JR_iload_n (pc := 21) (k := 1) (i := 1) G rfl rfl dJ2_grow_2_21 ?_
    refine JR_iload_n (pc := 22) (k := 2) (i := 2) G rfl rfl dJ2_grow_2_22 ?_
    refine JR_isub (pc := 23) G dJ2_grow_2_23 ?_
    refine JR_iload_n (pc := 24) (k := 2) (i := 2) G rfl rfl dJ2_grow_2_24 ?_
    refine JR_iconst (pc := 25) G ci_1 dJ2_grow_2_25 ?_
    refine JR_ishr (pc := 26) G dJ2_grow_2_26 ?_
    refine JPS_I (pc := 27) (as := [.int x3, .int (p1 - x3), .int (x3 >>> (1 &&& 31))]) (st' := []) G (Jas_newLength_fn x3 (p1 - x3) (x3 >>> (1 &&& 31)) S d) (JC_S (n := 3) G hRm q875 q876 q163 q877 dd_J12_newLength ⟨by decide, by decide⟩ dJ2_grow_2_27 rfl (Nat.le_of_ble_eq_true rfl)) rfl (fun r4 hr4 => ?_)
    refine JR_istore_n (pc := 30) (k := 3) (i := 3) (lv' := [(3, .int r4), (2, .int x3), (0, va_rf (some this)), (1, .int p1)]) G rfl (by decide) rfl dJ2_grow_2_30 ?_
    refine JR_aload_n (pc := 31) (k := 0) (i := 0) (o := some this) G rfl rfl dJ2_grow_2_31 ?_
    refine JR_aload_n (pc := 32) (k := 0) (i := 0) (o := some this) G rfl rfl dJ2_grow_2_32 ?_
    refine JR_gR (pc := 33) (k := 1) G cl_J2 in_J2 (by decide) (by decide) rfl (Or.inl rfl) q204 hz1 dJ2_grow_2_33 ?_
    refine JR_iload_n (pc := 36) (k := 3) (i := 3) G rfl rfl dJ2_grow_2_36 ?_
    refine JAS_R (pc := 37) (as := [va_rf (S.2.1 z1 1), .int r4]) (st' := [va_rf (some this)]) G (Ja_copyOf_fn (S.2.1 z1 1) r4 S d) (JC_S (n := 2) G hRm q885 q886 q164 q887 dd_J13_copyOf ⟨by decide, by decide⟩ dJ2_grow_2_37 rfl (Nat.le_of_ble_eq_true rfl)) rfl (fun _ _ _ => rfl) (fun r5 S6 d7 hd7 => ?_)
    refine JR_dup_x1 (pc := 40) G (rf_cat _) (rf_cat _) dJ2_grow_2_40 ?_
    refine J_bd (fun z8 hz8 => ?_)
    refine JW_pR (pc := 41) (k := 1) G cl_J2 in_J2 tyJ2_ok nmJ2 (by decide) (by decide) rfl (Or.inl rfl) rfl q204 hz8 (fun _ => rfl) dJ2_grow_2_41 ?_
    refine J_nmS (fun S9 hS9 => ?_)
    exact JR_aret (pc := 44) G hR ⟨_, rfl, Or.inr ⟨_, rfl⟩⟩ dJ2_grow_2_44 rfl rfl
  · exact J_no

def Jl_grow (this : Nat) (S : Sp) (d : Dt) : Option ((Option Nat) × Sp × Dt) :=
  (isK S 16 (some this)).bind fun z1 =>
  bind3 (Jl_grow_2 this ((d.1 z1 2) + 1) S d) fun r2 S3 d4 =>
  some (r2, S3, d4)
set_option maxHeartbeats 4000000 in
theorem Jl_grow_fn (this : Nat) (S : Sp) (d : Dt) : Fn yJ2_grow (ws_ yJ2_grow cJ2_grow 1 (some (.array (.object "java/lang/Object")))) 4 107 [va_rf (some this)] S d rvR Λa (Jl_grow this S d) := by
  refine Fn.ofJ (own := RJ2) (lv := [(0, va_rf (some this))]) (by decide +kernel) rfl (by simp [cat_i, cat_l, cat_f, cat_d, rf_cat]) (by simp [lv_args, cat_i, cat_l, cat_f, cat_d, rf_cat]) ?_
  intro X F G hRm hR hI
  unfold Jl_grow
  refine JR_aload_n (pc := 0) (k := 0) (i := 0) (o := some this) G rfl rfl dJ2_grow_0 ?_
  refine JR_aload_n (pc := 1) (k := 0) (i := 0) (o := some this) G rfl rfl dJ2_grow_1 ?_
  refine J_bd (fun z1 hz1 => ?_)
  refine JR_gI (pc := 2) (k := 2) G cl_J2 in_J2 (by decide) (by decide) rfl (Or.inl rfl) q205 hz1 dJ2_grow_2 ?_
  refine JR_iconst (pc := 5) G ci_1 dJ2_grow_5 ?_
  refine JR_iadd (pc := 6) G dJ2_grow_6 ?_
  refine JAV_R (pc := 7) (as := [.int ((d.1 z1 2) + 1)]) (st' := []) (o := some this) G (Jl_grow_2_fn this ((d.1 z1 2) + 1) S d) (JC_V (n := 1) G hRm cl_J2 q869 q871 qs17 q141 q872 ⟨rfl, dd_J2_grow_2⟩ ⟨by decide, by decide⟩ dJ2_grow_7 hz1 rfl (Nat.le_of_ble_eq_true rfl)) rfl (fun _ _ _ => rfl) (fun r2 S3 d4 hd4 => ?_)
  exact JR_aret (pc := 10) G hR ⟨_, rfl, Or.inr ⟨_, rfl⟩⟩ dJ2_grow_10 rfl rfl

def Jl_add_2_b11 (this : Nat) (p1 : Option Nat) (p3 : Int32) (v2 : Option Nat) (S : Sp) (d : Dt) : Option (Unit × Sp × Dt) :=
  (aix S 58 v2 p3).bind fun q7 =>
  (kTI S p1).bind fun z8 =>
  (some (sR S q7.1 q7.2 p1)).bind fun S9 =>
  (isK S9 16 (some this)).bind fun z10 =>
  (some (dI d z10 2 (p3 + 1))).bind fun d11 =>
  some ((), S9, d11)
def Jl_add_2 (this : Nat) (p1 : Option Nat) (p2 : Option Nat) (p3 : Int32) (S : Sp) (d : Dt) : Option (Unit × Sp × Dt) :=
  (aln S 58 p2).bind fun n1 =>
  if ¬ p3 = (nI n1) then
    Jl_add_2_b11 this p1 p3 p2 S d
  else
    (isK S 16 (some this)).bind fun z2 =>
    bind3 (Jl_grow this S d) fun r3 S4 d5 =>
    Jl_add_2_b11 this p1 p3 r3 S4 d5
set_option maxHeartbeats 4000000 in
theorem Jl_add_2_fn (this : Nat) (p1 : Option Nat) (p2 : Option Nat) (p3 : Int32) (S : Sp) (d : Dt) : Fn yJ2_add_2 (ws_ yJ2_add_2 cJ2_add_2 4 none) 5 127 [va_rf (some this), va_rf p1, va_rf p2, .int p3] S d rvU Λa (Jl_add_2 this p1 p2 p3 S d) := by
  refine Fn.ofJ (own := RJ2) (lv := [(0, va_rf (some this)), (1, va_rf p1), (2, va_rf p2), (3, .int p3)]) (by decide +kernel) rfl (by simp [cat_i, cat_l, cat_f, cat_d, rf_cat]) (by simp [lv_args, cat_i, cat_l, cat_f, cat_d, rf_cat]) ?_
  intro X F G hRm hR hI
  have hJl_add_2_b11 : ∀ (v2 : Option Nat) (S : Sp) (d : Dt), J X F Λa S d 11 [(0, va_rf (some this)), (1, va_rf p1), (2, va_rf v2), (3, .int p3)] [] (Jl_add_2_b11 this p1 p3 v2 S d) := by
    intro v2 S d
    unfold Jl_add_2_b11
    refine JR_aload_n (pc := 11) (k := 2) (i := 2) (o := v2) G rfl rfl dJ2_add_2_11 ?_
    refine JR_iload_n (pc := 12) (k := 3) (i := 3) G rfl rfl dJ2_add_2_12 ?_
    refine JR_aload_n (pc := 13) (k := 1) (i := 1) (o := p1) G rfl rfl dJ2_add_2_13 ?_
    refine J_bd (fun q7 hq7 => ?_)
    refine J_bd (fun z8 hz8 => ?_)
    refine JW_aastTI (pc := 14) G q2378 q2379 hz8 hq7 (fun _ => rfl) dJ2_add_2_14 ?_
    refine J_nmS (fun S9 hS9 => ?_)
    refine JR_aload_n (pc := 15) (k := 0) (i := 0) (o := some this) G rfl rfl dJ2_add_2_15 ?_
    refine JR_iload_n (pc := 16) (k := 3) (i := 3) G rfl rfl dJ2_add_2_16 ?_
    refine JR_iconst (pc := 17) G ci_1 dJ2_add_2_17 ?_
    refine JR_iadd (pc := 18) G dJ2_add_2_18 ?_
    refine J_bd (fun z10 hz10 => ?_)
    refine JW_pI (pc := 19) (k := 2) G cl_J2 in_J2 tyJ2_ok nmJ2 (by decide) (by decide) rfl (Or.inl rfl) rfl q205 rfl rfl hz10 (fun _ => rfl) dJ2_add_2_19 ?_
    refine J_nmD (fun d11 hd11 => ?_)
    exact JR_vret (pc := 22) G hR dJ2_add_2_22 rfl rfl
  unfold Jl_add_2
  refine JR_iload_n (pc := 0) (k := 3) (i := 3) G rfl rfl dJ2_add_2_0 ?_
  refine JR_aload_n (pc := 1) (k := 2) (i := 2) (o := p2) G rfl rfl dJ2_add_2_1 ?_
  refine J_bd (fun n1 hn1 => ?_)
  refine JR_alen (pc := 2) (t := 8) G (by decide) hn1 dJ2_add_2_2 ?_
  refine JR_icmp_ne (pc := 3) (tgt := 11) G dJ2_add_2_3 (by decide) (fun c6 => ?_) (fun c6 => ?_)
  · exact hJl_add_2_b11 p2 S d
  · refine JR_aload_n (pc := 6) (k := 0) (i := 0) (o := some this) G rfl rfl dJ2_add_2_6 ?_
    refine J_bd (fun z2 hz2 => ?_)
    refine JAV_R (pc := 7) (as := []) (st' := []) (o := some this) G (Jl_grow_fn this S d) (JC_V (n := 0) G hRm cl_J2 q865 q867 qs16 q141 q868 ⟨rfl, dd_J2_grow⟩ ⟨by decide, by decide⟩ dJ2_add_2_7 hz2 rfl (Nat.le_of_ble_eq_true rfl)) rfl (fun _ _ _ => rfl) (fun r3 S4 d5 hd5 => ?_)
    refine JR_astore_n (pc := 10) (k := 2) (i := 2) (lv' := [(2, va_rf r3), (0, va_rf (some this)), (1, va_rf p1), (3, .int p3)]) G rfl (by decide) (by simp [lvS, rf_cat]) dJ2_add_2_10 ?_
    refine J_sub [1, 2, 0, 3] rfl ?_
    exact hJl_add_2_b11 r3 S4 d5

def Jl_add (this : Nat) (p1 : Option Nat) (S : Sp) (d : Dt) : Option (Int32 × Sp × Dt) :=
  (isK S 16 (some this)).bind fun z1 =>
  (some (dI d z1 0 ((d.1 z1 0) + 1))).bind fun d2 =>
  bind3 (Jl_add_2 this p1 (S.2.1 z1 1) (d2.1 z1 2) S d2) fun _ S3 d4 =>
  some (1, S3, d4)
set_option maxHeartbeats 4000000 in
theorem Jl_add_fn (this : Nat) (p1 : Option Nat) (S : Sp) (d : Dt) : Fn yJ2_add (ws_ yJ2_add cJ2_add 2 (some .boolean)) 6 150 [va_rf (some this), va_rf p1] S d rvI Λa (Jl_add this p1 S d) := by
  refine Fn.ofJ (own := RJ2) (lv := [(0, va_rf (some this)), (1, va_rf p1)]) (by decide +kernel) rfl (by simp [cat_i, cat_l, cat_f, cat_d, rf_cat]) (by simp [lv_args, cat_i, cat_l, cat_f, cat_d, rf_cat]) ?_
  intro X F G hRm hR hI
  unfold Jl_add
  refine JR_aload_n (pc := 0) (k := 0) (i := 0) (o := some this) G rfl rfl dJ2_add_0 ?_
  refine JR_dup (pc := 1) G (rf_cat _) dJ2_add_1 ?_
  refine J_bd (fun z1 hz1 => ?_)
  refine JR_gI (pc := 2) (k := 0) G cl_J2 in_J2 (by decide) (by decide) rfl (Or.inr q208) q207 hz1 dJ2_add_2 ?_
  refine JR_iconst (pc := 5) G ci_1 dJ2_add_5 ?_
  refine JR_iadd (pc := 6) G dJ2_add_6 ?_
  refine JW_pI (pc := 7) (k := 0) G cl_J2 in_J2 tyJ2_ok nmJ2 (by decide) (by decide) rfl (Or.inr q208) rfl q207 rfl rfl hz1 (fun _ => rfl) dJ2_add_7 ?_
  refine J_nmD (fun d2 hd2 => ?_)
  refine JR_aload_n (pc := 10) (k := 0) (i := 0) (o := some this) G rfl rfl dJ2_add_10 ?_
  refine JR_aload_n (pc := 11) (k := 1) (i := 1) (o := p1) G rfl rfl dJ2_add_11 ?_
  refine JR_aload_n (pc := 12) (k := 0) (i := 0) (o := some this) G rfl rfl dJ2_add_12 ?_
  refine JR_gR (pc := 13) (k := 1) G cl_J2 in_J2 (by decide) (by decide) rfl (Or.inl rfl) q204 hz1 dJ2_add_13 ?_
  refine JR_aload_n (pc := 16) (k := 0) (i := 0) (o := some this) G rfl rfl dJ2_add_16 ?_
  refine JR_gI (pc := 17) (k := 2) G cl_J2 in_J2 (by decide) (by decide) rfl (Or.inl rfl) q205 hz1 dJ2_add_17 ?_
  refine JAV_U (pc := 20) (as := [va_rf p1, va_rf (S.2.1 z1 1), .int (d2.1 z1 2)]) (st' := []) (o := some this) G (Jl_add_2_fn this p1 (S.2.1 z1 1) (d2.1 z1 2) S d2) (JC_V (n := 3) G hRm cl_J2 q861 q863 qs15 q141 q864 ⟨rfl, dd_J2_add_2⟩ ⟨by decide, by decide⟩ dJ2_add_20 hz1 rfl (Nat.le_of_ble_eq_true rfl)) rfl (fun _ _ _ => rfl) (fun _ S3 d4 hd4 => ?_)
  refine JR_iconst (pc := 23) G ci_1 dJ2_add_23 ?_
  exact JR_zret (pc := 24) G hR dJ2_add_24 (Or.inr rfl) rfl rfl

def Re_taskLine (this : Nat) (S : Sp) (d : Dt) : Option ((Unit ⊕ Nat) × Sp × Dt) :=
  (isK S 10 (some this)).bind fun z1 =>
  (isK S 1 (S.2.1 z1 3)).bind fun z2 =>
  (isK S 16 (S.2.1 z2 0)).bind fun z3 =>
  (Jl_size z3 S d).bind fun r4 =>
  if ¬ r4 = 5 then
    bind2 (Re_next this S d) fun _ d5 =>
    bindE (Re_number this (some (OPQ + 12)) 0 ((d5.1 z2 6) - 1) S d5) (fun v9 S9 d9 => some (.inr v9, S9, d9)) fun r6 S7 d8 =>
    (isK S7 10 (some this)).bind fun z9 =>
    bindE (Re_number this (some (OPQ + 14)) 4 60 S7 d8) (fun v9 S9 d9 => some (.inr v9, S9, d9)) fun r10 S11 d12 =>
    (isK S11 10 (some this)).bind fun z13 =>
    bindE (Re_number this (some (OPQ + 15)) 0 99 S11 d12) (fun v9 S9 d9 => some (.inr v9, S9, d9)) fun r14 S15 d16 =>
    (isK S15 10 (some this)).bind fun z17 =>
    bindE (Re_number this (some (OPQ + 16)) (r14 + 1) 120 S15 d16) (fun v9 S9 d9 => some (.inr v9, S9, d9)) fun r18 S19 d20 =>
    (isK S19 10 (some this)).bind fun z21 =>
    bindE (Re_number this (some (OPQ + 17)) 0 20 S19 d20) (fun v9 S9 d9 => some (.inr v9, S9, d9)) fun r22 S23 d24 =>
    (isK S23 10 (some this)).bind fun z25 =>
    (isK S23 1 (S23.2.1 z25 3)).bind fun z26 =>
    bind2 (some (mmNew S23 (12, 0) 9, mmNewD S23 d24)) fun S27 d28 =>
    (isK S27 10 (some this)).bind fun z29 =>
    bindE (Re_number this (some (OPQ + 18)) r22 40 S27 d28) (fun v9 S9 d9 => some (.inr v9, S9, d9)) fun r30 S31 d32 =>
    bind3 (Ta_init S23.1.length r6 r10 r14 r18 r22 r30 S31 d32) fun _ S33 d34 =>
    (isK S33 16 (S23.2.1 z26 0)).bind fun z35 =>
    bind3 (Jl_add z35 (some S23.1.length) S33 d34) fun r36 S37 d38 =>
    some (.inl (()), S37, d38)
  else
    bind3 (Re_fault this 3 S d) fun r39 S40 d41 =>
    (isK S40 11 r39).bind fun z42 =>
    some (.inr z42, S40, d41)
set_option maxHeartbeats 4000000 in
theorem Re_taskLine_fn (this : Nat) (S : Sp) (d : Dt) : FnX yX11_taskLine (ws_ yX11_taskLine cX11_taskLine 6 none) 8 181 [va_rf (some this)] S d rvU "WatchStack$Fault" (Re_taskLine this S d) := by
  refine FnX.ofJ (own := RX11) (lv := [(0, va_rf (some this))]) (by decide +kernel) rfl (by simp [cat_i, cat_l, cat_f, cat_d, rf_cat]) (by simp [lv_args, cat_i, cat_l, cat_f, cat_d, rf_cat]) ?_
  intro X F G hRm hR
  unfold Re_taskLine
  refine JR_aload_n (pc := 0) (k := 0) (i := 0) (o := some this) G rfl rfl dX11_taskLine_0 ?_
  refine J_bd (fun z1 hz1 => ?_)
  refine JR_gR (pc := 1) (k := 3) G cl_X11 in_X11 (by decide) (by decide) rfl (Or.inl rfl) q615 hz1 dX11_taskLine_1 ?_
  refine J_bd (fun z2 hz2 => ?_)
  refine JR_gRN (pc := 4) (k := 0) G cl_X1 in_X1 (by decide) (by decide) rfl (Or.inl rfl) q218 hz2 dX11_taskLine_4 ?_
  refine J_bd (fun z3 hz3 => ?_)
  refine J_stk (st' := [va_rf (some z3)]) (by rw [(isK_at hz3).1]) ?_
  refine JPV_I (pc := 7) (as := []) (st' := []) (o := some z3) G (Jl_size_fn z3 S d) (JC_V (n := 0) G hRm cl_J2 q805 q428 q429 q141 q430 ⟨rfl, dd_J2_size⟩ ⟨by decide, by decide⟩ dX11_taskLine_7 (isK_s hz3) rfl (Nat.le_of_ble_eq_true rfl)) rfl (fun r4 hr4 => ?_)
  refine JR_iconst (pc := 10) G ci_5 dX11_taskLine_10 ?_
  refine JR_icmp_ne (pc := 11) (tgt := 20) G dX11_taskLine_11 (by decide) (fun c43 => ?_) (fun c43 => ?_)
  · refine JR_aload_n (pc := 20) (k := 0) (i := 0) (o := some this) G rfl rfl dX11_taskLine_20 ?_
    refine JQV_U (pc := 21) (as := []) (st' := []) (o := some this) G (Re_next_fn this S d) (JC_V (n := 0) G hRm cl_X11 q599 q601 qs3 q153 q602 ⟨rfl, dd_X11_next⟩ ⟨by decide, by decide⟩ dX11_taskLine_21 hz1 rfl (Nat.le_of_ble_eq_true rfl)) rfl (fun _ _ => rfl) (fun _ d5 hd5 => ?_)
    refine JR_aload_n (pc := 24) (k := 0) (i := 0) (o := some this) G rfl rfl dX11_taskLine_24 ?_
    refine JR_ldcSR (pc := 25) (i := 128) (j := 12) G (by decide) (by decide) dX11_taskLine_25 ?_
    refine JR_iconst (pc := 27) G ci_0 dX11_taskLine_27 ?_
    refine JR_aload_n (pc := 28) (k := 0) (i := 0) (o := some this) G rfl rfl dX11_taskLine_28 ?_
    refine JR_gR (pc := 29) (k := 3) G cl_X11 in_X11 (by decide) (by decide) rfl (Or.inl rfl) q615 hz1 dX11_taskLine_29 ?_
    refine JR_gIN (pc := 32) (k := 6) G cl_X1 in_X1 (by decide) (by decide) rfl (Or.inl rfl) q236 hz2 dX11_taskLine_32 ?_
    refine JR_iconst (pc := 35) G ci_1 dX11_taskLine_35 ?_
    refine JR_isub (pc := 36) G dX11_taskLine_36 ?_
    refine JXV_I (pc := 37) (as := [va_rf (some (OPQ + 12)), .int 0, .int ((d5.1 z2 6) - 1)]) (st' := []) (o := some this) G (Re_number_fn this (some (OPQ + 12)) 0 ((d5.1 z2 6) - 1) S d5) (JXC_V (n := 3) G hRm cl_X11 q783 q785 qs11 q153 q786 ⟨rfl, dd_X11_number⟩ ⟨by decide, by decide⟩ dX11_taskLine_37 hz1 rfl (Nat.le_of_ble_eq_true rfl)) rfl (fun _ _ _ => rfl) (fun r6 S7 d8 hd8 => ?_) (fun v9 S9 d9 h9 => JX_out G hR)
    refine JR_istore_n (pc := 40) (k := 1) (i := 1) (lv' := [(1, .int r6), (0, va_rf (some this))]) G rfl (by decide) rfl dX11_taskLine_40 ?_
    refine JR_aload_n (pc := 41) (k := 0) (i := 0) (o := some this) G rfl rfl dX11_taskLine_41 ?_
    refine JR_ldcSR (pc := 42) (i := 139) (j := 14) G (by decide) (by decide) dX11_taskLine_42 ?_
    refine JR_iconst (pc := 44) G ci_4 dX11_taskLine_44 ?_
    refine JR_bipush (pc := 45) (v := 60) G (by decide) dX11_taskLine_45 ?_
    refine J_bd (fun z9 hz9 => ?_)
    refine JXV_I (pc := 47) (as := [va_rf (some (OPQ + 14)), .int 4, .int 60]) (st' := []) (o := some this) G (Re_number_fn this (some (OPQ + 14)) 4 60 S7 d8) (JXC_V (n := 3) G hRm cl_X11 q783 q785 qs11 q153 q786 ⟨rfl, dd_X11_number⟩ ⟨by decide, by decide⟩ dX11_taskLine_47 hz9 rfl (Nat.le_of_ble_eq_true rfl)) rfl (fun _ _ _ => rfl) (fun r10 S11 d12 hd12 => ?_) (fun v9 S9 d9 h9 => JX_out G hR)
    refine JR_istore_n (pc := 50) (k := 2) (i := 2) (lv' := [(2, .int r10), (1, .int r6), (0, va_rf (some this))]) G rfl (by decide) rfl dX11_taskLine_50 ?_
    refine JR_aload_n (pc := 51) (k := 0) (i := 0) (o := some this) G rfl rfl dX11_taskLine_51 ?_
    refine JR_ldcSR (pc := 52) (i := 141) (j := 15) G (by decide) (by decide) dX11_taskLine_52 ?_
    refine JR_iconst (pc := 54) G ci_0 dX11_taskLine_54 ?_
    refine JR_bipush (pc := 55) (v := 99) G (by decide) dX11_taskLine_55 ?_
    refine J_bd (fun z13 hz13 => ?_)
    refine JXV_I (pc := 57) (as := [va_rf (some (OPQ + 15)), .int 0, .int 99]) (st' := []) (o := some this) G (Re_number_fn this (some (OPQ + 15)) 0 99 S11 d12) (JXC_V (n := 3) G hRm cl_X11 q783 q785 qs11 q153 q786 ⟨rfl, dd_X11_number⟩ ⟨by decide, by decide⟩ dX11_taskLine_57 hz13 rfl (Nat.le_of_ble_eq_true rfl)) rfl (fun _ _ _ => rfl) (fun r14 S15 d16 hd16 => ?_) (fun v9 S9 d9 h9 => JX_out G hR)
    refine JR_istore_n (pc := 60) (k := 3) (i := 3) (lv' := [(3, .int r14), (2, .int r10), (1, .int r6), (0, va_rf (some this))]) G rfl (by decide) rfl dX11_taskLine_60 ?_
    refine JR_aload_n (pc := 61) (k := 0) (i := 0) (o := some this) G rfl rfl dX11_taskLine_61 ?_
    refine JR_ldcSR (pc := 62) (i := 143) (j := 16) G (by decide) (by decide) dX11_taskLine_62 ?_
    refine JR_iload_n (pc := 64) (k := 3) (i := 3) G rfl rfl dX11_taskLine_64 ?_
    refine JR_iconst (pc := 65) G ci_1 dX11_taskLine_65 ?_
    refine JR_iadd (pc := 66) G dX11_taskLine_66 ?_
    refine JR_bipush (pc := 67) (v := 120) G (by decide) dX11_taskLine_67 ?_
    refine J_bd (fun z17 hz17 => ?_)
    refine JXV_I (pc := 69) (as := [va_rf (some (OPQ + 16)), .int (r14 + 1), .int 120]) (st' := []) (o := some this) G (Re_number_fn this (some (OPQ + 16)) (r14 + 1) 120 S15 d16) (JXC_V (n := 3) G hRm cl_X11 q783 q785 qs11 q153 q786 ⟨rfl, dd_X11_number⟩ ⟨by decide, by decide⟩ dX11_taskLine_69 hz17 rfl (Nat.le_of_ble_eq_true rfl)) rfl (fun _ _ _ => rfl) (fun r18 S19 d20 hd20 => ?_) (fun v9 S9 d9 h9 => JX_out G hR)
    refine JR_istore (pc := 72) (i := 4) (lv' := [(4, .int r18), (3, .int r14), (2, .int r10), (1, .int r6), (0, va_rf (some this))]) G (by decide) rfl dX11_taskLine_72 ?_
    refine JR_aload_n (pc := 74) (k := 0) (i := 0) (o := some this) G rfl rfl dX11_taskLine_74 ?_
    refine JR_ldcSR (pc := 75) (i := 145) (j := 17) G (by decide) (by decide) dX11_taskLine_75 ?_
    refine JR_iconst (pc := 77) G ci_0 dX11_taskLine_77 ?_
    refine JR_bipush (pc := 78) (v := 20) G (by decide) dX11_taskLine_78 ?_
    refine J_bd (fun z21 hz21 => ?_)
    refine JXV_I (pc := 80) (as := [va_rf (some (OPQ + 17)), .int 0, .int 20]) (st' := []) (o := some this) G (Re_number_fn this (some (OPQ + 17)) 0 20 S19 d20) (JXC_V (n := 3) G hRm cl_X11 q783 q785 qs11 q153 q786 ⟨rfl, dd_X11_number⟩ ⟨by decide, by decide⟩ dX11_taskLine_80 hz21 rfl (Nat.le_of_ble_eq_true rfl)) rfl (fun _ _ _ => rfl) (fun r22 S23 d24 hd24 => ?_) (fun v9 S9 d9 h9 => JX_out G hR)
    refine JR_istore (pc := 83) (i := 5) (lv' := [(5, .int r22), (4, .int r18), (3, .int r14), (2, .int r10), (1, .int r6), (0, va_rf (some this))]) G (by decide) rfl dX11_taskLine_83 ?_
    refine JR_aload_n (pc := 85) (k := 0) (i := 0) (o := some this) G rfl rfl dX11_taskLine_85 ?_
    refine J_bd (fun z25 hz25 => ?_)
    refine JR_gR (pc := 86) (k := 3) G cl_X11 in_X11 (by decide) (by decide) rfl (Or.inl rfl) q615 hz25 dX11_taskLine_86 ?_
    refine J_bd (fun z26 hz26 => ?_)
    refine JR_gRN (pc := 89) (k := 0) G cl_X1 in_X1 (by decide) (by decide) rfl (Or.inl rfl) q218 hz26 dX11_taskLine_89 ?_
    refine JW_new (pc := 92) G cl_X13 in_X13 tyX13_ok (by decide) lg_X13 q810 q811 q162 (fun _ => rfl) dX11_taskLine_92 ?_
    refine J_nm2 (fun S27 d28 hS27 hd28 => ?_)
    refine JR_dup (pc := 95) G (rf_cat _) dX11_taskLine_95 ?_
    refine JR_iload_n (pc := 96) (k := 1) (i := 1) G rfl rfl dX11_taskLine_96 ?_
    refine JR_iload_n (pc := 97) (k := 2) (i := 2) G rfl rfl dX11_taskLine_97 ?_
    refine JR_iload_n (pc := 98) (k := 3) (i := 3) G rfl rfl dX11_taskLine_98 ?_
    refine JR_iload (pc := 99) (i := 4) G rfl dX11_taskLine_99 ?_
    refine JR_iload (pc := 101) (i := 5) G rfl dX11_taskLine_101 ?_
    refine JR_aload_n (pc := 103) (k := 0) (i := 0) (o := some this) G rfl rfl dX11_taskLine_103 ?_
    refine JR_ldcSR (pc := 104) (i := 149) (j := 18) G (by decide) (by decide) dX11_taskLine_104 ?_
    refine JR_iload (pc := 106) (i := 5) G rfl dX11_taskLine_106 ?_
    refine JR_bipush (pc := 108) (v := 40) G (by decide) dX11_taskLine_108 ?_
    refine J_bd (fun z29 hz29 => ?_)
    refine JXV_I (pc := 110) (as := [va_rf (some (OPQ + 18)), .int r22, .int 40]) (st' := [.int r22, .int r18, .int r14, .int r10, .int r6, va_rf (some S23.1.length), va_rf (some S23.1.length), va_rf (S23.2.1 z26 0)]) (o := some this) G (Re_number_fn this (some (OPQ + 18)) r22 40 S27 d28) (JXC_Vs (n := 3) G hRm cl_X11 q783 q785 qs11 q153 q786 ⟨rfl, dd_X11_number⟩ ⟨by decide, by decide⟩ dX11_taskLine_110 hz29 rfl (by simp [cat_i, rf_cat])) rfl (fun _ _ _ => rfl) (fun r30 S31 d32 hd32 => ?_) (fun v9 S9 d9 h9 => JX_out G hR)
    refine JAV_U (pc := 113) (as := [.int r6, .int r10, .int r14, .int r18, .int r22, .int r30]) (st' := [va_rf (some S23.1.length), va_rf (S23.2.1 z26 0)]) (o := some S23.1.length) G (Ta_init_fn S23.1.length r6 r10 r14 r18 r22 r30 S31 d32) (JC_I (n := 6) G hRm q813 q814 q162 q815 rfl dd_X13_init ⟨by decide, by decide⟩ dX11_taskLine_113 rfl (Nat.le_of_ble_eq_true rfl)) rfl (fun _ _ _ => rfl) (fun _ S33 d34 hd34 => ?_)
    refine J_bd (fun z35 hz35 => ?_)
    refine J_stk (st' := [va_rf (some S23.1.length), va_rf (some z35)]) (by rw [(isK_at hz35).1]) ?_
    refine JAV_I (pc := 116) (as := [va_rf (some S23.1.length)]) (st' := []) (o := some z35) G (Jl_add_fn z35 (some S23.1.length) S33 d34) (JC_V (n := 1) G hRm cl_J2 q857 q858 q859 q141 q860 ⟨rfl, dd_J2_add⟩ ⟨by decide, by decide⟩ dX11_taskLine_116 (isK_s hz35) rfl (Nat.le_of_ble_eq_true rfl)) rfl (fun _ _ _ => rfl) (fun r36 S37 d38 hd38 => ?_)
    refine JR_pop (pc := 119) G rfl dX11_taskLine_119 ?_
    exact JRX_vret (pc := 120) G hR dX11_taskLine_120
  · refine JR_aload_n (pc := 14) (k := 0) (i := 0) (o := some this) G rfl rfl dX11_taskLine_14 ?_
    refine JR_iconst (pc := 15) G ci_3 dX11_taskLine_15 ?_
    refine JAV_R (pc := 16) (as := [.int 3]) (st' := []) (o := some this) G (Re_fault_fn this 3 S d) (JC_V (n := 1) G hRm cl_X11 q704 q706 qs9 q153 q707 ⟨rfl, dd_X11_fault⟩ ⟨by decide, by decide⟩ dX11_taskLine_16 hz1 rfl (Nat.le_of_ble_eq_true rfl)) rfl (fun _ _ _ => rfl) (fun r39 S40 d41 hd41 => ?_)
    refine J_bd (fun z42 hz42 => ?_)
    refine J_stk (st' := [va_rf (some z42)]) (by rw [(isK_at hz42).1]) ?_
    refine JR_athrow (pc := 19) G cl_X12 dX11_taskLine_19 (isK_s hz42) ?_
    exact JX_out G hR

def Jl_isEmpty (this : Nat) (S : Sp) (d : Dt) : Option Int32 :=
  (isK S 16 (some this)).bind fun z1 =>
  if ¬ (d.1 z1 2) = 0 then
    some 0
  else
    some 1
set_option maxHeartbeats 4000000 in
theorem Jl_isEmpty_fn (this : Nat) (S : Sp) (d : Dt) : Fn yJ2_isEmpty (ws_ yJ2_isEmpty cJ2_isEmpty 1 (some .boolean)) 0 0 [va_rf (some this)] S d rvI Λp (Jl_isEmpty this S d) := by
  refine Fn.ofJ (own := RJ2) (lv := [(0, va_rf (some this))]) (by decide +kernel) rfl (by simp [cat_i, cat_l, cat_f, cat_d, rf_cat]) (by simp [lv_args, cat_i, cat_l, cat_f, cat_d, rf_cat]) ?_
  intro X F G hRm hR hI
  unfold Jl_isEmpty
  refine JR_aload_n (pc := 0) (k := 0) (i := 0) (o := some this) G rfl rfl dJ2_isEmpty_0 ?_
  refine J_bd (fun z1 hz1 => ?_)
  refine JR_gI (pc := 1) (k := 2) G cl_J2 in_J2 (by decide) (by decide) rfl (Or.inl rfl) q205 hz1 dJ2_isEmpty_1 ?_
  refine JR_if_ne (pc := 4) (tgt := 11) G dJ2_isEmpty_4 (by decide) (fun c2 => ?_) (fun c2 => ?_)
  · refine JR_iconst (pc := 11) G ci_0 dJ2_isEmpty_11 ?_
    exact JR_zret (pc := 12) G hR dJ2_isEmpty_12 (Or.inl rfl) rfl rfl
  · refine JR_iconst (pc := 7) G ci_1 dJ2_isEmpty_7 ?_
    refine JR_goto (pc := 8) (tgt := 12) G dJ2_isEmpty_8 (by decide) ?_
    exact JR_zret (pc := 12) G hR dJ2_isEmpty_12 (Or.inr rfl) rfl rfl

def Ws_isOn (p0 : Int32) (p1 : Int32) (S : Sp) (d : Dt) : Option Int32 :=
  if ¬ ((p0 >>> (p1 &&& 31)) &&& 1) = 1 then
    some 0
  else
    some 1
set_option maxHeartbeats 4000000 in
theorem Ws_isOn_fn (p0 : Int32) (p1 : Int32) (S : Sp) (d : Dt) : Fn yX0_isOn (ws_ yX0_isOn cX0_isOn 2 (some .boolean)) 0 0 [.int p0, .int p1] S d rvI Λp (Ws_isOn p0 p1 S d) := by
  refine Fn.ofJ (own := RX0) (lv := [(0, .int p0), (1, .int p1)]) (by decide +kernel) rfl (by simp [cat_i, cat_l, cat_f, cat_d, rf_cat]) (by simp [lv_args, cat_i, cat_l, cat_f, cat_d, rf_cat]) ?_
  intro X F G hRm hR hI
  unfold Ws_isOn
  refine JR_iload_n (pc := 0) (k := 0) (i := 0) G rfl rfl dX0_isOn_0 ?_
  refine JR_iload_n (pc := 1) (k := 1) (i := 1) G rfl rfl dX0_isOn_1 ?_
  refine JR_ishr (pc := 2) G dX0_isOn_2 ?_
  refine JR_iconst (pc := 3) G ci_1 dX0_isOn_3 ?_
  refine JR_iand (pc := 4) G dX0_isOn_4 ?_
  refine JR_iconst (pc := 5) G ci_1 dX0_isOn_5 ?_
  refine JR_icmp_ne (pc := 6) (tgt := 13) G dX0_isOn_6 (by decide) (fun c1 => ?_) (fun c1 => ?_)
  · refine JR_iconst (pc := 13) G ci_0 dX0_isOn_13 ?_
    exact JR_zret (pc := 14) G hR dX0_isOn_14 (Or.inl rfl) rfl rfl
  · refine JR_iconst (pc := 9) G ci_1 dX0_isOn_9 ?_
    refine JR_goto (pc := 10) (tgt := 14) G dX0_isOn_10 (by decide) ?_
    exact JR_zret (pc := 14) G hR dX0_isOn_14 (Or.inr rfl) rfl rfl

def Ta_adds_h12 (this : Nat) (p1 : Int32) (p2 : Int32) (S : Sp) : Nat → Int32 → Dt → Option (Unit × Dt)
  | 0, _, _ => none
  | f + 1, v3, d =>
    (isK S 12 (some this)).bind fun z4 =>
    if (d.1 z4 8) ≤ v3 then
      (some (dI d z4 8 ((d.1 z4 8) + 1))).bind fun d5 =>
      some ((), d5)
    else
      (Ws_isOn p2 v3 S d).bind fun r6 =>
      if r6 = 0 then
        Ta_adds_h12 this p1 p2 S f (v3 + 1) d
      else
        (aix S 50 (S.2.1 z4 7) v3).bind fun q7 =>
        (some (dI d q7.1 q7.2 ((d.1 q7.1 q7.2) ||| (1 <<< ((d.1 z4 8) &&& 31))))).bind fun d8 =>
        Ta_adds_h12 this p1 p2 S f (v3 + 1) d8
def Ta_adds (this : Nat) (p1 : Int32) (p2 : Int32) (S : Sp) (d : Dt) : Option (Unit × Dt) :=
  (isK S 12 (some this)).bind fun z1 =>
  (aix S 50 (S.2.1 z1 6) (d.1 z1 8)).bind fun q2 =>
  (some (dI d q2.1 q2.2 p1)).bind fun d3 =>
  Ta_adds_h12 this p1 p2 S FU 0 d3
set_option maxHeartbeats 4000000 in
theorem Ta_adds_fn (this : Nat) (p1 : Int32) (p2 : Int32) (S : Sp) (d : Dt) : Fn yX13_adds (ws_ yX13_adds cX13_adds 4 none) 1 21 [va_rf (some this), .int p1, .int p2] S d rvU Λw (Ta_adds this p1 p2 S d) := by
  refine Fn.ofJ (own := RX13) (lv := [(0, va_rf (some this)), (1, .int p1), (2, .int p2)]) (by decide +kernel) rfl (by simp [cat_i, cat_l, cat_f, cat_d, rf_cat]) (by simp [lv_args, cat_i, cat_l, cat_f, cat_d, rf_cat]) ?_
  intro X F G hRm hR hI
  have hTa_adds_h12 : ∀ (f : Nat) (v3 : Int32) (d : Dt), J X F Λw S d 12 [(0, va_rf (some this)), (1, .int p1), (2, .int p2), (3, .int v3)] [] (Ta_adds_h12 this p1 p2 S f v3 d) := by
    intro  f
    induction f with
    | zero => intro v3 d; exact J_no
    | succ f ih =>
      intro v3 d
      unfold Ta_adds_h12
      refine JR_iload_n (pc := 12) (k := 3) (i := 3) G rfl rfl dX13_adds_12 ?_
      refine JR_aload_n (pc := 13) (k := 0) (i := 0) (o := some this) G rfl rfl dX13_adds_13 ?_
      refine J_bd (fun z4 hz4 => ?_)
      refine JR_gI (pc := 14) (k := 8) G cl_X13 in_X13 (by decide) (by decide) rfl (Or.inl rfl) q835 hz4 dX13_adds_14 ?_
      refine JR_icmp_ge (pc := 17) (tgt := 49) G dX13_adds_17 (by decide) (fun c10 => ?_) (fun c10 => ?_)
      · refine JR_aload_n (pc := 49) (k := 0) (i := 0) (o := some this) G rfl rfl dX13_adds_49 ?_
        refine JR_dup (pc := 50) G (rf_cat _) dX13_adds_50 ?_
        refine JR_gI (pc := 51) (k := 8) G cl_X13 in_X13 (by decide) (by decide) rfl (Or.inl rfl) q835 hz4 dX13_adds_51 ?_
        refine JR_iconst (pc := 54) G ci_1 dX13_adds_54 ?_
        refine JR_iadd (pc := 55) G dX13_adds_55 ?_
        refine JW_pI (pc := 56) (k := 8) G cl_X13 in_X13 tyX13_ok nmX13 (by decide) (by decide) rfl (Or.inl rfl) rfl q835 rfl rfl hz4 (fun _ => rfl) dX13_adds_56 ?_
        refine J_nmD (fun d5 hd5 => ?_)
        exact JR_vret (pc := 59) G hR dX13_adds_59 rfl rfl
      · refine JR_iload_n (pc := 20) (k := 2) (i := 2) G rfl rfl dX13_adds_20 ?_
        refine JR_iload_n (pc := 21) (k := 3) (i := 3) G rfl rfl dX13_adds_21 ?_
        refine JPS_I (pc := 22) (as := [.int p2, .int v3]) (st' := []) G (Ws_isOn_fn p2 v3 S d) (JC_SN (n := 2) G hRm q938 q932 q137 q933 dd_X0_isOn ⟨by decide, by decide⟩ dX13_adds_22 rfl (Nat.le_of_ble_eq_true rfl)) rfl (fun r6 hr6 => ?_)
        refine JR_if_eq (pc := 25) (tgt := 43) G dX13_adds_25 (by decide) (fun c9 => ?_) (fun c9 => ?_)
        · refine JR_iinc (pc := 43) (i := 3) (v := v3 + 1) (lv' := [(3, .int (v3 + 1)), (0, va_rf (some this)), (1, .int p1), (2, .int p2)]) G rfl (congrArg (fun z => v3 + z) (by decide)) (by decide) rfl dX13_adds_43 ?_
          refine JR_goto (pc := 46) (tgt := 12) G dX13_adds_46 (by decide) ?_
          refine J_sub [1, 2, 3, 0] rfl ?_
          exact ih (v3 + 1) d
        · refine JR_aload_n (pc := 28) (k := 0) (i := 0) (o := some this) G rfl rfl dX13_adds_28 ?_
          refine JR_gR (pc := 29) (k := 7) G cl_X13 in_X13 (by decide) (by decide) rfl (Or.inl rfl) q833 hz4 dX13_adds_29 ?_
          refine JR_iload_n (pc := 32) (k := 3) (i := 3) G rfl rfl dX13_adds_32 ?_
          refine JR_dup2 (pc := 33) G rfl (rf_cat _) dX13_adds_33 ?_
          refine J_bd (fun q7 hq7 => ?_)
          refine JR_iaload (pc := 34) G hq7 dX13_adds_34 ?_
          refine JR_iconst (pc := 35) G ci_1 dX13_adds_35 ?_
          refine JR_aload_n (pc := 36) (k := 0) (i := 0) (o := some this) G rfl rfl dX13_adds_36 ?_
          refine JR_gI (pc := 37) (k := 8) G cl_X13 in_X13 (by decide) (by decide) rfl (Or.inl rfl) q835 hz4 dX13_adds_37 ?_
          refine JR_ishl (pc := 40) G dX13_adds_40 ?_
          refine JR_ior (pc := 41) G dX13_adds_41 ?_
          refine JW_iastore (pc := 42) G hq7 (fun _ => rfl) dX13_adds_42 ?_
          refine J_nmD (fun d8 hd8 => ?_)
          refine JR_iinc (pc := 43) (i := 3) (v := v3 + 1) (lv' := [(3, .int (v3 + 1)), (0, va_rf (some this)), (1, .int p1), (2, .int p2)]) G rfl (congrArg (fun z => v3 + z) (by decide)) (by decide) rfl dX13_adds_43 ?_
          refine JR_goto (pc := 46) (tgt := 12) G dX13_adds_46 (by decide) ?_
          refine J_sub [1, 2, 3, 0] rfl ?_
          exact ih (v3 + 1) d8
  unfold Ta_adds
  refine JR_aload_n (pc := 0) (k := 0) (i := 0) (o := some this) G rfl rfl dX13_adds_0 ?_
  refine J_bd (fun z1 hz1 => ?_)
  refine JR_gR (pc := 1) (k := 6) G cl_X13 in_X13 (by decide) (by decide) rfl (Or.inl rfl) q831 hz1 dX13_adds_1 ?_
  refine JR_aload_n (pc := 4) (k := 0) (i := 0) (o := some this) G rfl rfl dX13_adds_4 ?_
  refine JR_gI (pc := 5) (k := 8) G cl_X13 in_X13 (by decide) (by decide) rfl (Or.inl rfl) q835 hz1 dX13_adds_5 ?_
  refine JR_iload_n (pc := 8) (k := 1) (i := 1) G rfl rfl dX13_adds_8 ?_
  refine J_bd (fun q2 hq2 => ?_)
  refine JW_iastore (pc := 9) G hq2 (fun _ => rfl) dX13_adds_9 ?_
  refine J_nmD (fun d3 hd3 => ?_)
  refine JR_iconst (pc := 10) G ci_0 dX13_adds_10 ?_
  refine JR_istore_n (pc := 11) (k := 3) (i := 3) (lv' := [(3, .int 0), (0, va_rf (some this)), (1, .int p1), (2, .int p2)]) G rfl (by decide) rfl dX13_adds_11 ?_
  refine J_sub [1, 2, 3, 0] rfl ?_
  exact hTa_adds_h12 FU 0 d3

def Re_nodeLine_b155 (this : Nat) (v1 : Option Nat) (v2 : Int32) (v3 : Int32) (S : Sp) (d : Dt) : Option ((Unit ⊕ Nat) × Sp × Dt) :=
  (isK S 12 v1).bind fun z27 =>
  bind2 (Ta_adds z27 v2 v3 S d) fun _ d28 =>
  some (.inl (()), S, d28)
def Re_nodeLine_b131 (this : Nat) (k87 : (Option Nat) → Int32 → Int32 → Sp → Dt → Option ((Unit ⊕ Nat) × Sp × Dt)) (v1 : Option Nat) (v2 : Int32) (v3 : Int32) (S : Sp) (d : Dt) : Option ((Unit ⊕ Nat) × Sp × Dt) :=
  (isK S 12 v1).bind fun z40 =>
  (isK S 10 (some this)).bind fun z41 =>
  bindE (Re_number_2 this 0 ((d.1 z40 8) - 1) S d) (fun v9 S9 d9 => some (.inr v9, S9, d9)) fun r42 S43 d44 =>
  (some (v3 ||| (1 <<< (r42 &&& 31)))).bind fun x45 =>
  (isK S43 10 (some this)).bind fun z46 =>
  if (d44.1 z46 6) = 2 then
    k87 v1 v2 x45 S43 d44
  else
    Re_nodeLine_b155 this v1 v2 x45 S43 d44
def Re_nodeLine_h87 (this : Nat) : Nat → (Option Nat) → Int32 → Int32 → Sp → Dt → Option ((Unit ⊕ Nat) × Sp × Dt)
  | 0, _, _, _, _, _ => none
  | f + 1, v1, v2, v3, S, d =>
    (isK S 10 (some this)).bind fun z29 =>
    if ¬ (d.1 z29 6) = 2 then
      Re_nodeLine_b131 this (Re_nodeLine_h87 this f) v1 v2 v3 S d
    else
      (isK S 12 v1).bind fun z30 =>
      (Ws_in (Int32.toInt64 (d.1 z29 7)) 0 (Int32.toInt64 ((d.1 z30 8) - 1)) S d).bind fun r31 =>
      if r31 = 0 then
        Re_nodeLine_b131 this (Re_nodeLine_h87 this f) v1 v2 v3 S d
      else
        (Ws_isOn v3 (d.1 z29 7) S d).bind fun r32 =>
        if r32 = 0 then
          Re_nodeLine_b131 this (Re_nodeLine_h87 this f) v1 v2 v3 S d
        else
          bind3 (Re_fault this 2 S d) fun r33 S34 d35 =>
          (isK S34 11 r33).bind fun z36 =>
          some (.inr z36, S34, d35)
def Re_nodeLine (this : Nat) (S : Sp) (d : Dt) : Option ((Unit ⊕ Nat) × Sp × Dt) :=
  (isK S 10 (some this)).bind fun z1 =>
  (isK S 1 (S.2.1 z1 3)).bind fun z2 =>
  (isK S 16 (S.2.1 z2 0)).bind fun z3 =>
  (Jl_isEmpty z3 S d).bind fun r4 =>
  if r4 = 0 then
    (Jl_size z3 S d).bind fun r5 =>
    (Jl_get z3 (r5 - 1) S d).bind fun r6 =>
    (isK S 12 r6).bind fun z7 =>
    if ¬ (d.1 z7 8) = 6 then
      bind2 (Re_next this S d) fun _ d8 =>
      bindE (Re_number_2 this 1 9 S d8) (fun v9 S9 d9 => some (.inr v9, S9, d9)) fun r9 S10 d11 =>
      (isK S10 12 (some z7)).bind fun z12 =>
      if (d11.1 z12 8) ≤ 0 then
        Re_nodeLine_b155 this (some z7) r9 0 S10 d11
      else
        (isK S10 10 (some this)).bind fun z13 =>
        bindE (Re_needs this (some (OPQ + 20)) S10 d11) (fun v9 S9 d9 => some (.inr v9, S9, d9)) fun _ S14 d15 =>
        Re_nodeLine_h87 this FU (some z7) r9 0 S14 d15
    else
      bind3 (Re_fault this 3 S d) fun r17 S18 d19 =>
      (isK S18 11 r17).bind fun z20 =>
      some (.inr z20, S18, d19)
  else
    bind3 (Re_fault this 1 S d) fun r22 S23 d24 =>
    (isK S23 11 r22).bind fun z25 =>
    some (.inr z25, S23, d24)
set_option maxHeartbeats 4000000 in
theorem Re_nodeLine_fn (this : Nat) (S : Sp) (d : Dt) : FnX yX11_nodeLine (ws_ yX11_nodeLine cX11_nodeLine 4 none) 7 158 [va_rf (some this)] S d rvU "WatchStack$Fault" (Re_nodeLine this S d) := by
  refine FnX.ofJ (own := RX11) (lv := [(0, va_rf (some this))]) (by decide +kernel) rfl (by simp [cat_i, cat_l, cat_f, cat_d, rf_cat]) (by simp [lv_args, cat_i, cat_l, cat_f, cat_d, rf_cat]) ?_
  intro X F G hRm hR
  have hRe_nodeLine_b155 : ∀ (v1 : Option Nat) (v2 : Int32) (v3 : Int32) (S : Sp) (d : Dt), J X F Λa S d 155 [(0, va_rf (some this)), (1, va_rf v1), (2, .int v2), (3, .int v3)] [] (Re_nodeLine_b155 this v1 v2 v3 S d) := by
    intro v1 v2 v3 S d
    unfold Re_nodeLine_b155
    refine JR_aload_n (pc := 155) (k := 1) (i := 1) (o := v1) G rfl rfl dX11_nodeLine_155 ?_
    refine JR_iload_n (pc := 156) (k := 2) (i := 2) G rfl rfl dX11_nodeLine_156 ?_
    refine JR_iload_n (pc := 157) (k := 3) (i := 3) G rfl rfl dX11_nodeLine_157 ?_
    refine J_bd (fun z27 hz27 => ?_)
    refine J_stk (st' := [.int v3, .int v2, va_rf (some z27)]) (by rw [(isK_at hz27).1]) ?_
    refine JQV_U (pc := 158) (as := [.int v2, .int v3]) (st' := []) (o := some z27) G (Ta_adds_fn z27 v2 v3 S d) (JC_V (n := 2) G hRm cl_X13 q934 q935 q936 q162 q937 ⟨rfl, dd_X13_adds⟩ ⟨by decide, by decide⟩ dX11_nodeLine_158 (isK_s hz27) rfl (Nat.le_of_ble_eq_true rfl)) rfl (fun _ _ => rfl) (fun _ d28 hd28 => ?_)
    exact JRX_vret (pc := 161) G hR dX11_nodeLine_161
  have hRe_nodeLine_b131 : ∀ (k87 : (Option Nat) → Int32 → Int32 → Sp → Dt → Option ((Unit ⊕ Nat) × Sp × Dt)) (hk87 : ∀ (v1 : Option Nat) (v2 : Int32) (v3 : Int32) (S : Sp) (d : Dt), J X F Λa S d 87 [(0, va_rf (some this)), (1, va_rf v1), (2, .int v2), (3, .int v3)] [] (k87 v1 v2 v3 S d)) (v1 : Option Nat) (v2 : Int32) (v3 : Int32) (S : Sp) (d : Dt), J X F Λa S d 131 [(0, va_rf (some this)), (1, va_rf v1), (2, .int v2), (3, .int v3)] [] (Re_nodeLine_b131 this k87 v1 v2 v3 S d) := by
    intro k87 hk87 v1 v2 v3 S d
    unfold Re_nodeLine_b131
    refine JR_iload_n (pc := 131) (k := 3) (i := 3) G rfl rfl dX11_nodeLine_131 ?_
    refine JR_iconst (pc := 132) G ci_1 dX11_nodeLine_132 ?_
    refine JR_aload_n (pc := 133) (k := 0) (i := 0) (o := some this) G rfl rfl dX11_nodeLine_133 ?_
    refine JR_iconst (pc := 134) G ci_0 dX11_nodeLine_134 ?_
    refine JR_aload_n (pc := 135) (k := 1) (i := 1) (o := v1) G rfl rfl dX11_nodeLine_135 ?_
    refine J_bd (fun z40 hz40 => ?_)
    refine JR_gIN (pc := 136) (k := 8) G cl_X13 in_X13 (by decide) (by decide) rfl (Or.inl rfl) q836 hz40 dX11_nodeLine_136 ?_
    refine JR_iconst (pc := 139) G ci_1 dX11_nodeLine_139 ?_
    refine JR_isub (pc := 140) G dX11_nodeLine_140 ?_
    refine J_bd (fun z41 hz41 => ?_)
    refine JXV_I (pc := 141) (as := [.int 0, .int ((d.1 z40 8) - 1)]) (st' := [.int 1, .int v3]) (o := some this) G (Re_number_2_fn this 0 ((d.1 z40 8) - 1) S d) (JXC_V (n := 2) G hRm cl_X11 q787 q789 qs12 q153 q790 ⟨rfl, dd_X11_number_2⟩ ⟨by decide, by decide⟩ dX11_nodeLine_141 hz41 rfl (Nat.le_of_ble_eq_true rfl)) rfl (fun _ _ _ => rfl) (fun r42 S43 d44 hd44 => ?_) (fun v9 S9 d9 h9 => JX_out G hR)
    refine JR_ishl (pc := 144) G dX11_nodeLine_144 ?_
    refine JR_ior (pc := 145) G dX11_nodeLine_145 ?_
    refine J_nm (fun x45 hx45 => ?_)
    refine JR_istore_n (pc := 146) (k := 3) (i := 3) (lv' := [(3, .int x45), (0, va_rf (some this)), (1, va_rf v1), (2, .int v2)]) G rfl (by decide) rfl dX11_nodeLine_146 ?_
    refine JR_aload_n (pc := 147) (k := 0) (i := 0) (o := some this) G rfl rfl dX11_nodeLine_147 ?_
    refine J_bd (fun z46 hz46 => ?_)
    refine JR_gI (pc := 148) (k := 6) G cl_X11 in_X11 (by decide) (by decide) rfl (Or.inl rfl) q618 hz46 dX11_nodeLine_148 ?_
    refine JR_iconst (pc := 151) G ci_2 dX11_nodeLine_151 ?_
    refine JR_icmp_eq (pc := 152) (tgt := 87) G dX11_nodeLine_152 (by decide) (fun c47 => ?_) (fun c47 => ?_)
    · refine J_sub [1, 2, 3, 0] rfl ?_
      exact hk87 v1 v2 x45 S43 d44
    · refine J_sub [1, 2, 3, 0] rfl ?_
      exact hRe_nodeLine_b155 v1 v2 x45 S43 d44
  have hRe_nodeLine_h87 : ∀ (f : Nat) (v1 : Option Nat) (v2 : Int32) (v3 : Int32) (S : Sp) (d : Dt), J X F Λa S d 87 [(0, va_rf (some this)), (1, va_rf v1), (2, .int v2), (3, .int v3)] [] (Re_nodeLine_h87 this f v1 v2 v3 S d) := by
    intro  f
    induction f with
    | zero => intro v1 v2 v3 S d; exact J_no
    | succ f ih =>
      intro v1 v2 v3 S d
      unfold Re_nodeLine_h87
      refine JR_aload_n (pc := 87) (k := 0) (i := 0) (o := some this) G rfl rfl dX11_nodeLine_87 ?_
      refine J_bd (fun z29 hz29 => ?_)
      refine JR_gI (pc := 88) (k := 6) G cl_X11 in_X11 (by decide) (by decide) rfl (Or.inl rfl) q618 hz29 dX11_nodeLine_88 ?_
      refine JR_iconst (pc := 91) G ci_2 dX11_nodeLine_91 ?_
      refine JR_icmp_ne (pc := 92) (tgt := 131) G dX11_nodeLine_92 (by decide) (fun c39 => ?_) (fun c39 => ?_)
      · exact hRe_nodeLine_b131 (Re_nodeLine_h87 this f) ih v1 v2 v3 S d
      · refine JR_aload_n (pc := 95) (k := 0) (i := 0) (o := some this) G rfl rfl dX11_nodeLine_95 ?_
        refine JR_gI (pc := 96) (k := 7) G cl_X11 in_X11 (by decide) (by decide) rfl (Or.inl rfl) q619 hz29 dX11_nodeLine_96 ?_
        refine JR_i2l (pc := 99) G dX11_nodeLine_99 ?_
        refine JR_lconst (pc := 100) G cl_0 dX11_nodeLine_100 ?_
        refine JR_aload_n (pc := 101) (k := 1) (i := 1) (o := v1) G rfl rfl dX11_nodeLine_101 ?_
        refine J_bd (fun z30 hz30 => ?_)
        refine JR_gIN (pc := 102) (k := 8) G cl_X13 in_X13 (by decide) (by decide) rfl (Or.inl rfl) q836 hz30 dX11_nodeLine_102 ?_
        refine JR_iconst (pc := 105) G ci_1 dX11_nodeLine_105 ?_
        refine JR_isub (pc := 106) G dX11_nodeLine_106 ?_
        refine JR_i2l (pc := 107) G dX11_nodeLine_107 ?_
        refine JPS_I (pc := 108) (as := [.long (Int32.toInt64 (d.1 z29 7)), .long 0, .long (Int32.toInt64 ((d.1 z30 8) - 1))]) (st' := []) G (Ws_in_fn (Int32.toInt64 (d.1 z29 7)) 0 (Int32.toInt64 ((d.1 z30 8) - 1)) S d) (JC_SN (n := 3) G hRm q607 q576 q137 q577 dd_X0_in ⟨by decide, by decide⟩ dX11_nodeLine_108 rfl (Nat.le_of_ble_eq_true rfl)) rfl (fun r31 hr31 => ?_)
        refine JR_if_eq (pc := 111) (tgt := 131) G dX11_nodeLine_111 (by decide) (fun c38 => ?_) (fun c38 => ?_)
        · exact hRe_nodeLine_b131 (Re_nodeLine_h87 this f) ih v1 v2 v3 S d
        · refine JR_iload_n (pc := 114) (k := 3) (i := 3) G rfl rfl dX11_nodeLine_114 ?_
          refine JR_aload_n (pc := 115) (k := 0) (i := 0) (o := some this) G rfl rfl dX11_nodeLine_115 ?_
          refine JR_gI (pc := 116) (k := 7) G cl_X11 in_X11 (by decide) (by decide) rfl (Or.inl rfl) q619 hz29 dX11_nodeLine_116 ?_
          refine JPS_I (pc := 119) (as := [.int v3, .int (d.1 z29 7)]) (st' := []) G (Ws_isOn_fn v3 (d.1 z29 7) S d) (JC_SN (n := 2) G hRm q931 q932 q137 q933 dd_X0_isOn ⟨by decide, by decide⟩ dX11_nodeLine_119 rfl (Nat.le_of_ble_eq_true rfl)) rfl (fun r32 hr32 => ?_)
          refine JR_if_eq (pc := 122) (tgt := 131) G dX11_nodeLine_122 (by decide) (fun c37 => ?_) (fun c37 => ?_)
          · exact hRe_nodeLine_b131 (Re_nodeLine_h87 this f) ih v1 v2 v3 S d
          · refine JR_aload_n (pc := 125) (k := 0) (i := 0) (o := some this) G rfl rfl dX11_nodeLine_125 ?_
            refine JR_iconst (pc := 126) G ci_2 dX11_nodeLine_126 ?_
            refine JAV_R (pc := 127) (as := [.int 2]) (st' := []) (o := some this) G (Re_fault_fn this 2 S d) (JC_V (n := 1) G hRm cl_X11 q704 q706 qs9 q153 q707 ⟨rfl, dd_X11_fault⟩ ⟨by decide, by decide⟩ dX11_nodeLine_127 hz29 rfl (Nat.le_of_ble_eq_true rfl)) rfl (fun _ _ _ => rfl) (fun r33 S34 d35 hd35 => ?_)
            refine J_bd (fun z36 hz36 => ?_)
            refine J_stk (st' := [va_rf (some z36)]) (by rw [(isK_at hz36).1]) ?_
            refine JR_athrow (pc := 130) G cl_X12 dX11_nodeLine_130 (isK_s hz36) ?_
            exact JX_out G hR
  unfold Re_nodeLine
  refine JR_aload_n (pc := 0) (k := 0) (i := 0) (o := some this) G rfl rfl dX11_nodeLine_0 ?_
  refine J_bd (fun z1 hz1 => ?_)
  refine JR_gR (pc := 1) (k := 3) G cl_X11 in_X11 (by decide) (by decide) rfl (Or.inl rfl) q615 hz1 dX11_nodeLine_1 ?_
  refine J_bd (fun z2 hz2 => ?_)
  refine JR_gRN (pc := 4) (k := 0) G cl_X1 in_X1 (by decide) (by decide) rfl (Or.inl rfl) q218 hz2 dX11_nodeLine_4 ?_
  refine J_bd (fun z3 hz3 => ?_)
  refine J_stk (st' := [va_rf (some z3)]) (by rw [(isK_at hz3).1]) ?_
  refine JPV_I (pc := 7) (as := []) (st' := []) (o := some z3) G (Jl_isEmpty_fn z3 S d) (JC_V (n := 0) G hRm cl_J2 q925 q926 q927 q141 q928 ⟨rfl, dd_J2_isEmpty⟩ ⟨by decide, by decide⟩ dX11_nodeLine_7 (isK_s hz3) rfl (Nat.le_of_ble_eq_true rfl)) rfl (fun r4 hr4 => ?_)
  refine JR_if_eq (pc := 10) (tgt := 19) G dX11_nodeLine_10 (by decide) (fun c26 => ?_) (fun c26 => ?_)
  · refine JR_aload_n (pc := 19) (k := 0) (i := 0) (o := some this) G rfl rfl dX11_nodeLine_19 ?_
    refine JR_gR (pc := 20) (k := 3) G cl_X11 in_X11 (by decide) (by decide) rfl (Or.inl rfl) q615 hz1 dX11_nodeLine_20 ?_
    refine JR_gRN (pc := 23) (k := 0) G cl_X1 in_X1 (by decide) (by decide) rfl (Or.inl rfl) q218 hz2 dX11_nodeLine_23 ?_
    refine JR_aload_n (pc := 26) (k := 0) (i := 0) (o := some this) G rfl rfl dX11_nodeLine_26 ?_
    refine JR_gR (pc := 27) (k := 3) G cl_X11 in_X11 (by decide) (by decide) rfl (Or.inl rfl) q615 hz1 dX11_nodeLine_27 ?_
    refine JR_gRN (pc := 30) (k := 0) G cl_X1 in_X1 (by decide) (by decide) rfl (Or.inl rfl) q218 hz2 dX11_nodeLine_30 ?_
    refine J_stk (st' := [va_rf (some z3), va_rf (S.2.1 z2 0)]) (by rw [(isK_at hz3).1]) ?_
    refine JPV_I (pc := 33) (as := []) (st' := [va_rf (S.2.1 z2 0)]) (o := some z3) G (Jl_size_fn z3 S d) (JC_V (n := 0) G hRm cl_J2 q805 q428 q429 q141 q430 ⟨rfl, dd_J2_size⟩ ⟨by decide, by decide⟩ dX11_nodeLine_33 (isK_s hz3) rfl (Nat.le_of_ble_eq_true rfl)) rfl (fun r5 hr5 => ?_)
    refine JR_iconst (pc := 36) G ci_1 dX11_nodeLine_36 ?_
    refine JR_isub (pc := 37) G dX11_nodeLine_37 ?_
    refine J_stk (st' := [.int (r5 - 1), va_rf (some z3)]) (by rw [(isK_at hz3).1]) ?_
    refine JPV_R (pc := 38) (as := [.int (r5 - 1)]) (st' := []) (o := some z3) G (Jl_get_fn z3 (r5 - 1) S d) (JC_V (n := 1) G hRm cl_J2 q929 q436 q437 q141 q438 ⟨rfl, dd_J2_get⟩ ⟨by decide, by decide⟩ dX11_nodeLine_38 (isK_s hz3) rfl (Nat.le_of_ble_eq_true rfl)) rfl (fun r6 hr6 => ?_)
    refine J_bd (fun z7 hz7 => ?_)
    refine JR_castE (pc := 41) G cl_X13 q810 hz7 dX11_nodeLine_41 ?_
    refine JR_astore_n (pc := 44) (k := 1) (i := 1) (lv' := [(1, va_rf (some z7)), (0, va_rf (some this))]) G rfl (by decide) rfl dX11_nodeLine_44 ?_
    refine JR_aload_n (pc := 45) (k := 1) (i := 1) (o := some z7) G rfl rfl dX11_nodeLine_45 ?_
    refine JR_gIN (pc := 46) (k := 8) G cl_X13 in_X13 (by decide) (by decide) rfl (Or.inl rfl) q836 (isK_s hz7) dX11_nodeLine_46 ?_
    refine JR_bipush (pc := 49) (v := 6) G (by decide) dX11_nodeLine_49 ?_
    refine JR_icmp_ne (pc := 51) (tgt := 60) G dX11_nodeLine_51 (by decide) (fun c21 => ?_) (fun c21 => ?_)
    · refine JR_aload_n (pc := 60) (k := 0) (i := 0) (o := some this) G rfl rfl dX11_nodeLine_60 ?_
      refine JQV_U (pc := 61) (as := []) (st' := []) (o := some this) G (Re_next_fn this S d) (JC_V (n := 0) G hRm cl_X11 q599 q601 qs3 q153 q602 ⟨rfl, dd_X11_next⟩ ⟨by decide, by decide⟩ dX11_nodeLine_61 hz1 rfl (Nat.le_of_ble_eq_true rfl)) rfl (fun _ _ => rfl) (fun _ d8 hd8 => ?_)
      refine JR_aload_n (pc := 64) (k := 0) (i := 0) (o := some this) G rfl rfl dX11_nodeLine_64 ?_
      refine JR_iconst (pc := 65) G ci_1 dX11_nodeLine_65 ?_
      refine JR_bipush (pc := 66) (v := 9) G (by decide) dX11_nodeLine_66 ?_
      refine JXV_I (pc := 68) (as := [.int 1, .int 9]) (st' := []) (o := some this) G (Re_number_2_fn this 1 9 S d8) (JXC_V (n := 2) G hRm cl_X11 q787 q789 qs12 q153 q790 ⟨rfl, dd_X11_number_2⟩ ⟨by decide, by decide⟩ dX11_nodeLine_68 hz1 rfl (Nat.le_of_ble_eq_true rfl)) rfl (fun _ _ _ => rfl) (fun r9 S10 d11 hd11 => ?_) (fun v9 S9 d9 h9 => JX_out G hR)
      refine JR_istore_n (pc := 71) (k := 2) (i := 2) (lv' := [(2, .int r9), (1, va_rf (some z7)), (0, va_rf (some this))]) G rfl (by decide) rfl dX11_nodeLine_71 ?_
      refine JR_iconst (pc := 72) G ci_0 dX11_nodeLine_72 ?_
      refine JR_istore_n (pc := 73) (k := 3) (i := 3) (lv' := [(3, .int 0), (2, .int r9), (1, va_rf (some z7)), (0, va_rf (some this))]) G rfl (by decide) rfl dX11_nodeLine_73 ?_
      refine JR_aload_n (pc := 74) (k := 1) (i := 1) (o := some z7) G rfl rfl dX11_nodeLine_74 ?_
      refine J_bd (fun z12 hz12 => ?_)
      refine JR_gIN (pc := 75) (k := 8) G cl_X13 in_X13 (by decide) (by decide) rfl (Or.inl rfl) q836 hz12 dX11_nodeLine_75 ?_
      refine JR_if_le (pc := 78) (tgt := 155) G dX11_nodeLine_78 (by decide) (fun c16 => ?_) (fun c16 => ?_)
      · refine J_sub [3, 2, 1, 0] rfl ?_
        exact hRe_nodeLine_b155 (some z7) r9 0 S10 d11
      · refine JR_aload_n (pc := 81) (k := 0) (i := 0) (o := some this) G rfl rfl dX11_nodeLine_81 ?_
        refine JR_ldcSR (pc := 82) (i := 169) (j := 20) G (by decide) (by decide) dX11_nodeLine_82 ?_
        refine J_bd (fun z13 hz13 => ?_)
        refine JXV_U (pc := 84) (as := [va_rf (some (OPQ + 20))]) (st' := []) (o := some this) G (Re_needs_fn this (some (OPQ + 20)) S10 d11) (JXC_V (n := 1) G hRm cl_X11 q650 q652 qs7 q153 q653 ⟨rfl, dd_X11_needs⟩ ⟨by decide, by decide⟩ dX11_nodeLine_84 hz13 rfl (Nat.le_of_ble_eq_true rfl)) rfl (fun _ _ _ => rfl) (fun _ S14 d15 hd15 => ?_) (fun v9 S9 d9 h9 => JX_out G hR)
        refine J_sub [3, 2, 1, 0] rfl ?_
        exact hRe_nodeLine_h87 FU (some z7) r9 0 S14 d15
    · refine JR_aload_n (pc := 54) (k := 0) (i := 0) (o := some this) G rfl rfl dX11_nodeLine_54 ?_
      refine JR_iconst (pc := 55) G ci_3 dX11_nodeLine_55 ?_
      refine JAV_R (pc := 56) (as := [.int 3]) (st' := []) (o := some this) G (Re_fault_fn this 3 S d) (JC_V (n := 1) G hRm cl_X11 q704 q706 qs9 q153 q707 ⟨rfl, dd_X11_fault⟩ ⟨by decide, by decide⟩ dX11_nodeLine_56 hz1 rfl (Nat.le_of_ble_eq_true rfl)) rfl (fun _ _ _ => rfl) (fun r17 S18 d19 hd19 => ?_)
      refine J_bd (fun z20 hz20 => ?_)
      refine J_stk (st' := [va_rf (some z20)]) (by rw [(isK_at hz20).1]) ?_
      refine JR_athrow (pc := 59) G cl_X12 dX11_nodeLine_59 (isK_s hz20) ?_
      exact JX_out G hR
  · refine JR_aload_n (pc := 13) (k := 0) (i := 0) (o := some this) G rfl rfl dX11_nodeLine_13 ?_
    refine JR_iconst (pc := 14) G ci_1 dX11_nodeLine_14 ?_
    refine JAV_R (pc := 15) (as := [.int 1]) (st' := []) (o := some this) G (Re_fault_fn this 1 S d) (JC_V (n := 1) G hRm cl_X11 q704 q706 qs9 q153 q707 ⟨rfl, dd_X11_fault⟩ ⟨by decide, by decide⟩ dX11_nodeLine_15 hz1 rfl (Nat.le_of_ble_eq_true rfl)) rfl (fun _ _ _ => rfl) (fun r22 S23 d24 hd24 => ?_)
    refine J_bd (fun z25 hz25 => ?_)
    refine J_stk (st' := [va_rf (some z25)]) (by rw [(isK_at hz25).1]) ?_
    refine JR_athrow (pc := 18) G cl_X12 dX11_nodeLine_18 (isK_s hz25) ?_
    exact JX_out G hR

def Re_kind_h2 (this : Nat) : Nat → Int32 → Sp → Dt → Option ((Int32 ⊕ Nat) × Sp × Dt)
  | 0, _, _, _ => none
  | f + 1, v1, S, d =>
    (isK S 10 (some this)).bind fun z1 =>
    (aln S 59 (S.2.1 z1 0)).bind fun n2 =>
    if (nI n2) ≤ v1 then
      bind3 (Re_fault this 1 S d) fun r3 S4 d5 =>
      (isK S4 11 r3).bind fun z6 =>
      some (.inr z6, S4, d5)
    else
      (aix S 59 (S.2.1 z1 0) v1).bind fun q7 =>
      (Re_is this (S.2.1 q7.1 q7.2) S d).bind fun r8 =>
      if r8 = 0 then
        Re_kind_h2 this f (v1 + 1) S d
      else
        some (.inl v1, S, d)
def Re_kind (this : Nat) (S : Sp) (d : Dt) : Option ((Int32 ⊕ Nat) × Sp × Dt) :=
  Re_kind_h2 this FU 0 S d
set_option maxHeartbeats 4000000 in
theorem Re_kind_fn (this : Nat) (S : Sp) (d : Dt) : FnX yX11_kind (ws_ yX11_kind cX11_kind 2 (some .int)) 6 135 [va_rf (some this)] S d rvI "WatchStack$Fault" (Re_kind this S d) := by
  refine FnX.ofJ (own := RX11) (lv := [(0, va_rf (some this))]) (by decide +kernel) rfl (by simp [cat_i, cat_l, cat_f, cat_d, rf_cat]) (by simp [lv_args, cat_i, cat_l, cat_f, cat_d, rf_cat]) ?_
  intro X F G hRm hR
  have hRe_kind_h2 : ∀ (f : Nat) (v1 : Int32) (S : Sp) (d : Dt), J X F Λa S d 2 [(0, va_rf (some this)), (1, .int v1)] [] (Re_kind_h2 this f v1 S d) := by
    intro  f
    induction f with
    | zero => intro v1 S d; exact J_no
    | succ f ih =>
      intro v1 S d
      unfold Re_kind_h2
      refine JR_iload_n (pc := 2) (k := 1) (i := 1) G rfl rfl dX11_kind_2 ?_
      refine JR_aload_n (pc := 3) (k := 0) (i := 0) (o := some this) G rfl rfl dX11_kind_3 ?_
      refine J_bd (fun z1 hz1 => ?_)
      refine JR_gR (pc := 4) (k := 0) G cl_X11 in_X11 (by decide) (by decide) rfl (Or.inl rfl) q612 hz1 dX11_kind_4 ?_
      refine J_bd (fun n2 hn2 => ?_)
      refine JR_alen (pc := 7) (t := 9) G (by decide) hn2 dX11_kind_7 ?_
      refine JR_icmp_ge (pc := 8) (tgt := 32) G dX11_kind_8 (by decide) (fun c10 => ?_) (fun c10 => ?_)
      · refine JR_aload_n (pc := 32) (k := 0) (i := 0) (o := some this) G rfl rfl dX11_kind_32 ?_
        refine JR_iconst (pc := 33) G ci_1 dX11_kind_33 ?_
        refine JAV_R (pc := 34) (as := [.int 1]) (st' := []) (o := some this) G (Re_fault_fn this 1 S d) (JC_V (n := 1) G hRm cl_X11 q704 q706 qs9 q153 q707 ⟨rfl, dd_X11_fault⟩ ⟨by decide, by decide⟩ dX11_kind_34 hz1 rfl (Nat.le_of_ble_eq_true rfl)) rfl (fun _ _ _ => rfl) (fun r3 S4 d5 hd5 => ?_)
        refine J_bd (fun z6 hz6 => ?_)
        refine J_stk (st' := [va_rf (some z6)]) (by rw [(isK_at hz6).1]) ?_
        refine JR_athrow (pc := 37) G cl_X12 dX11_kind_37 (isK_s hz6) ?_
        exact JX_out G hR
      · refine JR_aload_n (pc := 11) (k := 0) (i := 0) (o := some this) G rfl rfl dX11_kind_11 ?_
        refine JR_aload_n (pc := 12) (k := 0) (i := 0) (o := some this) G rfl rfl dX11_kind_12 ?_
        refine JR_gR (pc := 13) (k := 0) G cl_X11 in_X11 (by decide) (by decide) rfl (Or.inl rfl) q612 hz1 dX11_kind_13 ?_
        refine JR_iload_n (pc := 16) (k := 1) (i := 1) G rfl rfl dX11_kind_16 ?_
        refine J_bd (fun q7 hq7 => ?_)
        refine JR_aaload (pc := 17) (t := 9) G (by decide) rfl hq7 dX11_kind_17 ?_
        refine JPV_I (pc := 18) (as := [va_rf (S.2.1 q7.1 q7.2)]) (st' := []) (o := some this) G (Re_is_fn this (S.2.1 q7.1 q7.2) S d) (JC_V (n := 1) G hRm cl_X11 q654 q656 qs8 q153 q657 ⟨rfl, dd_X11_is⟩ ⟨by decide, by decide⟩ dX11_kind_18 hz1 rfl (Nat.le_of_ble_eq_true rfl)) rfl (fun r8 hr8 => ?_)
        refine JR_if_eq (pc := 21) (tgt := 26) G dX11_kind_21 (by decide) (fun c9 => ?_) (fun c9 => ?_)
        · refine JR_iinc (pc := 26) (i := 1) (v := v1 + 1) (lv' := [(1, .int (v1 + 1)), (0, va_rf (some this))]) G rfl (congrArg (fun z => v1 + z) (by decide)) (by decide) rfl dX11_kind_26 ?_
          refine JR_goto (pc := 29) (tgt := 2) G dX11_kind_29 (by decide) ?_
          refine J_sub [1, 0] rfl ?_
          exact ih (v1 + 1) S d
        · refine JR_iload_n (pc := 24) (k := 1) (i := 1) G rfl rfl dX11_kind_24 ?_
          exact JRX_iret (pc := 25) G hR dX11_kind_25
  unfold Re_kind
  refine JR_iconst (pc := 0) G ci_0 dX11_kind_0 ?_
  refine JR_istore_n (pc := 1) (k := 1) (i := 1) (lv' := [(1, .int 0), (0, va_rf (some this))]) G rfl (by decide) rfl dX11_kind_1 ?_
  refine J_sub [1, 0] rfl ?_
  exact hRe_kind_h2 FU 0 S d

def In_init (this : Nat) (p1 : Int32) (p2 : Int32) (p3 : Int32) (p4 : Int32) (p5 : Int32) (S : Sp) (d : Dt) : Option (Unit × Dt) :=
  (isK S 13 (some this)).bind fun z1 =>
  (some (dI d z1 0 p1)).bind fun d2 =>
  (some (dI d2 z1 1 p2)).bind fun d3 =>
  (some (dI d3 z1 2 p3)).bind fun d4 =>
  (some (dI d4 z1 3 p4)).bind fun d5 =>
  (some (dI d5 z1 4 p5)).bind fun d6 =>
  some ((), d6)
set_option maxHeartbeats 4000000 in
theorem In_init_fn (this : Nat) (p1 : Int32) (p2 : Int32) (p3 : Int32) (p4 : Int32) (p5 : Int32) (S : Sp) (d : Dt) : Fn yX14_init (ws_ yX14_init cX14_init 6 none) 1 20 [va_rf (some this), .int p1, .int p2, .int p3, .int p4, .int p5] S d rvU Λw (In_init this p1 p2 p3 p4 p5 S d) := by
  refine Fn.ofJ (own := RX14) (lv := [(0, va_rf (some this)), (1, .int p1), (2, .int p2), (3, .int p3), (4, .int p4), (5, .int p5)]) (by decide +kernel) rfl (by simp [cat_i, cat_l, cat_f, cat_d, rf_cat]) (by simp [lv_args, cat_i, cat_l, cat_f, cat_d, rf_cat]) ?_
  intro X F G hRm hR hI
  unfold In_init
  refine JR_aload_n (pc := 0) (k := 0) (i := 0) (o := some this) G rfl rfl dX14_init_0 ?_
  refine JR_objInit (pc := 1) G hRm q953 q_oi1 q_oi2 ⟨by decide, by decide⟩ (by decide) dX14_init_1 ?_
  refine JR_aload_n (pc := 4) (k := 0) (i := 0) (o := some this) G rfl rfl dX14_init_4 ?_
  refine JR_iload_n (pc := 5) (k := 1) (i := 1) G rfl rfl dX14_init_5 ?_
  refine J_bd (fun z1 hz1 => ?_)
  refine JW_pIf (pc := 6) (k := 0) G cl_X14 in_X14 tyX14_ok nmX14 (by decide) (by decide) rfl (Or.inl rfl) rfl (hI rfl) rfl q954 rfl rfl hz1 (fun _ => rfl) dX14_init_6 ?_
  refine J_nmD (fun d2 hd2 => ?_)
  refine JR_aload_n (pc := 9) (k := 0) (i := 0) (o := some this) G rfl rfl dX14_init_9 ?_
  refine JR_iload_n (pc := 10) (k := 2) (i := 2) G rfl rfl dX14_init_10 ?_
  refine JW_pIf (pc := 11) (k := 1) G cl_X14 in_X14 tyX14_ok nmX14 (by decide) (by decide) rfl (Or.inl rfl) rfl (hI rfl) rfl q956 rfl rfl hz1 (fun _ => rfl) dX14_init_11 ?_
  refine J_nmD (fun d3 hd3 => ?_)
  refine JR_aload_n (pc := 14) (k := 0) (i := 0) (o := some this) G rfl rfl dX14_init_14 ?_
  refine JR_iload_n (pc := 15) (k := 3) (i := 3) G rfl rfl dX14_init_15 ?_
  refine JW_pIf (pc := 16) (k := 2) G cl_X14 in_X14 tyX14_ok nmX14 (by decide) (by decide) rfl (Or.inl rfl) rfl (hI rfl) rfl q958 rfl rfl hz1 (fun _ => rfl) dX14_init_16 ?_
  refine J_nmD (fun d4 hd4 => ?_)
  refine JR_aload_n (pc := 19) (k := 0) (i := 0) (o := some this) G rfl rfl dX14_init_19 ?_
  refine JR_iload (pc := 20) (i := 4) G rfl dX14_init_20 ?_
  refine JW_pIf (pc := 22) (k := 3) G cl_X14 in_X14 tyX14_ok nmX14 (by decide) (by decide) rfl (Or.inl rfl) rfl (hI rfl) rfl q960 rfl rfl hz1 (fun _ => rfl) dX14_init_22 ?_
  refine J_nmD (fun d5 hd5 => ?_)
  refine JR_aload_n (pc := 25) (k := 0) (i := 0) (o := some this) G rfl rfl dX14_init_25 ?_
  refine JR_iload (pc := 26) (i := 5) G rfl dX14_init_26 ?_
  refine JW_pIf (pc := 28) (k := 4) G cl_X14 in_X14 tyX14_ok nmX14 (by decide) (by decide) rfl (Or.inl rfl) rfl (hI rfl) rfl q962 rfl rfl hz1 (fun _ => rfl) dX14_init_28 ?_
  refine J_nmD (fun d6 hd6 => ?_)
  exact JR_vret (pc := 31) G hR dX14_init_31 rfl rfl

def Re_injectionLine_b228 (this : Nat) (p1 : Int32) (S : Sp) (d : Dt) : Option ((Unit ⊕ Nat) × Sp × Dt) :=
  (isK S 10 (some this)).bind fun z57 =>
  (isK S 1 (S.2.1 z57 3)).bind fun z58 =>
  (some (dI d z58 7 ((d.1 z58 7) + 1))).bind fun d59 =>
  some (.inl (()), S, d59)
def Re_injectionLine_b194 (this : Nat) (p1 : Int32) (v2 : Int32) (v3 : Int32) (s0 : Int32) (S : Sp) (d : Dt) : Option ((Unit ⊕ Nat) × Sp × Dt) :=
  (isK S 10 (some this)).bind fun z60 =>
  (isK S 1 (S.2.1 z60 3)).bind fun z61 =>
  bind2 (some (mmNew S (13, 0) 5, mmNewD S d)) fun S62 d63 =>
  (isK S62 10 (some this)).bind fun z64 =>
  bindE (Re_number this (some (OPQ + 23)) 1 9 S62 d63) (fun v9 S9 d9 => some (.inr v9, S9, d9)) fun r65 S66 d67 =>
  bind2 (In_init S.1.length p1 v2 v3 s0 r65 S66 d67) fun _ d68 =>
  (isK S66 16 (S.2.1 z61 1)).bind fun z69 =>
  bind3 (Jl_add z69 (some S.1.length) S66 d68) fun r70 S71 d72 =>
  Re_injectionLine_b228 this p1 S71 d72
def Re_injectionLine_b131 (this : Nat) (p1 : Int32) (S : Sp) (d : Dt) : Option ((Unit ⊕ Nat) × Sp × Dt) :=
  (isK S 10 (some this)).bind fun z37 =>
  (isK S 1 (S.2.1 z37 3)).bind fun z38 =>
  (isK S 16 (S.2.1 z38 0)).bind fun z39 =>
  (Jl_size z39 S d).bind fun r40 =>
  bindE (Re_number_2 this 0 (r40 - 1) S d) (fun v9 S9 d9 => some (.inr v9, S9, d9)) fun r41 S42 d43 =>
  (isK S42 10 (some this)).bind fun z44 =>
  bindE (Re_number this (some (OPQ + 22)) 0 50 S42 d43) (fun v9 S9 d9 => some (.inr v9, S9, d9)) fun r45 S46 d47 =>
  if ¬ p1 = 4 then
    (isK S46 10 (some this)).bind fun z48 =>
    (isK S46 1 (S46.2.1 z48 3)).bind fun z49 =>
    (isK S46 16 (S46.2.1 z49 0)).bind fun z50 =>
    (Jl_get z50 r41 S46 d47).bind fun r51 =>
    (isK S46 12 r51).bind fun z52 =>
    bindE (Re_number this (some (OPQ + 19)) 0 ((d47.1 z52 8) - 1) S46 d47) (fun v9 S9 d9 => some (.inr v9, S9, d9)) fun r53 S54 d55 =>
    Re_injectionLine_b194 this p1 r41 r45 r53 S54 d55
  else
    Re_injectionLine_b194 this p1 r41 r45 ((-1)) S46 d47
def Re_injectionLine (this : Nat) (p1 : Int32) (S : Sp) (d : Dt) : Option ((Unit ⊕ Nat) × Sp × Dt) :=
  (isK S 10 (some this)).bind fun z1 =>
  (isK S 1 (S.2.1 z1 3)).bind fun z2 =>
  if ¬ (d.1 z2 7) = 8 then
    bind2 (Re_next this S d) fun _ d3 =>
    if ¬ p1 = 5 then
      if ¬ (d3.1 z1 6) = 2 then
        Re_injectionLine_b131 this p1 S d3
      else
        (isK S 16 (S.2.1 z2 0)).bind fun z4 =>
        (Jl_size z4 S d3).bind fun r5 =>
        if r5 ≤ (d3.1 z1 7) then
          Re_injectionLine_b131 this p1 S d3
        else
          (Jl_get z4 (d3.1 z1 7) S d3).bind fun r6 =>
          (isK S 12 r6).bind fun z7 =>
          if ¬ (d3.1 z7 8) = 0 then
            Re_injectionLine_b131 this p1 S d3
          else
            bind3 (Re_fault this 2 S d3) fun r8 S9 d10 =>
            (isK S9 11 r8).bind fun z11 =>
            some (.inr z11, S9, d10)
    else
      bindE (Re_number_2 this 0 ((d3.1 z2 6) - 1) S d3) (fun v9 S9 d9 => some (.inr v9, S9, d9)) fun r15 S16 d17 =>
      (isK S16 10 (some this)).bind fun z18 =>
      (isK S16 1 (S16.2.1 z18 3)).bind fun z19 =>
      bind2 (some (mmNew S16 (13, 0) 5, mmNewD S16 d17)) fun S20 d21 =>
      (isK S20 10 (some this)).bind fun z22 =>
      bindE (Re_number this (some (OPQ + 21)) 0 199 S20 d21) (fun v9 S9 d9 => some (.inr v9, S9, d9)) fun r23 S24 d25 =>
      bind2 (In_init S16.1.length 5 r15 r23 ((-1)) ((-1)) S24 d25) fun _ d26 =>
      (isK S24 16 (S16.2.1 z19 1)).bind fun z27 =>
      bind3 (Jl_add z27 (some S16.1.length) S24 d26) fun r28 S29 d30 =>
      Re_injectionLine_b228 this p1 S29 d30
  else
    bind3 (Re_fault this 3 S d) fun r32 S33 d34 =>
    (isK S33 11 r32).bind fun z35 =>
    some (.inr z35, S33, d34)
set_option maxHeartbeats 4000000 in
theorem Re_injectionLine_fn (this : Nat) (p1 : Int32) (S : Sp) (d : Dt) : FnX yX11_injectionLine (ws_ yX11_injectionLine cX11_injectionLine 5 none) 8 181 [va_rf (some this), .int p1] S d rvU "WatchStack$Fault" (Re_injectionLine this p1 S d) := by
  refine FnX.ofJ (own := RX11) (lv := [(0, va_rf (some this)), (1, .int p1)]) (by decide +kernel) rfl (by simp [cat_i, cat_l, cat_f, cat_d, rf_cat]) (by simp [lv_args, cat_i, cat_l, cat_f, cat_d, rf_cat]) ?_
  intro X F G hRm hR
  have hRe_injectionLine_b228 : ∀ (S : Sp) (d : Dt), J X F Λa S d 228 [(0, va_rf (some this)), (1, .int p1)] [] (Re_injectionLine_b228 this p1 S d) := by
    intro S d
    unfold Re_injectionLine_b228
    refine JR_aload_n (pc := 228) (k := 0) (i := 0) (o := some this) G rfl rfl dX11_injectionLine_228 ?_
    refine J_bd (fun z57 hz57 => ?_)
    refine JR_gR (pc := 229) (k := 3) G cl_X11 in_X11 (by decide) (by decide) rfl (Or.inl rfl) q615 hz57 dX11_injectionLine_229 ?_
    refine JR_dup (pc := 232) G (rf_cat _) dX11_injectionLine_232 ?_
    refine J_bd (fun z58 hz58 => ?_)
    refine JR_gIN (pc := 233) (k := 7) G cl_X1 in_X1 (by decide) (by decide) rfl (Or.inl rfl) q239 hz58 dX11_injectionLine_233 ?_
    refine JR_iconst (pc := 236) G ci_1 dX11_injectionLine_236 ?_
    refine JR_iadd (pc := 237) G dX11_injectionLine_237 ?_
    refine JW_pIN (pc := 238) (k := 7) G cl_X1 in_X1 tyX1_ok nmX1 (by decide) (by decide) rfl (Or.inl rfl) rfl q239 rfl rfl hz58 (fun _ => rfl) dX11_injectionLine_238 ?_
    refine J_nmD (fun d59 hd59 => ?_)
    exact JRX_vret (pc := 241) G hR dX11_injectionLine_241
  have hRe_injectionLine_b194 : ∀ (v2 : Int32) (v3 : Int32) (s0 : Int32) (S : Sp) (d : Dt), J X F Λa S d 194 [(0, va_rf (some this)), (1, .int p1), (2, .int v2), (3, .int v3)] [.int s0] (Re_injectionLine_b194 this p1 v2 v3 s0 S d) := by
    intro v2 v3 s0 S d
    unfold Re_injectionLine_b194
    refine JR_istore (pc := 194) (i := 4) (lv' := [(4, .int s0), (0, va_rf (some this)), (1, .int p1), (2, .int v2), (3, .int v3)]) G (by decide) rfl dX11_injectionLine_194 ?_
    refine JR_aload_n (pc := 196) (k := 0) (i := 0) (o := some this) G rfl rfl dX11_injectionLine_196 ?_
    refine J_bd (fun z60 hz60 => ?_)
    refine JR_gR (pc := 197) (k := 3) G cl_X11 in_X11 (by decide) (by decide) rfl (Or.inl rfl) q615 hz60 dX11_injectionLine_197 ?_
    refine J_bd (fun z61 hz61 => ?_)
    refine JR_gRN (pc := 200) (k := 1) G cl_X1 in_X1 (by decide) (by decide) rfl (Or.inl rfl) q221 hz61 dX11_injectionLine_200 ?_
    refine JW_new (pc := 203) G cl_X14 in_X14 tyX14_ok (by decide) lg_X14 q947 q948 q166 (fun _ => rfl) dX11_injectionLine_203 ?_
    refine J_nm2 (fun S62 d63 hS62 hd63 => ?_)
    refine JR_dup (pc := 206) G (rf_cat _) dX11_injectionLine_206 ?_
    refine JR_iload_n (pc := 207) (k := 1) (i := 1) G rfl rfl dX11_injectionLine_207 ?_
    refine JR_iload_n (pc := 208) (k := 2) (i := 2) G rfl rfl dX11_injectionLine_208 ?_
    refine JR_iload_n (pc := 209) (k := 3) (i := 3) G rfl rfl dX11_injectionLine_209 ?_
    refine JR_iload (pc := 210) (i := 4) G rfl dX11_injectionLine_210 ?_
    refine JR_aload_n (pc := 212) (k := 0) (i := 0) (o := some this) G rfl rfl dX11_injectionLine_212 ?_
    refine JR_ldcSR (pc := 213) (i := 194) (j := 23) G (by decide) (by decide) dX11_injectionLine_213 ?_
    refine JR_iconst (pc := 215) G ci_1 dX11_injectionLine_215 ?_
    refine JR_bipush (pc := 216) (v := 9) G (by decide) dX11_injectionLine_216 ?_
    refine J_bd (fun z64 hz64 => ?_)
    refine JXV_I (pc := 218) (as := [va_rf (some (OPQ + 23)), .int 1, .int 9]) (st' := [.int s0, .int v3, .int v2, .int p1, va_rf (some S.1.length), va_rf (some S.1.length), va_rf (S.2.1 z61 1)]) (o := some this) G (Re_number_fn this (some (OPQ + 23)) 1 9 S62 d63) (JXC_Vs (n := 3) G hRm cl_X11 q783 q785 qs11 q153 q786 ⟨rfl, dd_X11_number⟩ ⟨by decide, by decide⟩ dX11_injectionLine_218 hz64 rfl (by simp [cat_i, rf_cat])) rfl (fun _ _ _ => rfl) (fun r65 S66 d67 hd67 => ?_) (fun v9 S9 d9 h9 => JX_out G hR)
    refine JQV_U (pc := 221) (as := [.int p1, .int v2, .int v3, .int s0, .int r65]) (st' := [va_rf (some S.1.length), va_rf (S.2.1 z61 1)]) (o := some S.1.length) G (In_init_fn S.1.length p1 v2 v3 s0 r65 S66 d67) (JC_I (n := 5) G hRm q950 q951 q166 q952 rfl dd_X14_init ⟨by decide, by decide⟩ dX11_injectionLine_221 rfl (Nat.le_of_ble_eq_true rfl)) rfl (fun _ _ => rfl) (fun _ d68 hd68 => ?_)
    refine J_bd (fun z69 hz69 => ?_)
    refine J_stk (st' := [va_rf (some S.1.length), va_rf (some z69)]) (by rw [(isK_at hz69).1]) ?_
    refine JAV_I (pc := 224) (as := [va_rf (some S.1.length)]) (st' := []) (o := some z69) G (Jl_add_fn z69 (some S.1.length) S66 d68) (JC_V (n := 1) G hRm cl_J2 q857 q858 q859 q141 q860 ⟨rfl, dd_J2_add⟩ ⟨by decide, by decide⟩ dX11_injectionLine_224 (isK_s hz69) rfl (Nat.le_of_ble_eq_true rfl)) rfl (fun _ _ _ => rfl) (fun r70 S71 d72 hd72 => ?_)
    refine JR_pop (pc := 227) G rfl dX11_injectionLine_227 ?_
    refine J_sub [1, 2] rfl ?_
    exact hRe_injectionLine_b228 S71 d72
  have hRe_injectionLine_b131 : ∀ (S : Sp) (d : Dt), J X F Λa S d 131 [(0, va_rf (some this)), (1, .int p1)] [] (Re_injectionLine_b131 this p1 S d) := by
    intro S d
    unfold Re_injectionLine_b131
    refine JR_aload_n (pc := 131) (k := 0) (i := 0) (o := some this) G rfl rfl dX11_injectionLine_131 ?_
    refine JR_iconst (pc := 132) G ci_0 dX11_injectionLine_132 ?_
    refine JR_aload_n (pc := 133) (k := 0) (i := 0) (o := some this) G rfl rfl dX11_injectionLine_133 ?_
    refine J_bd (fun z37 hz37 => ?_)
    refine JR_gR (pc := 134) (k := 3) G cl_X11 in_X11 (by decide) (by decide) rfl (Or.inl rfl) q615 hz37 dX11_injectionLine_134 ?_
    refine J_bd (fun z38 hz38 => ?_)
    refine JR_gRN (pc := 137) (k := 0) G cl_X1 in_X1 (by decide) (by decide) rfl (Or.inl rfl) q218 hz38 dX11_injectionLine_137 ?_
    refine J_bd (fun z39 hz39 => ?_)
    refine J_stk (st' := [va_rf (some z39), .int 0, va_rf (some this)]) (by rw [(isK_at hz39).1]) ?_
    refine JPV_I (pc := 140) (as := []) (st' := [.int 0, va_rf (some this)]) (o := some z39) G (Jl_size_fn z39 S d) (JC_V (n := 0) G hRm cl_J2 q805 q428 q429 q141 q430 ⟨rfl, dd_J2_size⟩ ⟨by decide, by decide⟩ dX11_injectionLine_140 (isK_s hz39) rfl (Nat.le_of_ble_eq_true rfl)) rfl (fun r40 hr40 => ?_)
    refine JR_iconst (pc := 143) G ci_1 dX11_injectionLine_143 ?_
    refine JR_isub (pc := 144) G dX11_injectionLine_144 ?_
    refine JXV_I (pc := 145) (as := [.int 0, .int (r40 - 1)]) (st' := []) (o := some this) G (Re_number_2_fn this 0 (r40 - 1) S d) (JXC_V (n := 2) G hRm cl_X11 q787 q789 qs12 q153 q790 ⟨rfl, dd_X11_number_2⟩ ⟨by decide, by decide⟩ dX11_injectionLine_145 hz37 rfl (Nat.le_of_ble_eq_true rfl)) rfl (fun _ _ _ => rfl) (fun r41 S42 d43 hd43 => ?_) (fun v9 S9 d9 h9 => JX_out G hR)
    refine JR_istore_n (pc := 148) (k := 2) (i := 2) (lv' := [(2, .int r41), (0, va_rf (some this)), (1, .int p1)]) G rfl (by decide) rfl dX11_injectionLine_148 ?_
    refine JR_aload_n (pc := 149) (k := 0) (i := 0) (o := some this) G rfl rfl dX11_injectionLine_149 ?_
    refine JR_ldcSR (pc := 150) (i := 190) (j := 22) G (by decide) (by decide) dX11_injectionLine_150 ?_
    refine JR_iconst (pc := 152) G ci_0 dX11_injectionLine_152 ?_
    refine JR_bipush (pc := 153) (v := 50) G (by decide) dX11_injectionLine_153 ?_
    refine J_bd (fun z44 hz44 => ?_)
    refine JXV_I (pc := 155) (as := [va_rf (some (OPQ + 22)), .int 0, .int 50]) (st' := []) (o := some this) G (Re_number_fn this (some (OPQ + 22)) 0 50 S42 d43) (JXC_V (n := 3) G hRm cl_X11 q783 q785 qs11 q153 q786 ⟨rfl, dd_X11_number⟩ ⟨by decide, by decide⟩ dX11_injectionLine_155 hz44 rfl (Nat.le_of_ble_eq_true rfl)) rfl (fun _ _ _ => rfl) (fun r45 S46 d47 hd47 => ?_) (fun v9 S9 d9 h9 => JX_out G hR)
    refine JR_istore_n (pc := 158) (k := 3) (i := 3) (lv' := [(3, .int r45), (2, .int r41), (0, va_rf (some this)), (1, .int p1)]) G rfl (by decide) rfl dX11_injectionLine_158 ?_
    refine JR_iload_n (pc := 159) (k := 1) (i := 1) G rfl rfl dX11_injectionLine_159 ?_
    refine JR_iconst (pc := 160) G ci_4 dX11_injectionLine_160 ?_
    refine JR_icmp_ne (pc := 161) (tgt := 168) G dX11_injectionLine_161 (by decide) (fun c56 => ?_) (fun c56 => ?_)
    · refine JR_aload_n (pc := 168) (k := 0) (i := 0) (o := some this) G rfl rfl dX11_injectionLine_168 ?_
      refine JR_ldcSR (pc := 169) (i := 192) (j := 19) G (by decide) (by decide) dX11_injectionLine_169 ?_
      refine JR_iconst (pc := 171) G ci_0 dX11_injectionLine_171 ?_
      refine JR_aload_n (pc := 172) (k := 0) (i := 0) (o := some this) G rfl rfl dX11_injectionLine_172 ?_
      refine J_bd (fun z48 hz48 => ?_)
      refine JR_gR (pc := 173) (k := 3) G cl_X11 in_X11 (by decide) (by decide) rfl (Or.inl rfl) q615 hz48 dX11_injectionLine_173 ?_
      refine J_bd (fun z49 hz49 => ?_)
      refine JR_gRN (pc := 176) (k := 0) G cl_X1 in_X1 (by decide) (by decide) rfl (Or.inl rfl) q218 hz49 dX11_injectionLine_176 ?_
      refine JR_iload_n (pc := 179) (k := 2) (i := 2) G rfl rfl dX11_injectionLine_179 ?_
      refine J_bd (fun z50 hz50 => ?_)
      refine J_stk (st' := [.int r41, va_rf (some z50), .int 0, va_rf (some (OPQ + 19)), va_rf (some this)]) (by rw [(isK_at hz50).1]) ?_
      refine JPV_R (pc := 180) (as := [.int r41]) (st' := [.int 0, va_rf (some (OPQ + 19)), va_rf (some this)]) (o := some z50) G (Jl_get_fn z50 r41 S46 d47) (JC_V (n := 1) G hRm cl_J2 q929 q436 q437 q141 q438 ⟨rfl, dd_J2_get⟩ ⟨by decide, by decide⟩ dX11_injectionLine_180 (isK_s hz50) rfl (Nat.le_of_ble_eq_true rfl)) rfl (fun r51 hr51 => ?_)
      refine J_bd (fun z52 hz52 => ?_)
      refine JR_castE (pc := 183) G cl_X13 q810 hz52 dX11_injectionLine_183 ?_
      refine JR_gIN (pc := 186) (k := 8) G cl_X13 in_X13 (by decide) (by decide) rfl (Or.inl rfl) q836 (isK_s hz52) dX11_injectionLine_186 ?_
      refine JR_iconst (pc := 189) G ci_1 dX11_injectionLine_189 ?_
      refine JR_isub (pc := 190) G dX11_injectionLine_190 ?_
      refine JXV_I (pc := 191) (as := [va_rf (some (OPQ + 19)), .int 0, .int ((d47.1 z52 8) - 1)]) (st' := []) (o := some this) G (Re_number_fn this (some (OPQ + 19)) 0 ((d47.1 z52 8) - 1) S46 d47) (JXC_V (n := 3) G hRm cl_X11 q783 q785 qs11 q153 q786 ⟨rfl, dd_X11_number⟩ ⟨by decide, by decide⟩ dX11_injectionLine_191 hz48 rfl (Nat.le_of_ble_eq_true rfl)) rfl (fun _ _ _ => rfl) (fun r53 S54 d55 hd55 => ?_) (fun v9 S9 d9 h9 => JX_out G hR)
      refine J_sub [2, 3, 1, 0] rfl ?_
      exact hRe_injectionLine_b194 r41 r45 r53 S54 d55
    · refine JR_iconst (pc := 164) G ci_m1 dX11_injectionLine_164 ?_
      refine JR_goto (pc := 165) (tgt := 194) G dX11_injectionLine_165 (by decide) ?_
      refine J_sub [2, 3, 1, 0] rfl ?_
      exact hRe_injectionLine_b194 r41 r45 ((-1)) S46 d47
  unfold Re_injectionLine
  refine JR_aload_n (pc := 0) (k := 0) (i := 0) (o := some this) G rfl rfl dX11_injectionLine_0 ?_
  refine J_bd (fun z1 hz1 => ?_)
  refine JR_gR (pc := 1) (k := 3) G cl_X11 in_X11 (by decide) (by decide) rfl (Or.inl rfl) q615 hz1 dX11_injectionLine_1 ?_
  refine J_bd (fun z2 hz2 => ?_)
  refine JR_gIN (pc := 4) (k := 7) G cl_X1 in_X1 (by decide) (by decide) rfl (Or.inl rfl) q239 hz2 dX11_injectionLine_4 ?_
  refine JR_bipush (pc := 7) (v := 8) G (by decide) dX11_injectionLine_7 ?_
  refine JR_icmp_ne (pc := 9) (tgt := 18) G dX11_injectionLine_9 (by decide) (fun c36 => ?_) (fun c36 => ?_)
  · refine JR_aload_n (pc := 18) (k := 0) (i := 0) (o := some this) G rfl rfl dX11_injectionLine_18 ?_
    refine JQV_U (pc := 19) (as := []) (st' := []) (o := some this) G (Re_next_fn this S d) (JC_V (n := 0) G hRm cl_X11 q599 q601 qs3 q153 q602 ⟨rfl, dd_X11_next⟩ ⟨by decide, by decide⟩ dX11_injectionLine_19 hz1 rfl (Nat.le_of_ble_eq_true rfl)) rfl (fun _ _ => rfl) (fun _ d3 hd3 => ?_)
    refine JR_iload_n (pc := 22) (k := 1) (i := 1) G rfl rfl dX11_injectionLine_22 ?_
    refine JR_iconst (pc := 23) G ci_5 dX11_injectionLine_23 ?_
    refine JR_icmp_ne (pc := 24) (tgt := 77) G dX11_injectionLine_24 (by decide) (fun c31 => ?_) (fun c31 => ?_)
    · refine JR_aload_n (pc := 77) (k := 0) (i := 0) (o := some this) G rfl rfl dX11_injectionLine_77 ?_
      refine JR_gI (pc := 78) (k := 6) G cl_X11 in_X11 (by decide) (by decide) rfl (Or.inl rfl) q618 hz1 dX11_injectionLine_78 ?_
      refine JR_iconst (pc := 81) G ci_2 dX11_injectionLine_81 ?_
      refine JR_icmp_ne (pc := 82) (tgt := 131) G dX11_injectionLine_82 (by decide) (fun c14 => ?_) (fun c14 => ?_)
      · exact hRe_injectionLine_b131 S d3
      · refine JR_aload_n (pc := 85) (k := 0) (i := 0) (o := some this) G rfl rfl dX11_injectionLine_85 ?_
        refine JR_gI (pc := 86) (k := 7) G cl_X11 in_X11 (by decide) (by decide) rfl (Or.inl rfl) q619 hz1 dX11_injectionLine_86 ?_
        refine JR_aload_n (pc := 89) (k := 0) (i := 0) (o := some this) G rfl rfl dX11_injectionLine_89 ?_
        refine JR_gR (pc := 90) (k := 3) G cl_X11 in_X11 (by decide) (by decide) rfl (Or.inl rfl) q615 hz1 dX11_injectionLine_90 ?_
        refine JR_gRN (pc := 93) (k := 0) G cl_X1 in_X1 (by decide) (by decide) rfl (Or.inl rfl) q218 hz2 dX11_injectionLine_93 ?_
        refine J_bd (fun z4 hz4 => ?_)
        refine J_stk (st' := [va_rf (some z4), .int (d3.1 z1 7)]) (by rw [(isK_at hz4).1]) ?_
        refine JPV_I (pc := 96) (as := []) (st' := [.int (d3.1 z1 7)]) (o := some z4) G (Jl_size_fn z4 S d3) (JC_V (n := 0) G hRm cl_J2 q805 q428 q429 q141 q430 ⟨rfl, dd_J2_size⟩ ⟨by decide, by decide⟩ dX11_injectionLine_96 (isK_s hz4) rfl (Nat.le_of_ble_eq_true rfl)) rfl (fun r5 hr5 => ?_)
        refine JR_icmp_ge (pc := 99) (tgt := 131) G dX11_injectionLine_99 (by decide) (fun c13 => ?_) (fun c13 => ?_)
        · exact hRe_injectionLine_b131 S d3
        · refine JR_aload_n (pc := 102) (k := 0) (i := 0) (o := some this) G rfl rfl dX11_injectionLine_102 ?_
          refine JR_gR (pc := 103) (k := 3) G cl_X11 in_X11 (by decide) (by decide) rfl (Or.inl rfl) q615 hz1 dX11_injectionLine_103 ?_
          refine JR_gRN (pc := 106) (k := 0) G cl_X1 in_X1 (by decide) (by decide) rfl (Or.inl rfl) q218 hz2 dX11_injectionLine_106 ?_
          refine JR_aload_n (pc := 109) (k := 0) (i := 0) (o := some this) G rfl rfl dX11_injectionLine_109 ?_
          refine JR_gI (pc := 110) (k := 7) G cl_X11 in_X11 (by decide) (by decide) rfl (Or.inl rfl) q619 hz1 dX11_injectionLine_110 ?_
          refine J_stk (st' := [.int (d3.1 z1 7), va_rf (some z4)]) (by rw [(isK_at hz4).1]) ?_
          refine JPV_R (pc := 113) (as := [.int (d3.1 z1 7)]) (st' := []) (o := some z4) G (Jl_get_fn z4 (d3.1 z1 7) S d3) (JC_V (n := 1) G hRm cl_J2 q929 q436 q437 q141 q438 ⟨rfl, dd_J2_get⟩ ⟨by decide, by decide⟩ dX11_injectionLine_113 (isK_s hz4) rfl (Nat.le_of_ble_eq_true rfl)) rfl (fun r6 hr6 => ?_)
          refine J_bd (fun z7 hz7 => ?_)
          refine JR_castE (pc := 116) G cl_X13 q810 hz7 dX11_injectionLine_116 ?_
          refine JR_gIN (pc := 119) (k := 8) G cl_X13 in_X13 (by decide) (by decide) rfl (Or.inl rfl) q836 (isK_s hz7) dX11_injectionLine_119 ?_
          refine JR_if_ne (pc := 122) (tgt := 131) G dX11_injectionLine_122 (by decide) (fun c12 => ?_) (fun c12 => ?_)
          · exact hRe_injectionLine_b131 S d3
          · refine JR_aload_n (pc := 125) (k := 0) (i := 0) (o := some this) G rfl rfl dX11_injectionLine_125 ?_
            refine JR_iconst (pc := 126) G ci_2 dX11_injectionLine_126 ?_
            refine JAV_R (pc := 127) (as := [.int 2]) (st' := []) (o := some this) G (Re_fault_fn this 2 S d3) (JC_V (n := 1) G hRm cl_X11 q704 q706 qs9 q153 q707 ⟨rfl, dd_X11_fault⟩ ⟨by decide, by decide⟩ dX11_injectionLine_127 hz1 rfl (Nat.le_of_ble_eq_true rfl)) rfl (fun _ _ _ => rfl) (fun r8 S9 d10 hd10 => ?_)
            refine J_bd (fun z11 hz11 => ?_)
            refine J_stk (st' := [va_rf (some z11)]) (by rw [(isK_at hz11).1]) ?_
            refine JR_athrow (pc := 130) G cl_X12 dX11_injectionLine_130 (isK_s hz11) ?_
            exact JX_out G hR
    · refine JR_aload_n (pc := 27) (k := 0) (i := 0) (o := some this) G rfl rfl dX11_injectionLine_27 ?_
      refine JR_iconst (pc := 28) G ci_0 dX11_injectionLine_28 ?_
      refine JR_aload_n (pc := 29) (k := 0) (i := 0) (o := some this) G rfl rfl dX11_injectionLine_29 ?_
      refine JR_gR (pc := 30) (k := 3) G cl_X11 in_X11 (by decide) (by decide) rfl (Or.inl rfl) q615 hz1 dX11_injectionLine_30 ?_
      refine JR_gIN (pc := 33) (k := 6) G cl_X1 in_X1 (by decide) (by decide) rfl (Or.inl rfl) q236 hz2 dX11_injectionLine_33 ?_
      refine JR_iconst (pc := 36) G ci_1 dX11_injectionLine_36 ?_
      refine JR_isub (pc := 37) G dX11_injectionLine_37 ?_
      refine JXV_I (pc := 38) (as := [.int 0, .int ((d3.1 z2 6) - 1)]) (st' := []) (o := some this) G (Re_number_2_fn this 0 ((d3.1 z2 6) - 1) S d3) (JXC_V (n := 2) G hRm cl_X11 q787 q789 qs12 q153 q790 ⟨rfl, dd_X11_number_2⟩ ⟨by decide, by decide⟩ dX11_injectionLine_38 hz1 rfl (Nat.le_of_ble_eq_true rfl)) rfl (fun _ _ _ => rfl) (fun r15 S16 d17 hd17 => ?_) (fun v9 S9 d9 h9 => JX_out G hR)
      refine JR_istore_n (pc := 41) (k := 2) (i := 2) (lv' := [(2, .int r15), (0, va_rf (some this)), (1, .int p1)]) G rfl (by decide) rfl dX11_injectionLine_41 ?_
      refine JR_aload_n (pc := 42) (k := 0) (i := 0) (o := some this) G rfl rfl dX11_injectionLine_42 ?_
      refine J_bd (fun z18 hz18 => ?_)
      refine JR_gR (pc := 43) (k := 3) G cl_X11 in_X11 (by decide) (by decide) rfl (Or.inl rfl) q615 hz18 dX11_injectionLine_43 ?_
      refine J_bd (fun z19 hz19 => ?_)
      refine JR_gRN (pc := 46) (k := 1) G cl_X1 in_X1 (by decide) (by decide) rfl (Or.inl rfl) q221 hz19 dX11_injectionLine_46 ?_
      refine JW_new (pc := 49) G cl_X14 in_X14 tyX14_ok (by decide) lg_X14 q947 q948 q166 (fun _ => rfl) dX11_injectionLine_49 ?_
      refine J_nm2 (fun S20 d21 hS20 hd21 => ?_)
      refine JR_dup (pc := 52) G (rf_cat _) dX11_injectionLine_52 ?_
      refine JR_iconst (pc := 53) G ci_5 dX11_injectionLine_53 ?_
      refine JR_iload_n (pc := 54) (k := 2) (i := 2) G rfl rfl dX11_injectionLine_54 ?_
      refine JR_aload_n (pc := 55) (k := 0) (i := 0) (o := some this) G rfl rfl dX11_injectionLine_55 ?_
      refine JR_ldcSR (pc := 56) (i := 185) (j := 21) G (by decide) (by decide) dX11_injectionLine_56 ?_
      refine JR_iconst (pc := 58) G ci_0 dX11_injectionLine_58 ?_
      refine JR_sipush (pc := 59) (v := 199) G (by decide) dX11_injectionLine_59 ?_
      refine J_bd (fun z22 hz22 => ?_)
      refine JXV_I (pc := 62) (as := [va_rf (some (OPQ + 21)), .int 0, .int 199]) (st' := [.int r15, .int 5, va_rf (some S16.1.length), va_rf (some S16.1.length), va_rf (S16.2.1 z19 1)]) (o := some this) G (Re_number_fn this (some (OPQ + 21)) 0 199 S20 d21) (JXC_Vs (n := 3) G hRm cl_X11 q783 q785 qs11 q153 q786 ⟨rfl, dd_X11_number⟩ ⟨by decide, by decide⟩ dX11_injectionLine_62 hz22 rfl (by simp [cat_i, rf_cat])) rfl (fun _ _ _ => rfl) (fun r23 S24 d25 hd25 => ?_) (fun v9 S9 d9 h9 => JX_out G hR)
      refine JR_iconst (pc := 65) G ci_m1 dX11_injectionLine_65 ?_
      refine JR_iconst (pc := 66) G ci_m1 dX11_injectionLine_66 ?_
      refine JQV_U (pc := 67) (as := [.int 5, .int r15, .int r23, .int ((-1)), .int ((-1))]) (st' := [va_rf (some S16.1.length), va_rf (S16.2.1 z19 1)]) (o := some S16.1.length) G (In_init_fn S16.1.length 5 r15 r23 ((-1)) ((-1)) S24 d25) (JC_I (n := 5) G hRm q950 q951 q166 q952 rfl dd_X14_init ⟨by decide, by decide⟩ dX11_injectionLine_67 rfl (Nat.le_of_ble_eq_true rfl)) rfl (fun _ _ => rfl) (fun _ d26 hd26 => ?_)
      refine J_bd (fun z27 hz27 => ?_)
      refine J_stk (st' := [va_rf (some S16.1.length), va_rf (some z27)]) (by rw [(isK_at hz27).1]) ?_
      refine JAV_I (pc := 70) (as := [va_rf (some S16.1.length)]) (st' := []) (o := some z27) G (Jl_add_fn z27 (some S16.1.length) S24 d26) (JC_V (n := 1) G hRm cl_J2 q857 q858 q859 q141 q860 ⟨rfl, dd_J2_add⟩ ⟨by decide, by decide⟩ dX11_injectionLine_70 (isK_s hz27) rfl (Nat.le_of_ble_eq_true rfl)) rfl (fun _ _ _ => rfl) (fun r28 S29 d30 hd30 => ?_)
      refine JR_pop (pc := 73) G rfl dX11_injectionLine_73 ?_
      refine JR_goto (pc := 74) (tgt := 228) G dX11_injectionLine_74 (by decide) ?_
      refine J_sub [1, 2] rfl ?_
      exact hRe_injectionLine_b228 S29 d30
  · refine JR_aload_n (pc := 12) (k := 0) (i := 0) (o := some this) G rfl rfl dX11_injectionLine_12 ?_
    refine JR_iconst (pc := 13) G ci_3 dX11_injectionLine_13 ?_
    refine JAV_R (pc := 14) (as := [.int 3]) (st' := []) (o := some this) G (Re_fault_fn this 3 S d) (JC_V (n := 1) G hRm cl_X11 q704 q706 qs9 q153 q707 ⟨rfl, dd_X11_fault⟩ ⟨by decide, by decide⟩ dX11_injectionLine_14 hz1 rfl (Nat.le_of_ble_eq_true rfl)) rfl (fun _ _ _ => rfl) (fun r32 S33 d34 hd34 => ?_)
    refine J_bd (fun z35 hz35 => ?_)
    refine J_stk (st' := [va_rf (some z35)]) (by rw [(isK_at hz35).1]) ?_
    refine JR_athrow (pc := 17) G cl_X12 dX11_injectionLine_17 (isK_s hz35) ?_
    exact JX_out G hR

def Re_line (this : Nat) (S : Sp) (d : Dt) : Option ((Unit ⊕ Nat) × Sp × Dt) :=
  (isK S 10 (some this)).bind fun z1 =>
  (isK S 1 (S.2.1 z1 3)).bind fun z2 =>
  if ¬ (d.1 z2 8) = 0 then
    (Re_is this (some (OPQ + 10)) S d).bind fun r3 =>
    if r3 = 0 then
      (Re_is this (some (OPQ + 13)) S d).bind fun r4 =>
      if r4 = 0 then
        (Re_is this (some (OPQ + 19)) S d).bind fun r5 =>
        if r5 = 0 then
          bindE (Re_kind this S d) (fun v9 S9 d9 => some (.inr v9, S9, d9)) fun r6 S7 d8 =>
          (isK S7 10 (some this)).bind fun z9 =>
          bindE (Re_injectionLine this r6 S7 d8) (fun v9 S9 d9 => some (.inr v9, S9, d9)) fun _ S10 d11 =>
          some (.inl (()), S10, d11)
        else
          bindE (Re_nodeLine this S d) (fun v9 S9 d9 => some (.inr v9, S9, d9)) fun _ S12 d13 =>
          some (.inl (()), S12, d13)
      else
        bindE (Re_taskLine this S d) (fun v9 S9 d9 => some (.inr v9, S9, d9)) fun _ S15 d16 =>
        some (.inl (()), S15, d16)
    else
      bindE (Re_watcherLine this S d) (fun v9 S9 d9 => some (.inr v9, S9, d9)) fun _ S18 d19 =>
      some (.inl (()), S18, d19)
  else
    bindE (Re_boardLine this S d) (fun v9 S9 d9 => some (.inr v9, S9, d9)) fun _ S21 d22 =>
    some (.inl (()), S21, d22)
set_option maxHeartbeats 4000000 in
theorem Re_line_fn (this : Nat) (S : Sp) (d : Dt) : FnX yX11_line (ws_ yX11_line cX11_line 1 none) 9 206 [va_rf (some this)] S d rvU "WatchStack$Fault" (Re_line this S d) := by
  refine FnX.ofJ (own := RX11) (lv := [(0, va_rf (some this))]) (by decide +kernel) rfl (by simp [cat_i, cat_l, cat_f, cat_d, rf_cat]) (by simp [lv_args, cat_i, cat_l, cat_f, cat_d, rf_cat]) ?_
  intro X F G hRm hR
  unfold Re_line
  refine JR_aload_n (pc := 0) (k := 0) (i := 0) (o := some this) G rfl rfl dX11_line_0 ?_
  refine J_bd (fun z1 hz1 => ?_)
  refine JR_gR (pc := 1) (k := 3) G cl_X11 in_X11 (by decide) (by decide) rfl (Or.inl rfl) q615 hz1 dX11_line_1 ?_
  refine J_bd (fun z2 hz2 => ?_)
  refine JR_gIN (pc := 4) (k := 8) G cl_X1 in_X1 (by decide) (by decide) rfl (Or.inl rfl) q243 hz2 dX11_line_4 ?_
  refine JR_if_ne (pc := 7) (tgt := 17) G dX11_line_7 (by decide) (fun c23 => ?_) (fun c23 => ?_)
  · refine JR_aload_n (pc := 17) (k := 0) (i := 0) (o := some this) G rfl rfl dX11_line_17 ?_
    refine JR_ldcSR (pc := 18) (i := 202) (j := 10) G (by decide) (by decide) dX11_line_18 ?_
    refine JPV_I (pc := 20) (as := [va_rf (some (OPQ + 10))]) (st' := []) (o := some this) G (Re_is_fn this (some (OPQ + 10)) S d) (JC_V (n := 1) G hRm cl_X11 q654 q656 qs8 q153 q657 ⟨rfl, dd_X11_is⟩ ⟨by decide, by decide⟩ dX11_line_20 hz1 rfl (Nat.le_of_ble_eq_true rfl)) rfl (fun r3 hr3 => ?_)
    refine JR_if_eq (pc := 23) (tgt := 33) G dX11_line_23 (by decide) (fun c20 => ?_) (fun c20 => ?_)
    · refine JR_aload_n (pc := 33) (k := 0) (i := 0) (o := some this) G rfl rfl dX11_line_33 ?_
      refine JR_ldcSR (pc := 34) (i := 207) (j := 13) G (by decide) (by decide) dX11_line_34 ?_
      refine JPV_I (pc := 36) (as := [va_rf (some (OPQ + 13))]) (st' := []) (o := some this) G (Re_is_fn this (some (OPQ + 13)) S d) (JC_V (n := 1) G hRm cl_X11 q654 q656 qs8 q153 q657 ⟨rfl, dd_X11_is⟩ ⟨by decide, by decide⟩ dX11_line_36 hz1 rfl (Nat.le_of_ble_eq_true rfl)) rfl (fun r4 hr4 => ?_)
      refine JR_if_eq (pc := 39) (tgt := 49) G dX11_line_39 (by decide) (fun c17 => ?_) (fun c17 => ?_)
      · refine JR_aload_n (pc := 49) (k := 0) (i := 0) (o := some this) G rfl rfl dX11_line_49 ?_
        refine JR_ldcSR (pc := 50) (i := 192) (j := 19) G (by decide) (by decide) dX11_line_50 ?_
        refine JPV_I (pc := 52) (as := [va_rf (some (OPQ + 19))]) (st' := []) (o := some this) G (Re_is_fn this (some (OPQ + 19)) S d) (JC_V (n := 1) G hRm cl_X11 q654 q656 qs8 q153 q657 ⟨rfl, dd_X11_is⟩ ⟨by decide, by decide⟩ dX11_line_52 hz1 rfl (Nat.le_of_ble_eq_true rfl)) rfl (fun r5 hr5 => ?_)
        refine JR_if_eq (pc := 55) (tgt := 65) G dX11_line_55 (by decide) (fun c14 => ?_) (fun c14 => ?_)
        · refine JR_aload_n (pc := 65) (k := 0) (i := 0) (o := some this) G rfl rfl dX11_line_65 ?_
          refine JR_aload_n (pc := 66) (k := 0) (i := 0) (o := some this) G rfl rfl dX11_line_66 ?_
          refine JXV_I (pc := 67) (as := []) (st' := [va_rf (some this)]) (o := some this) G (Re_kind_fn this S d) (JXC_V (n := 0) G hRm cl_X11 q939 q941 qs19 q153 q942 ⟨rfl, dd_X11_kind⟩ ⟨by decide, by decide⟩ dX11_line_67 hz1 rfl (Nat.le_of_ble_eq_true rfl)) rfl (fun _ _ _ => rfl) (fun r6 S7 d8 hd8 => ?_) (fun v9 S9 d9 h9 => JX_out G hR)
          refine J_bd (fun z9 hz9 => ?_)
          refine JXV_U (pc := 70) (as := [.int r6]) (st' := []) (o := some this) G (Re_injectionLine_fn this r6 S7 d8) (JXC_V (n := 1) G hRm cl_X11 q943 q945 qs20 q153 q946 ⟨rfl, dd_X11_injectionLine⟩ ⟨by decide, by decide⟩ dX11_line_70 hz9 rfl (Nat.le_of_ble_eq_true rfl)) rfl (fun _ _ _ => rfl) (fun _ S10 d11 hd11 => ?_) (fun v9 S9 d9 h9 => JX_out G hR)
          exact JRX_vret (pc := 73) G hR dX11_line_73
        · refine JR_aload_n (pc := 58) (k := 0) (i := 0) (o := some this) G rfl rfl dX11_line_58 ?_
          refine JXV_U (pc := 59) (as := []) (st' := []) (o := some this) G (Re_nodeLine_fn this S d) (JXC_V (n := 0) G hRm cl_X11 q921 q923 qs18 q153 q924 ⟨rfl, dd_X11_nodeLine⟩ ⟨by decide, by decide⟩ dX11_line_59 hz1 rfl (Nat.le_of_ble_eq_true rfl)) rfl (fun _ _ _ => rfl) (fun _ S12 d13 hd13 => ?_) (fun v9 S9 d9 h9 => JX_out G hR)
          refine JR_goto (pc := 62) (tgt := 73) G dX11_line_62 (by decide) ?_
          exact JRX_vret (pc := 73) G hR dX11_line_73
      · refine JR_aload_n (pc := 42) (k := 0) (i := 0) (o := some this) G rfl rfl dX11_line_42 ?_
        refine JXV_U (pc := 43) (as := []) (st' := []) (o := some this) G (Re_taskLine_fn this S d) (JXC_V (n := 0) G hRm cl_X11 q801 q803 qs14 q153 q804 ⟨rfl, dd_X11_taskLine⟩ ⟨by decide, by decide⟩ dX11_line_43 hz1 rfl (Nat.le_of_ble_eq_true rfl)) rfl (fun _ _ _ => rfl) (fun _ S15 d16 hd16 => ?_) (fun v9 S9 d9 h9 => JX_out G hR)
        refine JR_goto (pc := 46) (tgt := 73) G dX11_line_46 (by decide) ?_
        exact JRX_vret (pc := 73) G hR dX11_line_73
    · refine JR_aload_n (pc := 26) (k := 0) (i := 0) (o := some this) G rfl rfl dX11_line_26 ?_
      refine JXV_U (pc := 27) (as := []) (st' := []) (o := some this) G (Re_watcherLine_fn this S d) (JXC_V (n := 0) G hRm cl_X11 q794 q796 qs13 q153 q797 ⟨rfl, dd_X11_watcherLine⟩ ⟨by decide, by decide⟩ dX11_line_27 hz1 rfl (Nat.le_of_ble_eq_true rfl)) rfl (fun _ _ _ => rfl) (fun _ S18 d19 hd19 => ?_) (fun v9 S9 d9 h9 => JX_out G hR)
      refine JR_goto (pc := 30) (tgt := 73) G dX11_line_30 (by decide) ?_
      exact JRX_vret (pc := 73) G hR dX11_line_73
  · refine JR_aload_n (pc := 10) (k := 0) (i := 0) (o := some this) G rfl rfl dX11_line_10 ?_
    refine JXV_U (pc := 11) (as := []) (st' := []) (o := some this) G (Re_boardLine_fn this S d) (JXC_V (n := 0) G hRm cl_X11 q645 q647 qs6 q153 q648 ⟨rfl, dd_X11_boardLine⟩ ⟨by decide, by decide⟩ dX11_line_11 hz1 rfl (Nat.le_of_ble_eq_true rfl)) rfl (fun _ _ _ => rfl) (fun _ S21 d22 hd22 => ?_) (fun v9 S9 d9 h9 => JX_out G hR)
    refine JR_goto (pc := 14) (tgt := 73) G dX11_line_14 (by decide) ?_
    exact JRX_vret (pc := 73) G hR dX11_line_73

def Re_reads_h47 (this : Nat) : Nat → Int32 → Sp → Dt → Option (((Option Nat) ⊕ Nat) × Sp × Dt)
  | 0, _, _, _ => none
  | f + 1, v1, S, d =>
    (isK S 10 (some this)).bind fun z14 =>
    (isK S 1 (S.2.1 z14 3)).bind fun z15 =>
    (isK S 16 (S.2.1 z15 0)).bind fun z16 =>
    (Jl_size z16 S d).bind fun r17 =>
    if r17 ≤ v1 then
      some (.inl (S.2.1 z14 3), S, d)
    else
      (Jl_get z16 v1 S d).bind fun r18 =>
      (isK S 12 r18).bind fun z19 =>
      if ¬ (d.1 z19 8) = 0 then
        Re_reads_h47 this f (v1 + 1) S d
      else
        bind2 (some (mmNew S (11, 0) 8, mmNewD S d)) fun S20 d21 =>
        bind3 (Fa_init S.1.length 4 v1 S20 d21) fun _ S22 d23 =>
        (isK S22 11 (some S.1.length)).bind fun z24 =>
        some (.inr z24, S22, d23)
def Re_reads_h0 (this : Nat) : Nat → Sp → Dt → Option (((Option Nat) ⊕ Nat) × Sp × Dt)
  | 0, _, _ => none
  | f + 1, S, d =>
    (isK S 10 (some this)).bind fun z1 =>
    if (d.1 z1 6) = 0 then
      Re_reads_h47 this FU 0 S d
    else
      bindE (Re_line this S d) (fun v9 S9 d9 => some (.inr v9, S9, d9)) fun _ S2 d3 =>
      (isK S2 10 (some this)).bind fun z4 =>
      if (d3.1 z4 6) = 3 then
        bind2 (Re_next this S2 d3) fun _ d5 =>
        (isK S2 1 (S2.2.1 z4 3)).bind fun z6 =>
        (some (dI d5 z6 8 ((d5.1 z6 8) + 1))).bind fun d7 =>
        Re_reads_h0 this f S2 d7
      else
        bind3 (Re_fault this 1 S2 d3) fun r8 S9 d10 =>
        (isK S9 11 r8).bind fun z11 =>
        some (.inr z11, S9, d10)
def Re_reads (this : Nat) (S : Sp) (d : Dt) : Option (((Option Nat) ⊕ Nat) × Sp × Dt) :=
  Re_reads_h0 this FU S d
set_option maxHeartbeats 4000000 in
theorem Re_reads_fn (this : Nat) (S : Sp) (d : Dt) : FnX yX11_reads (ws_ yX11_reads cX11_reads 2 (some (.object "WatchStack$Told"))) 10 226 [va_rf (some this)] S d rvR "WatchStack$Fault" (Re_reads this S d) := by
  refine FnX.ofJ (own := RX11) (lv := [(0, va_rf (some this))]) (by decide +kernel) rfl (by simp [cat_i, cat_l, cat_f, cat_d, rf_cat]) (by simp [lv_args, cat_i, cat_l, cat_f, cat_d, rf_cat]) ?_
  intro X F G hRm hR
  have hRe_reads_h47 : ∀ (f : Nat) (v1 : Int32) (S : Sp) (d : Dt), J X F Λa S d 47 [(0, va_rf (some this)), (1, .int v1)] [] (Re_reads_h47 this f v1 S d) := by
    intro  f
    induction f with
    | zero => intro v1 S d; exact J_no
    | succ f ih =>
      intro v1 S d
      unfold Re_reads_h47
      refine JR_iload_n (pc := 47) (k := 1) (i := 1) G rfl rfl dX11_reads_47 ?_
      refine JR_aload_n (pc := 48) (k := 0) (i := 0) (o := some this) G rfl rfl dX11_reads_48 ?_
      refine J_bd (fun z14 hz14 => ?_)
      refine JR_gR (pc := 49) (k := 3) G cl_X11 in_X11 (by decide) (by decide) rfl (Or.inl rfl) q615 hz14 dX11_reads_49 ?_
      refine J_bd (fun z15 hz15 => ?_)
      refine JR_gRN (pc := 52) (k := 0) G cl_X1 in_X1 (by decide) (by decide) rfl (Or.inl rfl) q218 hz15 dX11_reads_52 ?_
      refine J_bd (fun z16 hz16 => ?_)
      refine J_stk (st' := [va_rf (some z16), .int v1]) (by rw [(isK_at hz16).1]) ?_
      refine JPV_I (pc := 55) (as := []) (st' := [.int v1]) (o := some z16) G (Jl_size_fn z16 S d) (JC_V (n := 0) G hRm cl_J2 q805 q428 q429 q141 q430 ⟨rfl, dd_J2_size⟩ ⟨by decide, by decide⟩ dX11_reads_55 (isK_s hz16) rfl (Nat.le_of_ble_eq_true rfl)) rfl (fun r17 hr17 => ?_)
      refine JR_icmp_ge (pc := 58) (tgt := 97) G dX11_reads_58 (by decide) (fun c26 => ?_) (fun c26 => ?_)
      · refine JR_aload_n (pc := 97) (k := 0) (i := 0) (o := some this) G rfl rfl dX11_reads_97 ?_
        refine JR_gR (pc := 98) (k := 3) G cl_X11 in_X11 (by decide) (by decide) rfl (Or.inl rfl) q615 hz14 dX11_reads_98 ?_
        exact JRX_aret (pc := 101) G hR ⟨_, rfl, Or.inl ⟨_, rfl⟩⟩ dX11_reads_101
      · refine JR_aload_n (pc := 61) (k := 0) (i := 0) (o := some this) G rfl rfl dX11_reads_61 ?_
        refine JR_gR (pc := 62) (k := 3) G cl_X11 in_X11 (by decide) (by decide) rfl (Or.inl rfl) q615 hz14 dX11_reads_62 ?_
        refine JR_gRN (pc := 65) (k := 0) G cl_X1 in_X1 (by decide) (by decide) rfl (Or.inl rfl) q218 hz15 dX11_reads_65 ?_
        refine JR_iload_n (pc := 68) (k := 1) (i := 1) G rfl rfl dX11_reads_68 ?_
        refine J_stk (st' := [.int v1, va_rf (some z16)]) (by rw [(isK_at hz16).1]) ?_
        refine JPV_R (pc := 69) (as := [.int v1]) (st' := []) (o := some z16) G (Jl_get_fn z16 v1 S d) (JC_V (n := 1) G hRm cl_J2 q929 q436 q437 q141 q438 ⟨rfl, dd_J2_get⟩ ⟨by decide, by decide⟩ dX11_reads_69 (isK_s hz16) rfl (Nat.le_of_ble_eq_true rfl)) rfl (fun r18 hr18 => ?_)
        refine J_bd (fun z19 hz19 => ?_)
        refine JR_castE (pc := 72) G cl_X13 q810 hz19 dX11_reads_72 ?_
        refine JR_gIN (pc := 75) (k := 8) G cl_X13 in_X13 (by decide) (by decide) rfl (Or.inl rfl) q836 (isK_s hz19) dX11_reads_75 ?_
        refine JR_if_ne (pc := 78) (tgt := 91) G dX11_reads_78 (by decide) (fun c25 => ?_) (fun c25 => ?_)
        · refine JR_iinc (pc := 91) (i := 1) (v := v1 + 1) (lv' := [(1, .int (v1 + 1)), (0, va_rf (some this))]) G rfl (congrArg (fun z => v1 + z) (by decide)) (by decide) rfl dX11_reads_91 ?_
          refine JR_goto (pc := 94) (tgt := 47) G dX11_reads_94 (by decide) ?_
          refine J_sub [1, 0] rfl ?_
          exact ih (v1 + 1) S d
        · refine JW_new (pc := 81) G cl_X12 in_X12 tyX12_ok (by decide) lg_X12 q708 q709 q161 (fun _ => rfl) dX11_reads_81 ?_
          refine J_nm2 (fun S20 d21 hS20 hd21 => ?_)
          refine JR_dup (pc := 84) G (rf_cat _) dX11_reads_84 ?_
          refine JR_iconst (pc := 85) G ci_4 dX11_reads_85 ?_
          refine JR_iload_n (pc := 86) (k := 1) (i := 1) G rfl rfl dX11_reads_86 ?_
          refine JAV_U (pc := 87) (as := [.int 4, .int v1]) (st' := [va_rf (some S.1.length)]) (o := some S.1.length) G (Fa_init_fn S.1.length 4 v1 S20 d21) (JC_I (n := 2) G hRm q749 q750 q161 q751 rfl dd_X12_init ⟨by decide, by decide⟩ dX11_reads_87 rfl (Nat.le_of_ble_eq_true rfl)) rfl (fun _ _ _ => rfl) (fun _ S22 d23 hd23 => ?_)
          refine J_bd (fun z24 hz24 => ?_)
          refine J_stk (st' := [va_rf (some z24)]) (by rw [(isK_at hz24).1]) ?_
          refine JR_athrow (pc := 90) G cl_X12 dX11_reads_90 (isK_s hz24) ?_
          exact JX_out G hR
  have hRe_reads_h0 : ∀ (f : Nat) (S : Sp) (d : Dt), J X F Λa S d 0 [(0, va_rf (some this))] [] (Re_reads_h0 this f S d) := by
    intro  f
    induction f with
    | zero => intro S d; exact J_no
    | succ f ih =>
      intro S d
      unfold Re_reads_h0
      refine JR_aload_n (pc := 0) (k := 0) (i := 0) (o := some this) G rfl rfl dX11_reads_0 ?_
      refine J_bd (fun z1 hz1 => ?_)
      refine JR_gI (pc := 1) (k := 6) G cl_X11 in_X11 (by decide) (by decide) rfl (Or.inl rfl) q618 hz1 dX11_reads_1 ?_
      refine JR_if_eq (pc := 4) (tgt := 45) G dX11_reads_4 (by decide) (fun c13 => ?_) (fun c13 => ?_)
      · refine JR_iconst (pc := 45) G ci_0 dX11_reads_45 ?_
        refine JR_istore_n (pc := 46) (k := 1) (i := 1) (lv' := [(1, .int 0), (0, va_rf (some this))]) G rfl (by decide) rfl dX11_reads_46 ?_
        refine J_sub [1, 0] rfl ?_
        exact hRe_reads_h47 FU 0 S d
      · refine JR_aload_n (pc := 7) (k := 0) (i := 0) (o := some this) G rfl rfl dX11_reads_7 ?_
        refine JXV_U (pc := 8) (as := []) (st' := []) (o := some this) G (Re_line_fn this S d) (JXC_V (n := 0) G hRm cl_X11 q641 q643 qs5 q153 q644 ⟨rfl, dd_X11_line⟩ ⟨by decide, by decide⟩ dX11_reads_8 hz1 rfl (Nat.le_of_ble_eq_true rfl)) rfl (fun _ _ _ => rfl) (fun _ S2 d3 hd3 => ?_) (fun v9 S9 d9 h9 => JX_out G hR)
        refine JR_aload_n (pc := 11) (k := 0) (i := 0) (o := some this) G rfl rfl dX11_reads_11 ?_
        refine J_bd (fun z4 hz4 => ?_)
        refine JR_gI (pc := 12) (k := 6) G cl_X11 in_X11 (by decide) (by decide) rfl (Or.inl rfl) q618 hz4 dX11_reads_12 ?_
        refine JR_iconst (pc := 15) G ci_3 dX11_reads_15 ?_
        refine JR_icmp_eq (pc := 16) (tgt := 25) G dX11_reads_16 (by decide) (fun c12 => ?_) (fun c12 => ?_)
        · refine JR_aload_n (pc := 25) (k := 0) (i := 0) (o := some this) G rfl rfl dX11_reads_25 ?_
          refine JQV_U (pc := 26) (as := []) (st' := []) (o := some this) G (Re_next_fn this S2 d3) (JC_V (n := 0) G hRm cl_X11 q599 q601 qs3 q153 q602 ⟨rfl, dd_X11_next⟩ ⟨by decide, by decide⟩ dX11_reads_26 hz4 rfl (Nat.le_of_ble_eq_true rfl)) rfl (fun _ _ => rfl) (fun _ d5 hd5 => ?_)
          refine JR_aload_n (pc := 29) (k := 0) (i := 0) (o := some this) G rfl rfl dX11_reads_29 ?_
          refine JR_gR (pc := 30) (k := 3) G cl_X11 in_X11 (by decide) (by decide) rfl (Or.inl rfl) q615 hz4 dX11_reads_30 ?_
          refine JR_dup (pc := 33) G (rf_cat _) dX11_reads_33 ?_
          refine J_bd (fun z6 hz6 => ?_)
          refine JR_gIN (pc := 34) (k := 8) G cl_X1 in_X1 (by decide) (by decide) rfl (Or.inl rfl) q243 hz6 dX11_reads_34 ?_
          refine JR_iconst (pc := 37) G ci_1 dX11_reads_37 ?_
          refine JR_iadd (pc := 38) G dX11_reads_38 ?_
          refine JW_pIN (pc := 39) (k := 8) G cl_X1 in_X1 tyX1_ok nmX1 (by decide) (by decide) rfl (Or.inl rfl) rfl q243 rfl rfl hz6 (fun _ => rfl) dX11_reads_39 ?_
          refine J_nmD (fun d7 hd7 => ?_)
          refine JR_goto (pc := 42) (tgt := 0) G dX11_reads_42 (by decide) ?_
          exact ih S2 d7
        · refine JR_aload_n (pc := 19) (k := 0) (i := 0) (o := some this) G rfl rfl dX11_reads_19 ?_
          refine JR_iconst (pc := 20) G ci_1 dX11_reads_20 ?_
          refine JAV_R (pc := 21) (as := [.int 1]) (st' := []) (o := some this) G (Re_fault_fn this 1 S2 d3) (JC_V (n := 1) G hRm cl_X11 q704 q706 qs9 q153 q707 ⟨rfl, dd_X11_fault⟩ ⟨by decide, by decide⟩ dX11_reads_21 hz4 rfl (Nat.le_of_ble_eq_true rfl)) rfl (fun _ _ _ => rfl) (fun r8 S9 d10 hd10 => ?_)
          refine J_bd (fun z11 hz11 => ?_)
          refine J_stk (st' := [va_rf (some z11)]) (by rw [(isK_at hz11).1]) ?_
          refine JR_athrow (pc := 24) G cl_X12 dX11_reads_24 (isK_s hz11) ?_
          exact JX_out G hR
  unfold Re_reads
  exact hRe_reads_h0 FU S d

def Ws_board_b53 (this : Nat) (s0 : Option Nat) (S : Sp) (d : Dt) : Option (Int32 × Sp × Dt) :=
  (isK S 11 s0).bind fun z19 =>
  (isK S 0 (some this)).bind fun z20 =>
  (some (dI d z20 4 (d.1 z19 6))).bind fun d21 =>
  (some (dI d21 z20 5 (d21.1 z19 7))).bind fun d22 =>
  (some (dI d22 z20 3 0)).bind fun d23 =>
  some ((-4), S, d23)
def Ws_board (this : Nat) (S : Sp) (d : Dt) : Option (Int32 × Sp × Dt) :=
  bind2 (some (mmNew S (10, 0) 8, mmNewD S d)) fun S1 d2 =>
  (isK S1 0 (some this)).bind fun z3 =>
  bind3 (Re_init S.1.length (S1.2.1 z3 2) (d2.1 z3 3) S1 d2) fun _ S4 d5 =>
  (isK S4 10 (some S.1.length)).bind fun z6 =>
  bindE (Re_reads S.1.length S4 d5) (fun v9 S9 d9 => Ws_board_b53 this (some v9) S9 d9) fun r7 S8 d9 =>
  (isK S8 0 (some this)).bind fun z10 =>
  (some (sR S8 z10 0 r7)).bind fun S11 =>
  (isK S11 0 (some this)).bind fun z12 =>
  bind2 (Ws_lays this S11 d9) fun _ d13 =>
  (some (dI d13 z12 4 0)).bind fun d14 =>
  (some (dI d14 z12 5 ((-1)))).bind fun d15 =>
  (isK S11 1 (S11.2.1 z12 0)).bind fun z16 =>
  (some (d15.1 z16 8)).bind fun x17 =>
  (some (dI d15 z12 3 0)).bind fun d18 =>
  some (x17, S11, d18)
set_option maxHeartbeats 4000000 in
theorem Ws_board_fn (this : Nat) (S : Sp) (d : Dt) : Fn yX0_board (wsW_ yX0_board cX0_board 4 (some .int) [((0), (46), (53), (135)), ((0), (46), (80), (0)), ((53), (73), (80), (0))]) 11 247 [va_rf (some this)] S d rvI Λa (Ws_board this S d) := by
  refine Fn.ofJH (own := RX0) (lv := [(0, va_rf (some this))]) (by decide +kernel) rfl (by simp [cat_i, cat_l, cat_f, cat_d, rf_cat]) (by simp [lv_args, cat_i, cat_l, cat_f, cat_d, rf_cat]) ?_
  intro X F G hRm hR hE
  have hWs_board_b53 : ∀ (s0 : Option Nat) (S : Sp) (d : Dt), J X F Λa S d 53 [(0, va_rf (some this))] [va_rf s0] (Ws_board_b53 this s0 S d) := by
    intro s0 S d
    unfold Ws_board_b53
    refine JR_astore_n (pc := 53) (k := 1) (i := 1) (lv' := [(1, va_rf s0), (0, va_rf (some this))]) G rfl (by decide) rfl dX0_board_53 ?_
    refine JR_aload_n (pc := 54) (k := 0) (i := 0) (o := some this) G rfl rfl dX0_board_54 ?_
    refine JR_aload_n (pc := 55) (k := 1) (i := 1) (o := s0) G rfl rfl dX0_board_55 ?_
    refine J_bd (fun z19 hz19 => ?_)
    refine JR_gIN (pc := 56) (k := 6) G cl_X12 in_X12 (by decide) (by decide) rfl (Or.inl rfl) q762 hz19 dX0_board_56 ?_
    refine J_bd (fun z20 hz20 => ?_)
    refine JW_pI (pc := 59) (k := 4) G cl_X0 in_X0 tyX0_ok nmX0 (by decide) (by decide) rfl (Or.inl rfl) rfl q455 rfl rfl hz20 (fun _ => rfl) dX0_board_59 ?_
    refine J_nmD (fun d21 hd21 => ?_)
    refine JR_aload_n (pc := 62) (k := 0) (i := 0) (o := some this) G rfl rfl dX0_board_62 ?_
    refine JR_aload_n (pc := 63) (k := 1) (i := 1) (o := s0) G rfl rfl dX0_board_63 ?_
    refine JR_gIN (pc := 64) (k := 7) G cl_X12 in_X12 (by decide) (by decide) rfl (Or.inl rfl) q764 hz19 dX0_board_64 ?_
    refine JW_pI (pc := 67) (k := 5) G cl_X0 in_X0 tyX0_ok nmX0 (by decide) (by decide) rfl (Or.inl rfl) rfl q456 rfl rfl hz20 (fun _ => rfl) dX0_board_67 ?_
    refine J_nmD (fun d22 hd22 => ?_)
    refine JR_bipush (pc := 70) (v := (-4)) G (by decide) dX0_board_70 ?_
    refine JR_istore_n (pc := 72) (k := 2) (i := 2) (lv' := [(2, .int ((-4))), (1, va_rf s0), (0, va_rf (some this))]) G rfl (by decide) (by simp [lvS, rf_cat]) dX0_board_72 ?_
    refine JR_aload_n (pc := 73) (k := 0) (i := 0) (o := some this) G rfl rfl dX0_board_73 ?_
    refine JR_iconst (pc := 74) G ci_0 dX0_board_74 ?_
    refine JW_pI (pc := 75) (k := 3) G cl_X0 in_X0 tyX0_ok nmX0 (by decide) (by decide) rfl (Or.inl rfl) rfl q454 rfl rfl hz20 (fun _ => rfl) dX0_board_75 ?_
    refine J_nmD (fun d23 hd23 => ?_)
    refine JR_iload_n (pc := 78) (k := 2) (i := 2) G rfl rfl dX0_board_78 ?_
    exact JR_iret (pc := 79) G hR dX0_board_79 rfl rfl
  unfold Ws_board
  refine JW_new (pc := 0) G cl_X11 in_X11 tyX11_ok (by decide) lg_X11 q583 q584 q153 (fun _ => rfl) dX0_board_0 ?_
  refine J_nm2 (fun S1 d2 hS1 hd2 => ?_)
  refine JR_dup (pc := 3) G (rf_cat _) dX0_board_3 ?_
  refine JR_aload_n (pc := 4) (k := 0) (i := 0) (o := some this) G rfl rfl dX0_board_4 ?_
  refine J_bd (fun z3 hz3 => ?_)
  refine JR_gR (pc := 5) (k := 2) G cl_X0 in_X0 (by decide) (by decide) rfl (Or.inl rfl) q453 hz3 dX0_board_5 ?_
  refine JR_aload_n (pc := 8) (k := 0) (i := 0) (o := some this) G rfl rfl dX0_board_8 ?_
  refine JR_gI (pc := 9) (k := 3) G cl_X0 in_X0 (by decide) (by decide) rfl (Or.inl rfl) q454 hz3 dX0_board_9 ?_
  refine JAV_U (pc := 12) (as := [va_rf (S1.2.1 z3 2), .int (d2.1 z3 3)]) (st' := [va_rf (some S.1.length)]) (o := some S.1.length) G (Re_init_fn S.1.length (S1.2.1 z3 2) (d2.1 z3 3) S1 d2) (JC_I (n := 2) G hRm q585 q586 q153 q587 rfl dd_X11_init ⟨by decide, by decide⟩ dX0_board_12 rfl (Nat.le_of_ble_eq_true rfl)) rfl (fun _ _ _ => rfl) (fun _ S4 d5 hd5 => ?_)
  refine J_bd (fun z6 hz6 => ?_)
  refine JXV_R (pc := 15) (as := []) (st' := []) (o := some S.1.length) G (Re_reads_fn S.1.length S4 d5) (JXC_V (n := 0) G hRm cl_X11 q637 q638 q639 q153 q640 ⟨rfl, dd_X11_reads⟩ ⟨by decide, by decide⟩ dX0_board_15 hz6 rfl (Nat.le_of_ble_eq_true rfl)) rfl (fun _ _ _ => rfl) (fun r7 S8 d9 hd9 => ?_) (fun v9 S9 d9 h9 => ?_)
  rotate_left
  · refine JX_catch (x := ⟨0, 46, 53, 135⟩) G hE rfl (by decide) q582 q710 ?_
    exact hWs_board_b53 (some v9) S9 d9
  refine JR_astore_n (pc := 18) (k := 1) (i := 1) (lv' := [(1, va_rf r7), (0, va_rf (some this))]) G rfl (by decide) rfl dX0_board_18 ?_
  refine JR_aload_n (pc := 19) (k := 0) (i := 0) (o := some this) G rfl rfl dX0_board_19 ?_
  refine JR_aload_n (pc := 20) (k := 1) (i := 1) (o := r7) G rfl rfl dX0_board_20 ?_
  refine J_bd (fun z10 hz10 => ?_)
  refine JW_pR (pc := 21) (k := 0) G cl_X0 in_X0 tyX0_ok nmX0 (by decide) (by decide) rfl (Or.inl rfl) rfl q451 hz10 (fun _ => rfl) dX0_board_21 ?_
  refine J_nmS (fun S11 hS11 => ?_)
  refine JR_aload_n (pc := 24) (k := 0) (i := 0) (o := some this) G rfl rfl dX0_board_24 ?_
  refine J_bd (fun z12 hz12 => ?_)
  refine JQV_U (pc := 25) (as := []) (st' := []) (o := some this) G (Ws_lays_fn this S11 d9) (JC_V (n := 0) G hRm cl_X0 q419 q421 qs0 q137 q422 ⟨rfl, dd_X0_lays⟩ ⟨by decide, by decide⟩ dX0_board_25 hz12 rfl (Nat.le_of_ble_eq_true rfl)) rfl (fun _ _ => rfl) (fun _ d13 hd13 => ?_)
  refine JR_aload_n (pc := 28) (k := 0) (i := 0) (o := some this) G rfl rfl dX0_board_28 ?_
  refine JR_iconst (pc := 29) G ci_0 dX0_board_29 ?_
  refine JW_pI (pc := 30) (k := 4) G cl_X0 in_X0 tyX0_ok nmX0 (by decide) (by decide) rfl (Or.inl rfl) rfl q455 rfl rfl hz12 (fun _ => rfl) dX0_board_30 ?_
  refine J_nmD (fun d14 hd14 => ?_)
  refine JR_aload_n (pc := 33) (k := 0) (i := 0) (o := some this) G rfl rfl dX0_board_33 ?_
  refine JR_iconst (pc := 34) G ci_m1 dX0_board_34 ?_
  refine JW_pI (pc := 35) (k := 5) G cl_X0 in_X0 tyX0_ok nmX0 (by decide) (by decide) rfl (Or.inl rfl) rfl q456 rfl rfl hz12 (fun _ => rfl) dX0_board_35 ?_
  refine J_nmD (fun d15 hd15 => ?_)
  refine JR_aload_n (pc := 38) (k := 0) (i := 0) (o := some this) G rfl rfl dX0_board_38 ?_
  refine JR_gR (pc := 39) (k := 0) G cl_X0 in_X0 (by decide) (by decide) rfl (Or.inl rfl) q451 hz12 dX0_board_39 ?_
  refine J_bd (fun z16 hz16 => ?_)
  refine JR_gIN (pc := 42) (k := 8) G cl_X1 in_X1 (by decide) (by decide) rfl (Or.inl rfl) q242 hz16 dX0_board_42 ?_
  refine J_nm (fun x17 hx17 => ?_)
  refine JR_istore_n (pc := 45) (k := 2) (i := 2) (lv' := [(2, .int x17), (1, va_rf r7), (0, va_rf (some this))]) G rfl (by decide) (by simp [lvS, rf_cat]) dX0_board_45 ?_
  refine JR_aload_n (pc := 46) (k := 0) (i := 0) (o := some this) G rfl rfl dX0_board_46 ?_
  refine JR_iconst (pc := 47) G ci_0 dX0_board_47 ?_
  refine JW_pI (pc := 48) (k := 3) G cl_X0 in_X0 tyX0_ok nmX0 (by decide) (by decide) rfl (Or.inl rfl) rfl q454 rfl rfl hz12 (fun _ => rfl) dX0_board_48 ?_
  refine J_nmD (fun d18 hd18 => ?_)
  refine JR_iload_n (pc := 51) (k := 2) (i := 2) G rfl rfl dX0_board_51 ?_
  exact JR_iret (pc := 52) G hR dX0_board_52 rfl rfl
