/-! THE COMPONENT, printed: ledger -/
set_option maxRecDepth 100000
def Ws_ledger_b71 (this : Nat) (p1 : Int32) (k41 : (Option Nat) → Int32 → Int32 → Sp → Dt → Option (Int32 × Sp × Dt)) (v2 : Option Nat) (v3 : Int32) (v4 : Int32) (s0 : Option Nat) (s1 : Option Nat) (S : Sp) (d : Dt) : Option (Int32 × Sp × Dt) :=
  (isK S 15 s1).bind fun z20 =>
  bind3 (Le_isOffered z20 s0 S d) fun _ S21 d22 =>
  k41 v2 v3 (v4 + 1) S21 d22
def Ws_ledger_h41 (this : Nat) (p1 : Int32) : Nat → (Option Nat) → Int32 → Int32 → Sp → Dt → Option (Int32 × Sp × Dt)
  | 0, _, _, _, _, _ => none
  | f + 1, v2, v3, v4, S, d =>
    if v3 ≤ v4 then
      (isK S 15 v2).bind fun z15 =>
      some (d.1 z15 1, S, d)
    else
      (isK S 0 (some this)).bind fun z16 =>
      (aix S 50 (S.2.1 z16 18) v4).bind fun q17 =>
      Ws_ledger_b71 this p1 (Ws_ledger_h41 this p1 f) v2 v3 v4 (if 6 ≤ (d.1 q17.1 q17.2) then S.2.1 z16 33 else S.2.1 z16 32) v2 S d
def Ws_ledger (this : Nat) (p1 : Int32) (S : Sp) (d : Dt) : Option (Int32 × Sp × Dt) :=
  (isK S 0 (some this)).bind fun z1 =>
  (isK S 1 (S.2.1 z1 0)).bind fun z2 =>
  (To_is z2 S d).bind fun r3 =>
  if r3 = 0 then
    some ((-2), S, d)
  else
    (Ws_in (Int32.toInt64 p1) 0 1 S d).bind fun r4 =>
    if ¬ r4 = 0 then
      bind2 (some (mmNew S (15, 0) 2, mmNewD S d)) fun S5 d6 =>
      bind3 (Le_init S.1.length p1 S5 d6) fun _ S7 d8 =>
      (isK S7 0 (some this)).bind fun z9 =>
      bind3 (Ws_all this ((-1)) S7 d8) fun r10 S11 d12 =>
      Ws_ledger_h41 this p1 FU (some S.1.length) r10 0 S11 d12
    else
      some ((-2), S, d)
set_option maxHeartbeats 4000000 in
theorem Ws_ledger_fn (this : Nat) (p1 : Int32) (S : Sp) (d : Dt) : Fn yX0_ledger (ws_ yX0_ledger cX0_ledger 5 (some .int)) 17 10322 [va_rf (some this), .int p1] S d rvI Λa (Ws_ledger this p1 S d) := by
  refine Fn.ofJ (own := RX0) (lv := [(0, va_rf (some this)), (1, .int p1)]) (by decide +kernel) rfl (by simp [cat_i, cat_l, cat_f, cat_d, rf_cat]) (by simp [lv_args, cat_i, cat_l, cat_f, cat_d, rf_cat]) ?_
  intro X F G hRm hR hI
  have hWs_ledger_b71 : ∀ (k41 : (Option Nat) → Int32 → Int32 → Sp → Dt → Option (Int32 × Sp × Dt)) (hk41 : ∀ (v2 : Option Nat) (v3 : Int32) (v4 : Int32) (S : Sp) (d : Dt), J X F Λa S d 41 [(0, va_rf (some this)), (1, .int p1), (2, va_rf v2), (3, .int v3), (4, .int v4)] [] (k41 v2 v3 v4 S d)) (v2 : Option Nat) (v3 : Int32) (v4 : Int32) (s0 : Option Nat) (s1 : Option Nat) (S : Sp) (d : Dt), J X F Λa S d 71 [(0, va_rf (some this)), (1, .int p1), (2, va_rf v2), (3, .int v3), (4, .int v4)] [va_rf s0, va_rf s1] (Ws_ledger_b71 this p1 k41 v2 v3 v4 s0 s1 S d) := by
    intro k41 hk41 v2 v3 v4 s0 s1 S d
    unfold Ws_ledger_b71
    refine J_bd (fun z20 hz20 => ?_)
    refine J_stk (st' := [va_rf s0, va_rf (some z20)]) (by rw [(isK_at hz20).1]) ?_
    refine JAV_U (pc := 71) (as := [va_rf s0]) (st' := []) (o := some z20) G (Le_isOffered_fn z20 s0 S d) (JC_VW (n := 1) (hh := [((0), (17), (20), (21))]) G hRm cl_X16 q1406 q1407 q1408 q172 q1409 ⟨rfl, dd_X16_isOffered⟩ ⟨by decide, by decide⟩ dX0_ledger_71 (isK_s hz20) rfl (Nat.le_of_ble_eq_true rfl)) rfl (fun _ _ _ => rfl) (fun _ S21 d22 hd22 => ?_)
    refine JR_iinc (pc := 74) (i := 4) (v := v4 + 1) (lv' := [(4, .int (v4 + 1)), (0, va_rf (some this)), (1, .int p1), (2, va_rf v2), (3, .int v3)]) G rfl (congrArg (fun z => v4 + z) (by decide)) (by decide) rfl dX0_ledger_74 ?_
    refine JR_goto (pc := 77) (tgt := 41) G dX0_ledger_77 (by decide) ?_
    refine J_sub [1, 2, 3, 4, 0] rfl ?_
    exact hk41 v2 v3 (v4 + 1) S21 d22
  have hWs_ledger_h41 : ∀ (f : Nat) (v2 : Option Nat) (v3 : Int32) (v4 : Int32) (S : Sp) (d : Dt), J X F Λa S d 41 [(0, va_rf (some this)), (1, .int p1), (2, va_rf v2), (3, .int v3), (4, .int v4)] [] (Ws_ledger_h41 this p1 f v2 v3 v4 S d) := by
    intro  f
    induction f with
    | zero => intro v2 v3 v4 S d; exact J_no
    | succ f ih =>
      intro v2 v3 v4 S d
      unfold Ws_ledger_h41
      refine JR_iload (pc := 41) (i := 4) G rfl dX0_ledger_41 ?_
      refine JR_iload_n (pc := 43) (k := 3) (i := 3) G rfl rfl dX0_ledger_43 ?_
      refine JR_icmp_ge (pc := 44) (tgt := 80) G dX0_ledger_44 (by decide) (fun c19 => ?_) (fun c19 => ?_)
      · refine JR_aload_n (pc := 80) (k := 2) (i := 2) (o := v2) G rfl rfl dX0_ledger_80 ?_
        refine J_bd (fun z15 hz15 => ?_)
        refine JR_gIN (pc := 81) (k := 1) G cl_X16 in_X16 (by decide) (by decide) rfl (Or.inl rfl) q1400 hz15 dX0_ledger_81 ?_
        exact JR_iret (pc := 84) G hR dX0_ledger_84 rfl rfl
      · refine JR_aload_n (pc := 47) (k := 2) (i := 2) (o := v2) G rfl rfl dX0_ledger_47 ?_
        refine JR_aload_n (pc := 48) (k := 0) (i := 0) (o := some this) G rfl rfl dX0_ledger_48 ?_
        refine J_bd (fun z16 hz16 => ?_)
        refine JR_gR (pc := 49) (k := 18) G cl_X0 in_X0 (by decide) (by decide) rfl (Or.inl rfl) q471 hz16 dX0_ledger_49 ?_
        refine JR_iload (pc := 52) (i := 4) G rfl dX0_ledger_52 ?_
        refine J_bd (fun q17 hq17 => ?_)
        refine JR_iaload (pc := 54) G hq17 dX0_ledger_54 ?_
        refine JR_bipush (pc := 55) (v := 6) G (by decide) dX0_ledger_55 ?_
        refine J_eq (r' := if 6 ≤ (d.1 q17.1 q17.2) then Ws_ledger_b71 this p1 (Ws_ledger_h41 this p1 f) v2 v3 v4 (S.2.1 z16 33) v2 S d else Ws_ledger_b71 this p1 (Ws_ledger_h41 this p1 f) v2 v3 v4 (S.2.1 z16 32) v2 S d) (by split <;> rfl) ?_
        refine JR_icmp_ge (pc := 57) (tgt := 67) G dX0_ledger_57 (by decide) (fun c18 => ?_) (fun c18 => ?_)
        · refine JR_aload_n (pc := 67) (k := 0) (i := 0) (o := some this) G rfl rfl dX0_ledger_67 ?_
          refine JR_gR (pc := 68) (k := 33) G cl_X0 in_X0 (by decide) (by decide) rfl (Or.inl rfl) q491 hz16 dX0_ledger_68 ?_
          exact hWs_ledger_b71 (Ws_ledger_h41 this p1 f) ih v2 v3 v4 (S.2.1 z16 33) v2 S d
        · refine JR_aload_n (pc := 60) (k := 0) (i := 0) (o := some this) G rfl rfl dX0_ledger_60 ?_
          refine JR_gR (pc := 61) (k := 32) G cl_X0 in_X0 (by decide) (by decide) rfl (Or.inl rfl) q490 hz16 dX0_ledger_61 ?_
          refine JR_goto (pc := 64) (tgt := 71) G dX0_ledger_64 (by decide) ?_
          exact hWs_ledger_b71 (Ws_ledger_h41 this p1 f) ih v2 v3 v4 (S.2.1 z16 32) v2 S d
  unfold Ws_ledger
  refine JR_aload_n (pc := 0) (k := 0) (i := 0) (o := some this) G rfl rfl dX0_ledger_0 ?_
  refine J_bd (fun z1 hz1 => ?_)
  refine JR_gR (pc := 1) (k := 0) G cl_X0 in_X0 (by decide) (by decide) rfl (Or.inl rfl) q451 hz1 dX0_ledger_1 ?_
  refine J_bd (fun z2 hz2 => ?_)
  refine J_stk (st' := [va_rf (some z2)]) (by rw [(isK_at hz2).1]) ?_
  refine JPV_I (pc := 4) (as := []) (st' := []) (o := some z2) G (To_is_fn z2 S d) (JC_V (n := 0) G hRm cl_X1 q1105 q1106 q1107 q138 q1108 ⟨rfl, dd_X1_is⟩ ⟨by decide, by decide⟩ dX0_ledger_4 (isK_s hz2) rfl (Nat.le_of_ble_eq_true rfl)) rfl (fun r3 hr3 => ?_)
  refine JR_if_eq (pc := 7) (tgt := 20) G dX0_ledger_7 (by decide) (fun c14 => ?_) (fun c14 => ?_)
  · refine JR_bipush (pc := 20) (v := (-2)) G (by decide) dX0_ledger_20 ?_
    exact JR_iret (pc := 22) G hR dX0_ledger_22 rfl rfl
  · refine JR_iload_n (pc := 10) (k := 1) (i := 1) G rfl rfl dX0_ledger_10 ?_
    refine JR_i2l (pc := 11) G dX0_ledger_11 ?_
    refine JR_lconst (pc := 12) G cl_0 dX0_ledger_12 ?_
    refine JR_lconst (pc := 13) G cl_1 dX0_ledger_13 ?_
    refine JPS_I (pc := 14) (as := [.long (Int32.toInt64 p1), .long 0, .long 1]) (st' := []) G (Ws_in_fn (Int32.toInt64 p1) 0 1 S d) (JC_S (n := 3) G hRm q575 q576 q137 q577 dd_X0_in ⟨by decide, by decide⟩ dX0_ledger_14 rfl (Nat.le_of_ble_eq_true rfl)) rfl (fun r4 hr4 => ?_)
    refine JR_if_ne (pc := 17) (tgt := 23) G dX0_ledger_17 (by decide) (fun c13 => ?_) (fun c13 => ?_)
    · refine JW_new (pc := 23) G cl_X16 in_X16 tyX16_ok (by decide) lg_X16 q1388 q1389 q172 (fun _ => rfl) dX0_ledger_23 ?_
      refine J_nm2 (fun S5 d6 hS5 hd6 => ?_)
      refine JR_dup (pc := 26) G (rf_cat _) dX0_ledger_26 ?_
      refine JR_iload_n (pc := 27) (k := 1) (i := 1) G rfl rfl dX0_ledger_27 ?_
      refine JAV_U (pc := 28) (as := [.int p1]) (st' := [va_rf (some S.1.length)]) (o := some S.1.length) G (Le_init_fn S.1.length p1 S5 d6) (JC_I (n := 1) G hRm q1390 q1391 q172 q1392 rfl dd_X16_init ⟨by decide, by decide⟩ dX0_ledger_28 rfl (Nat.le_of_ble_eq_true rfl)) rfl (fun _ _ _ => rfl) (fun _ S7 d8 hd8 => ?_)
      refine JR_astore_n (pc := 31) (k := 2) (i := 2) (lv' := [(2, va_rf (some S.1.length)), (0, va_rf (some this)), (1, .int p1)]) G rfl (by decide) rfl dX0_ledger_31 ?_
      refine JR_aload_n (pc := 32) (k := 0) (i := 0) (o := some this) G rfl rfl dX0_ledger_32 ?_
      refine JR_iconst (pc := 33) G ci_m1 dX0_ledger_33 ?_
      refine J_bd (fun z9 hz9 => ?_)
      refine JAV_I (pc := 34) (as := [.int ((-1))]) (st' := []) (o := some this) G (Ws_all_fn this ((-1)) S7 d8) (JC_V (n := 1) G hRm cl_X0 q1332 q1334 qs51 q137 q1335 ⟨rfl, dd_X0_all⟩ ⟨by decide, by decide⟩ dX0_ledger_34 hz9 rfl (Nat.le_of_ble_eq_true rfl)) rfl (fun _ _ _ => rfl) (fun r10 S11 d12 hd12 => ?_)
      refine JR_istore_n (pc := 37) (k := 3) (i := 3) (lv' := [(3, .int r10), (2, va_rf (some S.1.length)), (0, va_rf (some this)), (1, .int p1)]) G rfl (by decide) rfl dX0_ledger_37 ?_
      refine JR_iconst (pc := 38) G ci_0 dX0_ledger_38 ?_
      refine JR_istore (pc := 39) (i := 4) (lv' := [(4, .int 0), (3, .int r10), (2, va_rf (some S.1.length)), (0, va_rf (some this)), (1, .int p1)]) G (by decide) rfl dX0_ledger_39 ?_
      refine J_sub [3, 4, 2, 1, 0] rfl ?_
      exact hWs_ledger_h41 FU (some S.1.length) r10 0 S11 d12
    · refine JR_bipush (pc := 20) (v := (-2)) G (by decide) dX0_ledger_20 ?_
      exact JR_iret (pc := 22) G hR dX0_ledger_22 rfl rfl
