/-! THE COMPONENT, printed -/
set_option maxRecDepth 100000
def In_isOf (this : Nat) (p1 : Int32) (p2 : Int32) (S : Sp) (d : Dt) : Option Int32 :=
  (isK S 13 (some this)).bind fun z1 =>
  if (d.1 z1 0) = 5 then
    some 0
  else
    if ¬ (d.1 z1 1) = p1 then
      some 0
    else
      (Ws_in (Int32.toInt64 p2) (Int32.toInt64 (d.1 z1 2)) (Int32.toInt64 (((d.1 z1 2) + (d.1 z1 4)) - 1)) S d).bind fun r2 =>
      if r2 = 0 then
        some 0
      else
        some 1
set_option maxHeartbeats 4000000 in
theorem In_isOf_fn (this : Nat) (p1 : Int32) (p2 : Int32) (S : Sp) (d : Dt) : Fn yX14_isOf (ws_ yX14_isOf cX14_isOf 3 (some .boolean)) 1 25 [va_rf (some this), .int p1, .int p2] S d rvI Λp (In_isOf this p1 p2 S d) := by
  refine Fn.ofJ (own := RX14) (lv := [(0, va_rf (some this)), (1, .int p1), (2, .int p2)]) (by decide +kernel) rfl (by simp [cat_i, cat_l, cat_f, cat_d, rf_cat]) (by simp [lv_args, cat_i, cat_l, cat_f, cat_d, rf_cat]) ?_
  intro X F G hRm hR hI
  unfold In_isOf
  refine JR_aload_n (pc := 0) (k := 0) (i := 0) (o := some this) G rfl rfl dX14_isOf_0 ?_
  refine J_bd (fun z1 hz1 => ?_)
  refine JR_gI (pc := 1) (k := 0) G cl_X14 in_X14 (by decide) (by decide) rfl (Or.inl rfl) q954 hz1 dX14_isOf_1 ?_
  refine JR_iconst (pc := 4) G ci_5 dX14_isOf_4 ?_
  refine JR_icmp_eq (pc := 5) (tgt := 45) G dX14_isOf_5 (by decide) (fun c5 => ?_) (fun c5 => ?_)
  · refine JR_iconst (pc := 45) G ci_0 dX14_isOf_45 ?_
    exact JR_zret (pc := 46) G hR dX14_isOf_46 (Or.inl rfl) rfl rfl
  · refine JR_aload_n (pc := 8) (k := 0) (i := 0) (o := some this) G rfl rfl dX14_isOf_8 ?_
    refine JR_gI (pc := 9) (k := 1) G cl_X14 in_X14 (by decide) (by decide) rfl (Or.inl rfl) q956 hz1 dX14_isOf_9 ?_
    refine JR_iload_n (pc := 12) (k := 1) (i := 1) G rfl rfl dX14_isOf_12 ?_
    refine JR_icmp_ne (pc := 13) (tgt := 45) G dX14_isOf_13 (by decide) (fun c4 => ?_) (fun c4 => ?_)
    · refine JR_iconst (pc := 45) G ci_0 dX14_isOf_45 ?_
      exact JR_zret (pc := 46) G hR dX14_isOf_46 (Or.inl rfl) rfl rfl
    · refine JR_iload_n (pc := 16) (k := 2) (i := 2) G rfl rfl dX14_isOf_16 ?_
      refine JR_i2l (pc := 17) G dX14_isOf_17 ?_
      refine JR_aload_n (pc := 18) (k := 0) (i := 0) (o := some this) G rfl rfl dX14_isOf_18 ?_
      refine JR_gI (pc := 19) (k := 2) G cl_X14 in_X14 (by decide) (by decide) rfl (Or.inl rfl) q958 hz1 dX14_isOf_19 ?_
      refine JR_i2l (pc := 22) G dX14_isOf_22 ?_
      refine JR_aload_n (pc := 23) (k := 0) (i := 0) (o := some this) G rfl rfl dX14_isOf_23 ?_
      refine JR_gI (pc := 24) (k := 2) G cl_X14 in_X14 (by decide) (by decide) rfl (Or.inl rfl) q958 hz1 dX14_isOf_24 ?_
      refine JR_aload_n (pc := 27) (k := 0) (i := 0) (o := some this) G rfl rfl dX14_isOf_27 ?_
      refine JR_gI (pc := 28) (k := 4) G cl_X14 in_X14 (by decide) (by decide) rfl (Or.inl rfl) q962 hz1 dX14_isOf_28 ?_
      refine JR_iadd (pc := 31) G dX14_isOf_31 ?_
      refine JR_iconst (pc := 32) G ci_1 dX14_isOf_32 ?_
      refine JR_isub (pc := 33) G dX14_isOf_33 ?_
      refine JR_i2l (pc := 34) G dX14_isOf_34 ?_
      refine JPS_I (pc := 35) (as := [.long (Int32.toInt64 p2), .long (Int32.toInt64 (d.1 z1 2)), .long (Int32.toInt64 (((d.1 z1 2) + (d.1 z1 4)) - 1))]) (st' := []) G (Ws_in_fn (Int32.toInt64 p2) (Int32.toInt64 (d.1 z1 2)) (Int32.toInt64 (((d.1 z1 2) + (d.1 z1 4)) - 1)) S d) (JC_SN (n := 3) G hRm q1184 q576 q137 q577 dd_X0_in ⟨by decide, by decide⟩ dX14_isOf_35 rfl (Nat.le_of_ble_eq_true rfl)) rfl (fun r2 hr2 => ?_)
      refine JR_if_eq (pc := 38) (tgt := 45) G dX14_isOf_38 (by decide) (fun c3 => ?_) (fun c3 => ?_)
      · refine JR_iconst (pc := 45) G ci_0 dX14_isOf_45 ?_
        exact JR_zret (pc := 46) G hR dX14_isOf_46 (Or.inl rfl) rfl rfl
      · refine JR_iconst (pc := 41) G ci_1 dX14_isOf_41 ?_
        refine JR_goto (pc := 42) (tgt := 46) G dX14_isOf_42 (by decide) ?_
        exact JR_zret (pc := 46) G hR dX14_isOf_46 (Or.inr rfl) rfl rfl

def Ws_wrongAt_h3 (this : Nat) (p1 : Int32) (p2 : Int32) (p3 : Int32) (S : Sp) (d : Dt) : Nat → Int32 → Option Int32
  | 0, _ => none
  | f + 1, v4 =>
    (isK S 0 (some this)).bind fun z1 =>
    (isK S 1 (S.2.1 z1 0)).bind fun z2 =>
    (isK S 16 (S.2.1 z2 1)).bind fun z3 =>
    (Jl_size z3 S d).bind fun r4 =>
    if r4 ≤ v4 then
      some ((-1))
    else
      (Jl_get z3 v4 S d).bind fun r5 =>
      (isK S 13 r5).bind fun z6 =>
      if v4 = (d.1 z1 28) then
        Ws_wrongAt_h3 this p1 p2 p3 S d f (v4 + 1)
      else
        (In_isOf z6 p1 p2 S d).bind fun r7 =>
        if r7 = 0 then
          Ws_wrongAt_h3 this p1 p2 p3 S d f (v4 + 1)
        else
          if ¬ (d.1 z6 3) = p3 then
            Ws_wrongAt_h3 this p1 p2 p3 S d f (v4 + 1)
          else
            if (d.1 z6 0) = 4 then
              Ws_wrongAt_h3 this p1 p2 p3 S d f (v4 + 1)
            else
              some (d.1 z6 0)
def Ws_wrongAt (this : Nat) (p1 : Int32) (p2 : Int32) (p3 : Int32) (S : Sp) (d : Dt) : Option Int32 :=
  Ws_wrongAt_h3 this p1 p2 p3 S d FU 0
set_option maxHeartbeats 4000000 in
theorem Ws_wrongAt_fn (this : Nat) (p1 : Int32) (p2 : Int32) (p3 : Int32) (S : Sp) (d : Dt) : Fn yX0_wrongAt (ws_ yX0_wrongAt cX0_wrongAt 6 (some .int)) 3 64 [va_rf (some this), .int p1, .int p2, .int p3] S d rvI Λp (Ws_wrongAt this p1 p2 p3 S d) := by
  refine Fn.ofJ (own := RX0) (lv := [(0, va_rf (some this)), (1, .int p1), (2, .int p2), (3, .int p3)]) (by decide +kernel) rfl (by simp [cat_i, cat_l, cat_f, cat_d, rf_cat]) (by simp [lv_args, cat_i, cat_l, cat_f, cat_d, rf_cat]) ?_
  intro X F G hRm hR hI
  have hWs_wrongAt_h3 : ∀ (f : Nat) (v4 : Int32), J X F Λp S d 3 [(0, va_rf (some this)), (1, .int p1), (2, .int p2), (3, .int p3), (4, .int v4)] [] (Ws_wrongAt_h3 this p1 p2 p3 S d f v4) := by
    intro  f
    induction f with
    | zero => intro v4; exact J_no
    | succ f ih =>
      intro v4
      unfold Ws_wrongAt_h3
      refine JR_iload (pc := 3) (i := 4) G rfl dX0_wrongAt_3 ?_
      refine JR_aload_n (pc := 5) (k := 0) (i := 0) (o := some this) G rfl rfl dX0_wrongAt_5 ?_
      refine J_bd (fun z1 hz1 => ?_)
      refine JR_gR (pc := 6) (k := 0) G cl_X0 in_X0 (by decide) (by decide) rfl (Or.inl rfl) q451 hz1 dX0_wrongAt_6 ?_
      refine J_bd (fun z2 hz2 => ?_)
      refine JR_gRN (pc := 9) (k := 1) G cl_X1 in_X1 (by decide) (by decide) rfl (Or.inl rfl) q220 hz2 dX0_wrongAt_9 ?_
      refine J_bd (fun z3 hz3 => ?_)
      refine J_stk (st' := [va_rf (some z3), .int v4]) (by rw [(isK_at hz3).1]) ?_
      refine JPV_I (pc := 12) (as := []) (st' := [.int v4]) (o := some z3) G (Jl_size_fn z3 S d) (JC_V (n := 0) G hRm cl_J2 q427 q428 q429 q141 q430 ⟨rfl, dd_J2_size⟩ ⟨by decide, by decide⟩ dX0_wrongAt_12 (isK_s hz3) rfl (Nat.le_of_ble_eq_true rfl)) rfl (fun r4 hr4 => ?_)
      refine JR_icmp_ge (pc := 15) (tgt := 84) G dX0_wrongAt_15 (by decide) (fun c12 => ?_) (fun c12 => ?_)
      · refine JR_iconst (pc := 84) G ci_m1 dX0_wrongAt_84 ?_
        exact JR_iret (pc := 85) G hR dX0_wrongAt_85 rfl rfl
      · refine JR_aload_n (pc := 18) (k := 0) (i := 0) (o := some this) G rfl rfl dX0_wrongAt_18 ?_
        refine JR_gR (pc := 19) (k := 0) G cl_X0 in_X0 (by decide) (by decide) rfl (Or.inl rfl) q451 hz1 dX0_wrongAt_19 ?_
        refine JR_gRN (pc := 22) (k := 1) G cl_X1 in_X1 (by decide) (by decide) rfl (Or.inl rfl) q220 hz2 dX0_wrongAt_22 ?_
        refine JR_iload (pc := 25) (i := 4) G rfl dX0_wrongAt_25 ?_
        refine J_stk (st' := [.int v4, va_rf (some z3)]) (by rw [(isK_at hz3).1]) ?_
        refine JPV_R (pc := 27) (as := [.int v4]) (st' := []) (o := some z3) G (Jl_get_fn z3 v4 S d) (JC_V (n := 1) G hRm cl_J2 q435 q436 q437 q141 q438 ⟨rfl, dd_J2_get⟩ ⟨by decide, by decide⟩ dX0_wrongAt_27 (isK_s hz3) rfl (Nat.le_of_ble_eq_true rfl)) rfl (fun r5 hr5 => ?_)
        refine J_bd (fun z6 hz6 => ?_)
        refine JR_castE (pc := 30) G cl_X14 q1005 hz6 dX0_wrongAt_30 ?_
        refine JR_astore (pc := 33) (i := 5) (lv' := [(5, va_rf (some z6)), (0, va_rf (some this)), (1, .int p1), (2, .int p2), (3, .int p3), (4, .int v4)]) G (by decide) rfl dX0_wrongAt_33 ?_
        refine JR_iload (pc := 35) (i := 4) G rfl dX0_wrongAt_35 ?_
        refine JR_aload_n (pc := 37) (k := 0) (i := 0) (o := some this) G rfl rfl dX0_wrongAt_37 ?_
        refine JR_gI (pc := 38) (k := 28) G cl_X0 in_X0 (by decide) (by decide) rfl (Or.inl rfl) q486 hz1 dX0_wrongAt_38 ?_
        refine JR_icmp_eq (pc := 41) (tgt := 78) G dX0_wrongAt_41 (by decide) (fun c11 => ?_) (fun c11 => ?_)
        · refine JR_iinc (pc := 78) (i := 4) (v := v4 + 1) (lv' := [(4, .int (v4 + 1)), (5, va_rf (some z6)), (0, va_rf (some this)), (1, .int p1), (2, .int p2), (3, .int p3)]) G rfl (congrArg (fun z => v4 + z) (by decide)) (by decide) rfl dX0_wrongAt_78 ?_
          refine JR_goto (pc := 81) (tgt := 3) G dX0_wrongAt_81 (by decide) ?_
          refine J_sub [2, 3, 4, 5, 0] rfl ?_
          exact ih (v4 + 1)
        · refine JR_aload (pc := 44) (i := 5) (o := some z6) G rfl dX0_wrongAt_44 ?_
          refine JR_iload_n (pc := 46) (k := 1) (i := 1) G rfl rfl dX0_wrongAt_46 ?_
          refine JR_iload_n (pc := 47) (k := 2) (i := 2) G rfl rfl dX0_wrongAt_47 ?_
          refine JPV_I (pc := 48) (as := [.int p1, .int p2]) (st' := []) (o := some z6) G (In_isOf_fn z6 p1 p2 S d) (JC_V (n := 2) G hRm cl_X14 q1180 q1181 q1182 q166 q1183 ⟨rfl, dd_X14_isOf⟩ ⟨by decide, by decide⟩ dX0_wrongAt_48 (isK_s hz6) rfl (Nat.le_of_ble_eq_true rfl)) rfl (fun r7 hr7 => ?_)
          refine JR_if_eq (pc := 51) (tgt := 78) G dX0_wrongAt_51 (by decide) (fun c10 => ?_) (fun c10 => ?_)
          · refine JR_iinc (pc := 78) (i := 4) (v := v4 + 1) (lv' := [(4, .int (v4 + 1)), (5, va_rf (some z6)), (0, va_rf (some this)), (1, .int p1), (2, .int p2), (3, .int p3)]) G rfl (congrArg (fun z => v4 + z) (by decide)) (by decide) rfl dX0_wrongAt_78 ?_
            refine JR_goto (pc := 81) (tgt := 3) G dX0_wrongAt_81 (by decide) ?_
            refine J_sub [2, 3, 4, 5, 0] rfl ?_
            exact ih (v4 + 1)
          · refine JR_aload (pc := 54) (i := 5) (o := some z6) G rfl dX0_wrongAt_54 ?_
            refine JR_gIN (pc := 56) (k := 3) G cl_X14 in_X14 (by decide) (by decide) rfl (Or.inl rfl) q961 (isK_s hz6) dX0_wrongAt_56 ?_
            refine JR_iload_n (pc := 59) (k := 3) (i := 3) G rfl rfl dX0_wrongAt_59 ?_
            refine JR_icmp_ne (pc := 60) (tgt := 78) G dX0_wrongAt_60 (by decide) (fun c9 => ?_) (fun c9 => ?_)
            · refine JR_iinc (pc := 78) (i := 4) (v := v4 + 1) (lv' := [(4, .int (v4 + 1)), (5, va_rf (some z6)), (0, va_rf (some this)), (1, .int p1), (2, .int p2), (3, .int p3)]) G rfl (congrArg (fun z => v4 + z) (by decide)) (by decide) rfl dX0_wrongAt_78 ?_
              refine JR_goto (pc := 81) (tgt := 3) G dX0_wrongAt_81 (by decide) ?_
              refine J_sub [2, 3, 4, 5, 0] rfl ?_
              exact ih (v4 + 1)
            · refine JR_aload (pc := 63) (i := 5) (o := some z6) G rfl dX0_wrongAt_63 ?_
              refine JR_gIN (pc := 65) (k := 0) G cl_X14 in_X14 (by decide) (by decide) rfl (Or.inl rfl) q955 (isK_s hz6) dX0_wrongAt_65 ?_
              refine JR_iconst (pc := 68) G ci_4 dX0_wrongAt_68 ?_
              refine JR_icmp_eq (pc := 69) (tgt := 78) G dX0_wrongAt_69 (by decide) (fun c8 => ?_) (fun c8 => ?_)
              · refine JR_iinc (pc := 78) (i := 4) (v := v4 + 1) (lv' := [(4, .int (v4 + 1)), (5, va_rf (some z6)), (0, va_rf (some this)), (1, .int p1), (2, .int p2), (3, .int p3)]) G rfl (congrArg (fun z => v4 + z) (by decide)) (by decide) rfl dX0_wrongAt_78 ?_
                refine JR_goto (pc := 81) (tgt := 3) G dX0_wrongAt_81 (by decide) ?_
                refine J_sub [2, 3, 4, 5, 0] rfl ?_
                exact ih (v4 + 1)
              · refine JR_aload (pc := 72) (i := 5) (o := some z6) G rfl dX0_wrongAt_72 ?_
                refine JR_gIN (pc := 74) (k := 0) G cl_X14 in_X14 (by decide) (by decide) rfl (Or.inl rfl) q955 (isK_s hz6) dX0_wrongAt_74 ?_
                exact JR_iret (pc := 77) G hR dX0_wrongAt_77 rfl rfl
  unfold Ws_wrongAt
  refine JR_iconst (pc := 0) G ci_0 dX0_wrongAt_0 ?_
  refine JR_istore (pc := 1) (i := 4) (lv' := [(4, .int 0), (0, va_rf (some this)), (1, .int p1), (2, .int p2), (3, .int p3)]) G (by decide) rfl dX0_wrongAt_1 ?_
  refine J_sub [1, 2, 3, 4, 0] rfl ?_
  exact hWs_wrongAt_h3 FU 0

def Ws_isWrong_h2 (this : Nat) (p1 : Int32) (p2 : Int32) (S : Sp) (d : Dt) : Nat → Int32 → Option Int32
  | 0, _ => none
  | f + 1, v3 =>
    (isK S 0 (some this)).bind fun z1 =>
    (isK S 1 (S.2.1 z1 0)).bind fun z2 =>
    (isK S 16 (S.2.1 z2 1)).bind fun z3 =>
    (Jl_size z3 S d).bind fun r4 =>
    if r4 ≤ v3 then
      some 0
    else
      (Jl_get z3 v3 S d).bind fun r5 =>
      (isK S 13 r5).bind fun z6 =>
      if v3 = (d.1 z1 28) then
        Ws_isWrong_h2 this p1 p2 S d f (v3 + 1)
      else
        (In_isOf z6 p1 p2 S d).bind fun r7 =>
        if r7 = 0 then
          Ws_isWrong_h2 this p1 p2 S d f (v3 + 1)
        else
          if ¬ (d.1 z6 0) = 4 then
            Ws_isWrong_h2 this p1 p2 S d f (v3 + 1)
          else
            some 1
def Ws_isWrong (this : Nat) (p1 : Int32) (p2 : Int32) (S : Sp) (d : Dt) : Option Int32 :=
  Ws_isWrong_h2 this p1 p2 S d FU 0
set_option maxHeartbeats 4000000 in
theorem Ws_isWrong_fn (this : Nat) (p1 : Int32) (p2 : Int32) (S : Sp) (d : Dt) : Fn yX0_isWrong (ws_ yX0_isWrong cX0_isWrong 5 (some .boolean)) 3 64 [va_rf (some this), .int p1, .int p2] S d rvI Λp (Ws_isWrong this p1 p2 S d) := by
  refine Fn.ofJ (own := RX0) (lv := [(0, va_rf (some this)), (1, .int p1), (2, .int p2)]) (by decide +kernel) rfl (by simp [cat_i, cat_l, cat_f, cat_d, rf_cat]) (by simp [lv_args, cat_i, cat_l, cat_f, cat_d, rf_cat]) ?_
  intro X F G hRm hR hI
  have hWs_isWrong_h2 : ∀ (f : Nat) (v3 : Int32), J X F Λp S d 2 [(0, va_rf (some this)), (1, .int p1), (2, .int p2), (3, .int v3)] [] (Ws_isWrong_h2 this p1 p2 S d f v3) := by
    intro  f
    induction f with
    | zero => intro v3; exact J_no
    | succ f ih =>
      intro v3
      unfold Ws_isWrong_h2
      refine JR_iload_n (pc := 2) (k := 3) (i := 3) G rfl rfl dX0_isWrong_2 ?_
      refine JR_aload_n (pc := 3) (k := 0) (i := 0) (o := some this) G rfl rfl dX0_isWrong_3 ?_
      refine J_bd (fun z1 hz1 => ?_)
      refine JR_gR (pc := 4) (k := 0) G cl_X0 in_X0 (by decide) (by decide) rfl (Or.inl rfl) q451 hz1 dX0_isWrong_4 ?_
      refine J_bd (fun z2 hz2 => ?_)
      refine JR_gRN (pc := 7) (k := 1) G cl_X1 in_X1 (by decide) (by decide) rfl (Or.inl rfl) q220 hz2 dX0_isWrong_7 ?_
      refine J_bd (fun z3 hz3 => ?_)
      refine J_stk (st' := [va_rf (some z3), .int v3]) (by rw [(isK_at hz3).1]) ?_
      refine JPV_I (pc := 10) (as := []) (st' := [.int v3]) (o := some z3) G (Jl_size_fn z3 S d) (JC_V (n := 0) G hRm cl_J2 q427 q428 q429 q141 q430 ⟨rfl, dd_J2_size⟩ ⟨by decide, by decide⟩ dX0_isWrong_10 (isK_s hz3) rfl (Nat.le_of_ble_eq_true rfl)) rfl (fun r4 hr4 => ?_)
      refine JR_icmp_ge (pc := 13) (tgt := 67) G dX0_isWrong_13 (by decide) (fun c11 => ?_) (fun c11 => ?_)
      · refine JR_iconst (pc := 67) G ci_0 dX0_isWrong_67 ?_
        exact JR_zret (pc := 68) G hR dX0_isWrong_68 (Or.inl rfl) rfl rfl
      · refine JR_aload_n (pc := 16) (k := 0) (i := 0) (o := some this) G rfl rfl dX0_isWrong_16 ?_
        refine JR_gR (pc := 17) (k := 0) G cl_X0 in_X0 (by decide) (by decide) rfl (Or.inl rfl) q451 hz1 dX0_isWrong_17 ?_
        refine JR_gRN (pc := 20) (k := 1) G cl_X1 in_X1 (by decide) (by decide) rfl (Or.inl rfl) q220 hz2 dX0_isWrong_20 ?_
        refine JR_iload_n (pc := 23) (k := 3) (i := 3) G rfl rfl dX0_isWrong_23 ?_
        refine J_stk (st' := [.int v3, va_rf (some z3)]) (by rw [(isK_at hz3).1]) ?_
        refine JPV_R (pc := 24) (as := [.int v3]) (st' := []) (o := some z3) G (Jl_get_fn z3 v3 S d) (JC_V (n := 1) G hRm cl_J2 q435 q436 q437 q141 q438 ⟨rfl, dd_J2_get⟩ ⟨by decide, by decide⟩ dX0_isWrong_24 (isK_s hz3) rfl (Nat.le_of_ble_eq_true rfl)) rfl (fun r5 hr5 => ?_)
        refine J_bd (fun z6 hz6 => ?_)
        refine JR_castE (pc := 27) G cl_X14 q1005 hz6 dX0_isWrong_27 ?_
        refine JR_astore (pc := 30) (i := 4) (lv' := [(4, va_rf (some z6)), (0, va_rf (some this)), (1, .int p1), (2, .int p2), (3, .int v3)]) G (by decide) rfl dX0_isWrong_30 ?_
        refine JR_iload_n (pc := 32) (k := 3) (i := 3) G rfl rfl dX0_isWrong_32 ?_
        refine JR_aload_n (pc := 33) (k := 0) (i := 0) (o := some this) G rfl rfl dX0_isWrong_33 ?_
        refine JR_gI (pc := 34) (k := 28) G cl_X0 in_X0 (by decide) (by decide) rfl (Or.inl rfl) q486 hz1 dX0_isWrong_34 ?_
        refine JR_icmp_eq (pc := 37) (tgt := 61) G dX0_isWrong_37 (by decide) (fun c10 => ?_) (fun c10 => ?_)
        · refine JR_iinc (pc := 61) (i := 3) (v := v3 + 1) (lv' := [(3, .int (v3 + 1)), (4, va_rf (some z6)), (0, va_rf (some this)), (1, .int p1), (2, .int p2)]) G rfl (congrArg (fun z => v3 + z) (by decide)) (by decide) rfl dX0_isWrong_61 ?_
          refine JR_goto (pc := 64) (tgt := 2) G dX0_isWrong_64 (by decide) ?_
          refine J_sub [2, 3, 4, 0] rfl ?_
          exact ih (v3 + 1)
        · refine JR_aload (pc := 40) (i := 4) (o := some z6) G rfl dX0_isWrong_40 ?_
          refine JR_iload_n (pc := 42) (k := 1) (i := 1) G rfl rfl dX0_isWrong_42 ?_
          refine JR_iload_n (pc := 43) (k := 2) (i := 2) G rfl rfl dX0_isWrong_43 ?_
          refine JPV_I (pc := 44) (as := [.int p1, .int p2]) (st' := []) (o := some z6) G (In_isOf_fn z6 p1 p2 S d) (JC_V (n := 2) G hRm cl_X14 q1180 q1181 q1182 q166 q1183 ⟨rfl, dd_X14_isOf⟩ ⟨by decide, by decide⟩ dX0_isWrong_44 (isK_s hz6) rfl (Nat.le_of_ble_eq_true rfl)) rfl (fun r7 hr7 => ?_)
          refine JR_if_eq (pc := 47) (tgt := 61) G dX0_isWrong_47 (by decide) (fun c9 => ?_) (fun c9 => ?_)
          · refine JR_iinc (pc := 61) (i := 3) (v := v3 + 1) (lv' := [(3, .int (v3 + 1)), (4, va_rf (some z6)), (0, va_rf (some this)), (1, .int p1), (2, .int p2)]) G rfl (congrArg (fun z => v3 + z) (by decide)) (by decide) rfl dX0_isWrong_61 ?_
            refine JR_goto (pc := 64) (tgt := 2) G dX0_isWrong_64 (by decide) ?_
            refine J_sub [2, 3, 4, 0] rfl ?_
            exact ih (v3 + 1)
          · refine JR_aload (pc := 50) (i := 4) (o := some z6) G rfl dX0_isWrong_50 ?_
            refine JR_gIN (pc := 52) (k := 0) G cl_X14 in_X14 (by decide) (by decide) rfl (Or.inl rfl) q955 (isK_s hz6) dX0_isWrong_52 ?_
            refine JR_iconst (pc := 55) G ci_4 dX0_isWrong_55 ?_
            refine JR_icmp_ne (pc := 56) (tgt := 61) G dX0_isWrong_56 (by decide) (fun c8 => ?_) (fun c8 => ?_)
            · refine JR_iinc (pc := 61) (i := 3) (v := v3 + 1) (lv' := [(3, .int (v3 + 1)), (4, va_rf (some z6)), (0, va_rf (some this)), (1, .int p1), (2, .int p2)]) G rfl (congrArg (fun z => v3 + z) (by decide)) (by decide) rfl dX0_isWrong_61 ?_
              refine JR_goto (pc := 64) (tgt := 2) G dX0_isWrong_64 (by decide) ?_
              refine J_sub [2, 3, 4, 0] rfl ?_
              exact ih (v3 + 1)
            · refine JR_iconst (pc := 59) G ci_1 dX0_isWrong_59 ?_
              exact JR_zret (pc := 60) G hR dX0_isWrong_60 (Or.inr rfl) rfl rfl
  unfold Ws_isWrong
  refine JR_iconst (pc := 0) G ci_0 dX0_isWrong_0 ?_
  refine JR_istore_n (pc := 1) (k := 3) (i := 3) (lv' := [(3, .int 0), (0, va_rf (some this)), (1, .int p1), (2, .int p2)]) G rfl (by decide) rfl dX0_isWrong_1 ?_
  refine J_sub [1, 2, 3, 0] rfl ?_
  exact hWs_isWrong_h2 FU 0

def Ws_notes_b78 (this : Nat) (p1 : Int32) (p2 : Int32) (p3 : Int32) (s0 : Int32) (s1 : Int32) (s2 : Option Nat) (S : Sp) (d : Dt) : Option ((Unit ⊕ Nat) × Sp × Dt) :=
  (isRg S 2 s2).bind fun z15 =>
  bindE (Rg_acts z15 s1 s0 S d) (fun v9 S9 d9 => some (.inr v9, S9, d9)) fun _ S16 d17 =>
  some (.inl (()), S16, d17)
def Ws_notes (this : Nat) (p1 : Int32) (p2 : Int32) (p3 : Int32) (S : Sp) (d : Dt) : Option ((Unit ⊕ Nat) × Sp × Dt) :=
  (isK S 0 (some this)).bind fun z1 =>
  (aix S 50 (S.2.1 z1 17) (d.1 z1 24)).bind fun q2 =>
  (some (dI d q2.1 q2.2 (d.1 z1 25))).bind fun d3 =>
  (aix S 50 (S.2.1 z1 18) (d3.1 z1 24)).bind fun q4 =>
  (some (dI d3 q4.1 q4.2 p1)).bind fun d5 =>
  (aix S 50 (S.2.1 z1 19) (d5.1 z1 24)).bind fun q6 =>
  (some (dI d5 q6.1 q6.2 p2)).bind fun d7 =>
  (aix S 50 (S.2.1 z1 20) (d7.1 z1 24)).bind fun q8 =>
  (some (dI d7 q8.1 q8.2 p3)).bind fun d9 =>
  (some (dI d9 z1 24 ((d9.1 z1 24) + 1))).bind fun d10 =>
  (aix S 56 (S.2.1 z1 11) p3).bind fun q11 =>
  if 6 ≤ p1 then
    Ws_notes_b78 this p1 p2 p3 p2 p2 (S.2.1 q11.1 q11.2) S d10
  else
    (Ws_taskOf this p2 S d10).bind fun r12 =>
    (isK S 12 r12).bind fun z13 =>
    Ws_notes_b78 this p1 p2 p3 (d10.1 z13 0) p2 (S.2.1 q11.1 q11.2) S d10
set_option maxHeartbeats 4000000 in
theorem Ws_notes_fn (this : Nat) (p1 : Int32) (p2 : Int32) (p3 : Int32) (S : Sp) (d : Dt) : FnX yX0_notes (ws_ yX0_notes cX0_notes 4 none) 9 202 [va_rf (some this), .int p1, .int p2, .int p3] S d rvU "WatchStack$Reset" (Ws_notes this p1 p2 p3 S d) := by
  refine FnX.ofJ (own := RX0) (lv := [(0, va_rf (some this)), (1, .int p1), (2, .int p2), (3, .int p3)]) (by decide +kernel) rfl (by simp [cat_i, cat_l, cat_f, cat_d, rf_cat]) (by simp [lv_args, cat_i, cat_l, cat_f, cat_d, rf_cat]) ?_
  intro X F G hRm hR
  have hWs_notes_b78 : ∀ (s0 : Int32) (s1 : Int32) (s2 : Option Nat) (S : Sp) (d : Dt), J X F Λa S d 78 [(0, va_rf (some this)), (1, .int p1), (2, .int p2), (3, .int p3)] [.int s0, .int s1, va_rf s2] (Ws_notes_b78 this p1 p2 p3 s0 s1 s2 S d) := by
    intro s0 s1 s2 S d
    unfold Ws_notes_b78
    refine J_bd (fun z15 hz15 => ?_)
    refine J_stk (st' := [.int s0, .int s1, va_rf (some z15)]) (by rw [isRg_e hz15]) ?_
    refine JX_acts (pc := 78) (st' := []) G hRm q1208 ⟨by decide, by decide⟩ dX0_notes_78 (isRg_s hz15) (Nat.le_of_ble_eq_true rfl) (fun _ _ _ => rfl) (fun _ S16 d17 hd17 => ?_) (fun v9 S9 d9 h9 => JX_out G hR)
    exact JRX_vret (pc := 81) G hR dX0_notes_81
  unfold Ws_notes
  refine JR_aload_n (pc := 0) (k := 0) (i := 0) (o := some this) G rfl rfl dX0_notes_0 ?_
  refine J_bd (fun z1 hz1 => ?_)
  refine JR_gR (pc := 1) (k := 17) G cl_X0 in_X0 (by decide) (by decide) rfl (Or.inl rfl) q470 hz1 dX0_notes_1 ?_
  refine JR_aload_n (pc := 4) (k := 0) (i := 0) (o := some this) G rfl rfl dX0_notes_4 ?_
  refine JR_gI (pc := 5) (k := 24) G cl_X0 in_X0 (by decide) (by decide) rfl (Or.inl rfl) q477 hz1 dX0_notes_5 ?_
  refine JR_aload_n (pc := 8) (k := 0) (i := 0) (o := some this) G rfl rfl dX0_notes_8 ?_
  refine JR_gI (pc := 9) (k := 25) G cl_X0 in_X0 (by decide) (by decide) rfl (Or.inl rfl) q481 hz1 dX0_notes_9 ?_
  refine J_bd (fun q2 hq2 => ?_)
  refine JW_iastore (pc := 12) G hq2 (fun _ => rfl) dX0_notes_12 ?_
  refine J_nmD (fun d3 hd3 => ?_)
  refine JR_aload_n (pc := 13) (k := 0) (i := 0) (o := some this) G rfl rfl dX0_notes_13 ?_
  refine JR_gR (pc := 14) (k := 18) G cl_X0 in_X0 (by decide) (by decide) rfl (Or.inl rfl) q471 hz1 dX0_notes_14 ?_
  refine JR_aload_n (pc := 17) (k := 0) (i := 0) (o := some this) G rfl rfl dX0_notes_17 ?_
  refine JR_gI (pc := 18) (k := 24) G cl_X0 in_X0 (by decide) (by decide) rfl (Or.inl rfl) q477 hz1 dX0_notes_18 ?_
  refine JR_iload_n (pc := 21) (k := 1) (i := 1) G rfl rfl dX0_notes_21 ?_
  refine J_bd (fun q4 hq4 => ?_)
  refine JW_iastore (pc := 22) G hq4 (fun _ => rfl) dX0_notes_22 ?_
  refine J_nmD (fun d5 hd5 => ?_)
  refine JR_aload_n (pc := 23) (k := 0) (i := 0) (o := some this) G rfl rfl dX0_notes_23 ?_
  refine JR_gR (pc := 24) (k := 19) G cl_X0 in_X0 (by decide) (by decide) rfl (Or.inl rfl) q472 hz1 dX0_notes_24 ?_
  refine JR_aload_n (pc := 27) (k := 0) (i := 0) (o := some this) G rfl rfl dX0_notes_27 ?_
  refine JR_gI (pc := 28) (k := 24) G cl_X0 in_X0 (by decide) (by decide) rfl (Or.inl rfl) q477 hz1 dX0_notes_28 ?_
  refine JR_iload_n (pc := 31) (k := 2) (i := 2) G rfl rfl dX0_notes_31 ?_
  refine J_bd (fun q6 hq6 => ?_)
  refine JW_iastore (pc := 32) G hq6 (fun _ => rfl) dX0_notes_32 ?_
  refine J_nmD (fun d7 hd7 => ?_)
  refine JR_aload_n (pc := 33) (k := 0) (i := 0) (o := some this) G rfl rfl dX0_notes_33 ?_
  refine JR_gR (pc := 34) (k := 20) G cl_X0 in_X0 (by decide) (by decide) rfl (Or.inl rfl) q473 hz1 dX0_notes_34 ?_
  refine JR_aload_n (pc := 37) (k := 0) (i := 0) (o := some this) G rfl rfl dX0_notes_37 ?_
  refine JR_gI (pc := 38) (k := 24) G cl_X0 in_X0 (by decide) (by decide) rfl (Or.inl rfl) q477 hz1 dX0_notes_38 ?_
  refine JR_iload_n (pc := 41) (k := 3) (i := 3) G rfl rfl dX0_notes_41 ?_
  refine J_bd (fun q8 hq8 => ?_)
  refine JW_iastore (pc := 42) G hq8 (fun _ => rfl) dX0_notes_42 ?_
  refine J_nmD (fun d9 hd9 => ?_)
  refine JR_aload_n (pc := 43) (k := 0) (i := 0) (o := some this) G rfl rfl dX0_notes_43 ?_
  refine JR_dup (pc := 44) G (rf_cat _) dX0_notes_44 ?_
  refine JR_gI (pc := 45) (k := 24) G cl_X0 in_X0 (by decide) (by decide) rfl (Or.inl rfl) q477 hz1 dX0_notes_45 ?_
  refine JR_iconst (pc := 48) G ci_1 dX0_notes_48 ?_
  refine JR_iadd (pc := 49) G dX0_notes_49 ?_
  refine JW_pI (pc := 50) (k := 24) G cl_X0 in_X0 tyX0_ok nmX0 (by decide) (by decide) rfl (Or.inl rfl) rfl q477 rfl rfl hz1 (fun _ => rfl) dX0_notes_50 ?_
  refine J_nmD (fun d10 hd10 => ?_)
  refine JR_aload_n (pc := 53) (k := 0) (i := 0) (o := some this) G rfl rfl dX0_notes_53 ?_
  refine JR_gR (pc := 54) (k := 11) G cl_X0 in_X0 (by decide) (by decide) rfl (Or.inl rfl) q462 hz1 dX0_notes_54 ?_
  refine JR_iload_n (pc := 57) (k := 3) (i := 3) G rfl rfl dX0_notes_57 ?_
  refine J_bd (fun q11 hq11 => ?_)
  refine JR_aaload (pc := 58) (t := 6) G (by decide) rfl hq11 dX0_notes_58 ?_
  refine JR_iload_n (pc := 59) (k := 2) (i := 2) G rfl rfl dX0_notes_59 ?_
  refine JR_iload_n (pc := 60) (k := 1) (i := 1) G rfl rfl dX0_notes_60 ?_
  refine JR_bipush (pc := 61) (v := 6) G (by decide) dX0_notes_61 ?_
  refine JR_icmp_ge (pc := 63) (tgt := 77) G dX0_notes_63 (by decide) (fun c14 => ?_) (fun c14 => ?_)
  · refine JR_iload_n (pc := 77) (k := 2) (i := 2) G rfl rfl dX0_notes_77 ?_
    exact hWs_notes_b78 p2 p2 (S.2.1 q11.1 q11.2) S d10
  · refine JR_aload_n (pc := 66) (k := 0) (i := 0) (o := some this) G rfl rfl dX0_notes_66 ?_
    refine JR_iload_n (pc := 67) (k := 2) (i := 2) G rfl rfl dX0_notes_67 ?_
    refine JPV_R (pc := 68) (as := [.int p2]) (st' := [.int p2, va_rf (S.2.1 q11.1 q11.2)]) (o := some this) G (Ws_taskOf_fn this p2 S d10) (JC_V (n := 1) G hRm cl_X0 q431 q433 qs2 q137 q434 ⟨rfl, dd_X0_taskOf⟩ ⟨by decide, by decide⟩ dX0_notes_68 hz1 rfl (Nat.le_of_ble_eq_true rfl)) rfl (fun r12 hr12 => ?_)
    refine J_bd (fun z13 hz13 => ?_)
    refine JR_gIN (pc := 71) (k := 0) G cl_X13 in_X13 (by decide) (by decide) rfl (Or.inl rfl) q819 hz13 dX0_notes_71 ?_
    refine JR_goto (pc := 74) (tgt := 78) G dX0_notes_74 (by decide) ?_
    exact hWs_notes_b78 (d10.1 z13 0) p2 (S.2.1 q11.1 q11.2) S d10

def Ws_faults_b70 (this : Nat) (p1 : Int32) (p2 : Int32) (s0 : Int32) (s1 : Int32) (S : Sp) (d : Dt) : Option ((Unit ⊕ Nat) × Sp × Dt) :=
  (some (s1 + s0)).bind fun x13 =>
  (isK S 0 (some this)).bind fun z14 =>
  bindE (Ws_notes this p1 p2 (imin 3 x13) S d) (fun v9 S9 d9 => some (.inr v9, S9, d9)) fun _ S15 d16 =>
  some (.inl (()), S15, d16)
def Ws_faults (this : Nat) (p1 : Int32) (p2 : Int32) (S : Sp) (d : Dt) : Option ((Unit ⊕ Nat) × Sp × Dt) :=
  (isK S 0 (some this)).bind fun z1 =>
  (aix S 57 (S.2.1 z1 12) p2).bind fun q2 =>
  (some (S.2.1 q2.1 q2.2)).bind fun x3 =>
  (isK S 8 x3).bind fun z4 =>
  (some (dI d z4 10 ((d.1 z4 10) + 1))).bind fun d5 =>
  (some (dI d5 z4 11 0)).bind fun d6 =>
  (some (dI d6 z4 16 1)).bind fun d7 =>
  (gf (FP.fmul (d7.2.1 z4 17) 1056964608)).bind fun g8 =>
  (some (dF d7 z4 17 g8)).bind fun d9 =>
  (isK S 1 (S.2.1 z1 0)).bind fun z10 =>
  (gf (FP.fdiv (FP.i2f (d9.1 z10 5)) 1092616192)).bind fun g11 =>
  Ws_faults_b70 this p1 p2 (if 0 ≤ (Op.cmpValue (FP.fcmp (d9.2.1 z4 17) g11) .g) then 0 else 1) ((d9.1 z4 10) - 1) S d9
set_option maxHeartbeats 4000000 in
theorem Ws_faults_fn (this : Nat) (p1 : Int32) (p2 : Int32) (S : Sp) (d : Dt) : FnX yX0_faults (ws_ yX0_faults cX0_faults 5 none) 10 225 [va_rf (some this), .int p1, .int p2] S d rvU "WatchStack$Reset" (Ws_faults this p1 p2 S d) := by
  refine FnX.ofJ (own := RX0) (lv := [(0, va_rf (some this)), (1, .int p1), (2, .int p2)]) (by decide +kernel) rfl (by simp [cat_i, cat_l, cat_f, cat_d, rf_cat]) (by simp [lv_args, cat_i, cat_l, cat_f, cat_d, rf_cat]) ?_
  intro X F G hRm hR
  have hWs_faults_b70 : ∀ (s0 : Int32) (s1 : Int32) (S : Sp) (d : Dt), J X F Λa S d 70 [(0, va_rf (some this)), (1, .int p1), (2, .int p2)] [.int s0, .int s1] (Ws_faults_b70 this p1 p2 s0 s1 S d) := by
    intro s0 s1 S d
    unfold Ws_faults_b70
    refine JR_iadd (pc := 70) G dX0_faults_70 ?_
    refine J_nm (fun x13 hx13 => ?_)
    refine JR_istore (pc := 71) (i := 4) (lv' := [(4, .int x13), (0, va_rf (some this)), (1, .int p1), (2, .int p2)]) G (by decide) rfl dX0_faults_71 ?_
    refine JR_aload_n (pc := 73) (k := 0) (i := 0) (o := some this) G rfl rfl dX0_faults_73 ?_
    refine JR_iload_n (pc := 74) (k := 1) (i := 1) G rfl rfl dX0_faults_74 ?_
    refine JR_iload_n (pc := 75) (k := 2) (i := 2) G rfl rfl dX0_faults_75 ?_
    refine JR_iconst (pc := 76) G ci_3 dX0_faults_76 ?_
    refine JR_iload (pc := 77) (i := 4) G rfl dX0_faults_77 ?_
    refine JR_min (pc := 79) G hRm q1203 q610 q154 q611 ⟨by decide, by decide⟩ (Nat.le_of_ble_eq_true rfl) dX0_faults_79 ?_
    refine J_bd (fun z14 hz14 => ?_)
    refine JXV_U (pc := 82) (as := [.int p1, .int p2, .int (imin 3 x13)]) (st' := []) (o := some this) G (Ws_notes_fn this p1 p2 (imin 3 x13) S d) (JXC_V (n := 3) G hRm cl_X0 q1204 q1206 qs40 q137 q1207 ⟨rfl, dd_X0_notes⟩ ⟨by decide, by decide⟩ dX0_faults_82 hz14 rfl (Nat.le_of_ble_eq_true rfl)) rfl (fun _ _ _ => rfl) (fun _ S15 d16 hd16 => ?_) (fun v9 S9 d9 h9 => JX_out G hR)
    exact JRX_vret (pc := 85) G hR dX0_faults_85
  unfold Ws_faults
  refine JR_aload_n (pc := 0) (k := 0) (i := 0) (o := some this) G rfl rfl dX0_faults_0 ?_
  refine J_bd (fun z1 hz1 => ?_)
  refine JR_gR (pc := 1) (k := 12) G cl_X0 in_X0 (by decide) (by decide) rfl (Or.inl rfl) q464 hz1 dX0_faults_1 ?_
  refine JR_iload_n (pc := 4) (k := 2) (i := 2) G rfl rfl dX0_faults_4 ?_
  refine J_bd (fun q2 hq2 => ?_)
  refine JR_aaload (pc := 5) (t := 7) G (by decide) rfl hq2 dX0_faults_5 ?_
  refine J_nmR (fun x3 hx3 => ?_)
  refine JR_astore_n (pc := 6) (k := 3) (i := 3) (lv' := [(3, va_rf x3), (0, va_rf (some this)), (1, .int p1), (2, .int p2)]) G rfl (by decide) rfl dX0_faults_6 ?_
  refine JR_aload_n (pc := 7) (k := 3) (i := 3) (o := x3) G rfl rfl dX0_faults_7 ?_
  refine JR_dup (pc := 8) G (rf_cat _) dX0_faults_8 ?_
  refine J_bd (fun z4 hz4 => ?_)
  refine JR_gIN (pc := 9) (k := 10) G cl_X9 in_X9 (by decide) (by decide) rfl (Or.inl rfl) q359 hz4 dX0_faults_9 ?_
  refine JR_iconst (pc := 12) G ci_1 dX0_faults_12 ?_
  refine JR_iadd (pc := 13) G dX0_faults_13 ?_
  refine JW_pIN (pc := 14) (k := 10) G cl_X9 in_X9 tyX9_ok nmX9 (by decide) (by decide) rfl (Or.inl rfl) rfl q359 rfl rfl hz4 (fun _ => rfl) dX0_faults_14 ?_
  refine J_nmD (fun d5 hd5 => ?_)
  refine JR_aload_n (pc := 17) (k := 3) (i := 3) (o := x3) G rfl rfl dX0_faults_17 ?_
  refine JR_iconst (pc := 18) G ci_0 dX0_faults_18 ?_
  refine JW_pIN (pc := 19) (k := 11) G cl_X9 in_X9 tyX9_ok nmX9 (by decide) (by decide) rfl (Or.inl rfl) rfl q361 rfl rfl hz4 (fun _ => rfl) dX0_faults_19 ?_
  refine J_nmD (fun d6 hd6 => ?_)
  refine JR_aload_n (pc := 22) (k := 3) (i := 3) (o := x3) G rfl rfl dX0_faults_22 ?_
  refine JR_iconst (pc := 23) G ci_1 dX0_faults_23 ?_
  refine JW_pIN (pc := 24) (k := 16) G cl_X9 in_X9 tyX9_ok nmX9 (by decide) (by decide) rfl (Or.inl rfl) rfl q371 rfl rfl hz4 (fun _ => rfl) dX0_faults_24 ?_
  refine J_nmD (fun d7 hd7 => ?_)
  refine JR_aload_n (pc := 27) (k := 3) (i := 3) (o := x3) G rfl rfl dX0_faults_27 ?_
  refine JR_aload_n (pc := 28) (k := 3) (i := 3) (o := x3) G rfl rfl dX0_faults_28 ?_
  refine JR_gFN (pc := 29) (k := 17) G cl_X9 in_X9 (by decide) (by decide) rfl (Or.inl rfl) q373 hz4 dX0_faults_29 ?_
  refine JR_ldcwF (pc := 32) G q1201 dX0_faults_32 ?_
  refine J_bd (fun g8 hg8 => ?_)
  refine JR_fmul (pc := 35) G hg8 dX0_faults_35 ?_
  refine JW_pFN (pc := 36) (k := 17) G cl_X9 in_X9 tyX9_ok nmX9 (by decide) (by decide) rfl (Or.inl rfl) rfl q373 hz4 (fun _ => rfl) dX0_faults_36 ?_
  refine J_nmD (fun d9 hd9 => ?_)
  refine JR_aload_n (pc := 39) (k := 3) (i := 3) (o := x3) G rfl rfl dX0_faults_39 ?_
  refine JR_gIN (pc := 40) (k := 10) G cl_X9 in_X9 (by decide) (by decide) rfl (Or.inl rfl) q359 hz4 dX0_faults_40 ?_
  refine JR_iconst (pc := 43) G ci_1 dX0_faults_43 ?_
  refine JR_isub (pc := 44) G dX0_faults_44 ?_
  refine JR_aload_n (pc := 45) (k := 3) (i := 3) (o := x3) G rfl rfl dX0_faults_45 ?_
  refine JR_gFN (pc := 46) (k := 17) G cl_X9 in_X9 (by decide) (by decide) rfl (Or.inl rfl) q373 hz4 dX0_faults_46 ?_
  refine JR_aload_n (pc := 49) (k := 0) (i := 0) (o := some this) G rfl rfl dX0_faults_49 ?_
  refine JR_gR (pc := 50) (k := 0) G cl_X0 in_X0 (by decide) (by decide) rfl (Or.inl rfl) q451 hz1 dX0_faults_50 ?_
  refine J_bd (fun z10 hz10 => ?_)
  refine JR_gIN (pc := 53) (k := 5) G cl_X1 in_X1 (by decide) (by decide) rfl (Or.inl rfl) q233 hz10 dX0_faults_53 ?_
  refine JR_i2f (pc := 56) G dX0_faults_56 ?_
  refine JR_ldcwF (pc := 57) G q1202 dX0_faults_57 ?_
  refine J_bd (fun g11 hg11 => ?_)
  refine JR_fdiv (pc := 60) G hg11 dX0_faults_60 ?_
  refine JR_fcmp (pc := 61) G dX0_faults_61 ?_
  refine J_eq (r' := if 0 ≤ (Op.cmpValue (FP.fcmp (d9.2.1 z4 17) g11) .g) then Ws_faults_b70 this p1 p2 0 ((d9.1 z4 10) - 1) S d9 else Ws_faults_b70 this p1 p2 1 ((d9.1 z4 10) - 1) S d9) (by split <;> rfl) ?_
  refine JR_if_ge (pc := 62) (tgt := 69) G dX0_faults_62 (by decide) (fun c12 => ?_) (fun c12 => ?_)
  · refine JR_iconst (pc := 69) G ci_0 dX0_faults_69 ?_
    refine J_sub [1, 2, 3] rfl ?_
    exact hWs_faults_b70 0 ((d9.1 z4 10) - 1) S d9
  · refine JR_iconst (pc := 65) G ci_1 dX0_faults_65 ?_
    refine JR_goto (pc := 66) (tgt := 70) G dX0_faults_66 (by decide) ?_
    refine J_sub [1, 2, 3] rfl ?_
    exact hWs_faults_b70 1 ((d9.1 z4 10) - 1) S d9

def Ws_sees_b21 (this : Nat) (p1 : Int32) (p2 : Int32) (S : Sp) (d : Dt) : Option (Unit × Dt) :=
  (isK S 0 (some this)).bind fun z5 =>
  (some (dI d z5 30 ((d.1 z5 30) - 1))).bind fun d6 =>
  some ((), d6)
def Ws_sees (this : Nat) (p1 : Int32) (p2 : Int32) (S : Sp) (d : Dt) : Option (Unit × Dt) :=
  (isK S 0 (some this)).bind fun z1 =>
  if p1 = (d.1 z1 29) then
    if ¬ (d.1 z1 30) = 0 then
      Ws_sees_b21 this p1 p2 S d
    else
      (some (dI d z1 31 p2)).bind fun d2 =>
      Ws_sees_b21 this p1 p2 S d2
  else
    some ((), d)
set_option maxHeartbeats 4000000 in
theorem Ws_sees_fn (this : Nat) (p1 : Int32) (p2 : Int32) (S : Sp) (d : Dt) : Fn yX0_sees (ws_ yX0_sees cX0_sees 3 none) 0 0 [va_rf (some this), .int p1, .int p2] S d rvU Λw (Ws_sees this p1 p2 S d) := by
  refine Fn.ofJ (own := RX0) (lv := [(0, va_rf (some this)), (1, .int p1), (2, .int p2)]) (by decide +kernel) rfl (by simp [cat_i, cat_l, cat_f, cat_d, rf_cat]) (by simp [lv_args, cat_i, cat_l, cat_f, cat_d, rf_cat]) ?_
  intro X F G hRm hR hI
  have hWs_sees_b21 : ∀ (d : Dt), J X F Λw S d 21 [(0, va_rf (some this)), (1, .int p1), (2, .int p2)] [] (Ws_sees_b21 this p1 p2 S d) := by
    intro d
    unfold Ws_sees_b21
    refine JR_aload_n (pc := 21) (k := 0) (i := 0) (o := some this) G rfl rfl dX0_sees_21 ?_
    refine JR_dup (pc := 22) G (rf_cat _) dX0_sees_22 ?_
    refine J_bd (fun z5 hz5 => ?_)
    refine JR_gI (pc := 23) (k := 30) G cl_X0 in_X0 (by decide) (by decide) rfl (Or.inl rfl) q488 hz5 dX0_sees_23 ?_
    refine JR_iconst (pc := 26) G ci_1 dX0_sees_26 ?_
    refine JR_isub (pc := 27) G dX0_sees_27 ?_
    refine JW_pI (pc := 28) (k := 30) G cl_X0 in_X0 tyX0_ok nmX0 (by decide) (by decide) rfl (Or.inl rfl) rfl q488 rfl rfl hz5 (fun _ => rfl) dX0_sees_28 ?_
    refine J_nmD (fun d6 hd6 => ?_)
    exact JR_vret (pc := 31) G hR dX0_sees_31 rfl rfl
  unfold Ws_sees
  refine JR_iload_n (pc := 0) (k := 1) (i := 1) G rfl rfl dX0_sees_0 ?_
  refine JR_aload_n (pc := 1) (k := 0) (i := 0) (o := some this) G rfl rfl dX0_sees_1 ?_
  refine J_bd (fun z1 hz1 => ?_)
  refine JR_gI (pc := 2) (k := 29) G cl_X0 in_X0 (by decide) (by decide) rfl (Or.inl rfl) q487 hz1 dX0_sees_2 ?_
  refine JR_icmp_eq (pc := 5) (tgt := 9) G dX0_sees_5 (by decide) (fun c4 => ?_) (fun c4 => ?_)
  · refine JR_aload_n (pc := 9) (k := 0) (i := 0) (o := some this) G rfl rfl dX0_sees_9 ?_
    refine JR_gI (pc := 10) (k := 30) G cl_X0 in_X0 (by decide) (by decide) rfl (Or.inl rfl) q488 hz1 dX0_sees_10 ?_
    refine JR_if_ne (pc := 13) (tgt := 21) G dX0_sees_13 (by decide) (fun c3 => ?_) (fun c3 => ?_)
    · exact hWs_sees_b21 d
    · refine JR_aload_n (pc := 16) (k := 0) (i := 0) (o := some this) G rfl rfl dX0_sees_16 ?_
      refine JR_iload_n (pc := 17) (k := 2) (i := 2) G rfl rfl dX0_sees_17 ?_
      refine JW_pI (pc := 18) (k := 31) G cl_X0 in_X0 tyX0_ok nmX0 (by decide) (by decide) rfl (Or.inl rfl) rfl q489 rfl rfl hz1 (fun _ => rfl) dX0_sees_18 ?_
      refine J_nmD (fun d2 hd2 => ?_)
      exact hWs_sees_b21 d2
  · exact JR_vret (pc := 8) G hR dX0_sees_8 rfl rfl

def Li_marks_b25 (this : Nat) (p1 : UInt32) (S : Sp) (s0 : UInt32) (s1 : Option Nat) (d : Dt) : Option (Unit × Dt) :=
  (isK S 8 s1).bind fun z4 =>
  (some (dF d z4 18 s0)).bind fun d5 =>
  (isK S 8 (some this)).bind fun z6 =>
  (gd (FP.f2d p1)).bind fun g7 =>
  (gd (FP.dadd (d5.2.2 z6 19) g7)).bind fun g8 =>
  (some (dD d5 z6 19 g8)).bind fun d9 =>
  (some (dI d9 z6 15 ((d9.1 z6 15) + 1))).bind fun d10 =>
  some ((), d10)
def Li_marks_b17 (this : Nat) (p1 : UInt32) (S : Sp) (s0 : Option Nat) (d : Dt) : Option (Unit × Dt) :=
  Li_marks_b25 this p1 S p1 s0 d
def Li_marks (this : Nat) (p1 : UInt32) (S : Sp) (d : Dt) : Option (Unit × Dt) :=
  (isK S 8 (some this)).bind fun z1 =>
  if (d.1 z1 15) = 0 then
    Li_marks_b17 this p1 S (some this) d
  else
    if 0 ≤ (Op.cmpValue (FP.fcmp p1 (d.2.1 z1 18)) .g) then
      Li_marks_b25 this p1 S (d.2.1 z1 18) (some this) d
    else
      Li_marks_b17 this p1 S (some this) d
set_option maxHeartbeats 4000000 in
theorem Li_marks_fn (this : Nat) (p1 : UInt32) (S : Sp) (d : Dt) : Fn yX9_marks (ws_ yX9_marks cX9_marks 2 none) 0 0 [va_rf (some this), .float p1] S d rvU Λw (Li_marks this p1 S d) := by
  refine Fn.ofJ (own := RX9) (lv := [(0, va_rf (some this)), (1, .float p1)]) (by decide +kernel) rfl (by simp [cat_i, cat_l, cat_f, cat_d, rf_cat]) (by simp [lv_args, cat_i, cat_l, cat_f, cat_d, rf_cat]) ?_
  intro X F G hRm hR hI
  have hLi_marks_b25 : ∀ (s0 : UInt32) (s1 : Option Nat) (d : Dt), J X F Λw S d 25 [(0, va_rf (some this)), (1, .float p1)] [.float s0, va_rf s1] (Li_marks_b25 this p1 S s0 s1 d) := by
    intro s0 s1 d
    unfold Li_marks_b25
    refine J_bd (fun z4 hz4 => ?_)
    refine JW_pF (pc := 25) (k := 18) G cl_X9 in_X9 tyX9_ok nmX9 (by decide) (by decide) rfl (Or.inl rfl) rfl q374 hz4 (fun _ => rfl) dX9_marks_25 ?_
    refine J_nmD (fun d5 hd5 => ?_)
    refine JR_aload_n (pc := 28) (k := 0) (i := 0) (o := some this) G rfl rfl dX9_marks_28 ?_
    refine JR_dup (pc := 29) G (rf_cat _) dX9_marks_29 ?_
    refine J_bd (fun z6 hz6 => ?_)
    refine JR_gD (pc := 30) (k := 19) G cl_X9 in_X9 (by decide) (by decide) rfl (Or.inl rfl) q376 hz6 dX9_marks_30 ?_
    refine JR_fload_n (pc := 33) (k := 1) (i := 1) G rfl rfl dX9_marks_33 ?_
    refine J_bd (fun g7 hg7 => ?_)
    refine JR_f2d (pc := 34) G hg7 dX9_marks_34 ?_
    refine J_bd (fun g8 hg8 => ?_)
    refine JR_dadd (pc := 35) G hg8 dX9_marks_35 ?_
    refine JW_pD (pc := 36) (k := 19) G cl_X9 in_X9 tyX9_ok nmX9 (by decide) (by decide) rfl (Or.inl rfl) rfl q376 hz6 (fun _ => rfl) dX9_marks_36 ?_
    refine J_nmD (fun d9 hd9 => ?_)
    refine JR_aload_n (pc := 39) (k := 0) (i := 0) (o := some this) G rfl rfl dX9_marks_39 ?_
    refine JR_dup (pc := 40) G (rf_cat _) dX9_marks_40 ?_
    refine JR_gI (pc := 41) (k := 15) G cl_X9 in_X9 (by decide) (by decide) rfl (Or.inl rfl) q368 hz6 dX9_marks_41 ?_
    refine JR_iconst (pc := 44) G ci_1 dX9_marks_44 ?_
    refine JR_iadd (pc := 45) G dX9_marks_45 ?_
    refine JW_pI (pc := 46) (k := 15) G cl_X9 in_X9 tyX9_ok nmX9 (by decide) (by decide) rfl (Or.inl rfl) rfl q368 rfl rfl hz6 (fun _ => rfl) dX9_marks_46 ?_
    refine J_nmD (fun d10 hd10 => ?_)
    exact JR_vret (pc := 49) G hR dX9_marks_49 rfl rfl
  have hLi_marks_b17 : ∀ (s0 : Option Nat) (d : Dt), J X F Λw S d 17 [(0, va_rf (some this)), (1, .float p1)] [va_rf s0] (Li_marks_b17 this p1 S s0 d) := by
    intro s0 d
    unfold Li_marks_b17
    refine JR_fload_n (pc := 17) (k := 1) (i := 1) G rfl rfl dX9_marks_17 ?_
    refine JR_goto (pc := 18) (tgt := 25) G dX9_marks_18 (by decide) ?_
    exact hLi_marks_b25 p1 s0 d
  unfold Li_marks
  refine JR_aload_n (pc := 0) (k := 0) (i := 0) (o := some this) G rfl rfl dX9_marks_0 ?_
  refine JR_aload_n (pc := 1) (k := 0) (i := 0) (o := some this) G rfl rfl dX9_marks_1 ?_
  refine J_bd (fun z1 hz1 => ?_)
  refine JR_gI (pc := 2) (k := 15) G cl_X9 in_X9 (by decide) (by decide) rfl (Or.inl rfl) q368 hz1 dX9_marks_2 ?_
  refine JR_if_eq (pc := 5) (tgt := 17) G dX9_marks_5 (by decide) (fun c3 => ?_) (fun c3 => ?_)
  · exact hLi_marks_b17 (some this) d
  · refine JR_fload_n (pc := 8) (k := 1) (i := 1) G rfl rfl dX9_marks_8 ?_
    refine JR_aload_n (pc := 9) (k := 0) (i := 0) (o := some this) G rfl rfl dX9_marks_9 ?_
    refine JR_gF (pc := 10) (k := 18) G cl_X9 in_X9 (by decide) (by decide) rfl (Or.inl rfl) q374 hz1 dX9_marks_10 ?_
    refine JR_fcmp (pc := 13) G dX9_marks_13 ?_
    refine JR_if_ge (pc := 14) (tgt := 21) G dX9_marks_14 (by decide) (fun c2 => ?_) (fun c2 => ?_)
    · refine JR_aload_n (pc := 21) (k := 0) (i := 0) (o := some this) G rfl rfl dX9_marks_21 ?_
      refine JR_gF (pc := 22) (k := 18) G cl_X9 in_X9 (by decide) (by decide) rfl (Or.inl rfl) q374 hz1 dX9_marks_22 ?_
      exact hLi_marks_b25 (d.2.1 z1 18) (some this) d
    · exact hLi_marks_b17 (some this) d

def Li_good_b72 (this : Nat) (p1 : Int32) (p2 : Int32) (p3 : Int32) (S : Sp) (d : Dt) : Option (Unit × Dt) :=
  (isK S 8 (some this)).bind fun z13 =>
  (some (dI d z13 1 0)).bind fun d14 =>
  (some (dI d14 z13 6 p1)).bind fun d15 =>
  (some (dI d15 z13 8 (irm ((13 * (d15.1 z13 8)) + 7) 64))).bind fun d16 =>
  some ((), d16)
def Li_good (this : Nat) (p1 : Int32) (p2 : Int32) (p3 : Int32) (S : Sp) (d : Dt) : Option (Unit × Dt) :=
  (isK S 8 (some this)).bind fun z1 =>
  (some (p1 - (d.1 z1 6))).bind fun x2 =>
  (some (dI d z1 12 ((d.1 z1 12) + 1))).bind fun d3 =>
  (some (dI d3 z1 13 p1)).bind fun d4 =>
  (some (dI d4 z1 14 ((d4.1 z1 14) + 1))).bind fun d5 =>
  (gf (FP.fsub FP.fconst1 (d5.2.1 z1 17))).bind fun g6 =>
  (gf (FP.fmul g6 1048576000)).bind fun g7 =>
  (gf (FP.fadd (d5.2.1 z1 17) g7)).bind fun g8 =>
  (some (dF d5 z1 17 g8)).bind fun d9 =>
  if ¬ (d9.1 z1 1) = 0 then
    Li_good_b72 this p1 p2 p3 S d9
  else
    (gf (FP.fdiv (FP.i2f (p3 - x2)) (FP.i2f (p3 - p2)))).bind fun g10 =>
    bind2 (Li_marks this g10 S d9) fun _ d11 =>
    Li_good_b72 this p1 p2 p3 S d11
set_option maxHeartbeats 4000000 in
theorem Li_good_fn (this : Nat) (p1 : Int32) (p2 : Int32) (p3 : Int32) (S : Sp) (d : Dt) : Fn yX9_good (ws_ yX9_good cX9_good 5 none) 1 21 [va_rf (some this), .int p1, .int p2, .int p3] S d rvU Λw (Li_good this p1 p2 p3 S d) := by
  refine Fn.ofJ (own := RX9) (lv := [(0, va_rf (some this)), (1, .int p1), (2, .int p2), (3, .int p3)]) (by decide +kernel) rfl (by simp [cat_i, cat_l, cat_f, cat_d, rf_cat]) (by simp [lv_args, cat_i, cat_l, cat_f, cat_d, rf_cat]) ?_
  intro X F G hRm hR hI
  have hLi_good_b72 : ∀ (d : Dt), J X F Λw S d 72 [(0, va_rf (some this)), (1, .int p1), (2, .int p2), (3, .int p3)] [] (Li_good_b72 this p1 p2 p3 S d) := by
    intro d
    unfold Li_good_b72
    refine JR_aload_n (pc := 72) (k := 0) (i := 0) (o := some this) G rfl rfl dX9_good_72 ?_
    refine JR_iconst (pc := 73) G ci_0 dX9_good_73 ?_
    refine J_bd (fun z13 hz13 => ?_)
    refine JW_pI (pc := 74) (k := 1) G cl_X9 in_X9 tyX9_ok nmX9 (by decide) (by decide) rfl (Or.inl rfl) rfl q340 rfl rfl hz13 (fun _ => rfl) dX9_good_74 ?_
    refine J_nmD (fun d14 hd14 => ?_)
    refine JR_aload_n (pc := 77) (k := 0) (i := 0) (o := some this) G rfl rfl dX9_good_77 ?_
    refine JR_iload_n (pc := 78) (k := 1) (i := 1) G rfl rfl dX9_good_78 ?_
    refine JW_pI (pc := 79) (k := 6) G cl_X9 in_X9 tyX9_ok nmX9 (by decide) (by decide) rfl (Or.inl rfl) rfl q350 rfl rfl hz13 (fun _ => rfl) dX9_good_79 ?_
    refine J_nmD (fun d15 hd15 => ?_)
    refine JR_aload_n (pc := 82) (k := 0) (i := 0) (o := some this) G rfl rfl dX9_good_82 ?_
    refine JR_bipush (pc := 83) (v := 13) G (by decide) dX9_good_83 ?_
    refine JR_aload_n (pc := 85) (k := 0) (i := 0) (o := some this) G rfl rfl dX9_good_85 ?_
    refine JR_gI (pc := 86) (k := 8) G cl_X9 in_X9 (by decide) (by decide) rfl (Or.inl rfl) q354 hz13 dX9_good_86 ?_
    refine JR_imul (pc := 89) G dX9_good_89 ?_
    refine JR_bipush (pc := 90) (v := 7) G (by decide) dX9_good_90 ?_
    refine JR_iadd (pc := 92) G dX9_good_92 ?_
    refine JR_bipush (pc := 93) (v := 64) G (by decide) dX9_good_93 ?_
    refine JR_irem (pc := 95) G (by decide) dX9_good_95 ?_
    refine JW_pI (pc := 96) (k := 8) G cl_X9 in_X9 tyX9_ok nmX9 (by decide) (by decide) rfl (Or.inl rfl) rfl q354 rfl rfl hz13 (fun _ => rfl) dX9_good_96 ?_
    refine J_nmD (fun d16 hd16 => ?_)
    exact JR_vret (pc := 99) G hR dX9_good_99 rfl rfl
  unfold Li_good
  refine JR_iload_n (pc := 0) (k := 1) (i := 1) G rfl rfl dX9_good_0 ?_
  refine JR_aload_n (pc := 1) (k := 0) (i := 0) (o := some this) G rfl rfl dX9_good_1 ?_
  refine J_bd (fun z1 hz1 => ?_)
  refine JR_gI (pc := 2) (k := 6) G cl_X9 in_X9 (by decide) (by decide) rfl (Or.inl rfl) q350 hz1 dX9_good_2 ?_
  refine JR_isub (pc := 5) G dX9_good_5 ?_
  refine J_nm (fun x2 hx2 => ?_)
  refine JR_istore (pc := 6) (i := 4) (lv' := [(4, .int x2), (0, va_rf (some this)), (1, .int p1), (2, .int p2), (3, .int p3)]) G (by decide) rfl dX9_good_6 ?_
  refine JR_aload_n (pc := 8) (k := 0) (i := 0) (o := some this) G rfl rfl dX9_good_8 ?_
  refine JR_dup (pc := 9) G (rf_cat _) dX9_good_9 ?_
  refine JR_gI (pc := 10) (k := 12) G cl_X9 in_X9 (by decide) (by decide) rfl (Or.inl rfl) q362 hz1 dX9_good_10 ?_
  refine JR_iconst (pc := 13) G ci_1 dX9_good_13 ?_
  refine JR_iadd (pc := 14) G dX9_good_14 ?_
  refine JW_pI (pc := 15) (k := 12) G cl_X9 in_X9 tyX9_ok nmX9 (by decide) (by decide) rfl (Or.inl rfl) rfl q362 rfl rfl hz1 (fun _ => rfl) dX9_good_15 ?_
  refine J_nmD (fun d3 hd3 => ?_)
  refine JR_aload_n (pc := 18) (k := 0) (i := 0) (o := some this) G rfl rfl dX9_good_18 ?_
  refine JR_iload_n (pc := 19) (k := 1) (i := 1) G rfl rfl dX9_good_19 ?_
  refine JW_pI (pc := 20) (k := 13) G cl_X9 in_X9 tyX9_ok nmX9 (by decide) (by decide) rfl (Or.inl rfl) rfl q364 rfl rfl hz1 (fun _ => rfl) dX9_good_20 ?_
  refine J_nmD (fun d4 hd4 => ?_)
  refine JR_aload_n (pc := 23) (k := 0) (i := 0) (o := some this) G rfl rfl dX9_good_23 ?_
  refine JR_dup (pc := 24) G (rf_cat _) dX9_good_24 ?_
  refine JR_gI (pc := 25) (k := 14) G cl_X9 in_X9 (by decide) (by decide) rfl (Or.inl rfl) q366 hz1 dX9_good_25 ?_
  refine JR_iconst (pc := 28) G ci_1 dX9_good_28 ?_
  refine JR_iadd (pc := 29) G dX9_good_29 ?_
  refine JW_pI (pc := 30) (k := 14) G cl_X9 in_X9 tyX9_ok nmX9 (by decide) (by decide) rfl (Or.inl rfl) rfl q366 rfl rfl hz1 (fun _ => rfl) dX9_good_30 ?_
  refine J_nmD (fun d5 hd5 => ?_)
  refine JR_aload_n (pc := 33) (k := 0) (i := 0) (o := some this) G rfl rfl dX9_good_33 ?_
  refine JR_aload_n (pc := 34) (k := 0) (i := 0) (o := some this) G rfl rfl dX9_good_34 ?_
  refine JR_gF (pc := 35) (k := 17) G cl_X9 in_X9 (by decide) (by decide) rfl (Or.inl rfl) q372 hz1 dX9_good_35 ?_
  refine JR_fconst1 (pc := 38) G dX9_good_38 ?_
  refine JR_aload_n (pc := 39) (k := 0) (i := 0) (o := some this) G rfl rfl dX9_good_39 ?_
  refine JR_gF (pc := 40) (k := 17) G cl_X9 in_X9 (by decide) (by decide) rfl (Or.inl rfl) q372 hz1 dX9_good_40 ?_
  refine J_bd (fun g6 hg6 => ?_)
  refine JR_fsub (pc := 43) G hg6 dX9_good_43 ?_
  refine JR_ldcF (pc := 44) G q1264 dX9_good_44 ?_
  refine J_bd (fun g7 hg7 => ?_)
  refine JR_fmul (pc := 46) G hg7 dX9_good_46 ?_
  refine J_bd (fun g8 hg8 => ?_)
  refine JR_fadd (pc := 47) G hg8 dX9_good_47 ?_
  refine JW_pF (pc := 48) (k := 17) G cl_X9 in_X9 tyX9_ok nmX9 (by decide) (by decide) rfl (Or.inl rfl) rfl q372 hz1 (fun _ => rfl) dX9_good_48 ?_
  refine J_nmD (fun d9 hd9 => ?_)
  refine JR_aload_n (pc := 51) (k := 0) (i := 0) (o := some this) G rfl rfl dX9_good_51 ?_
  refine JR_gI (pc := 52) (k := 1) G cl_X9 in_X9 (by decide) (by decide) rfl (Or.inl rfl) q340 hz1 dX9_good_52 ?_
  refine JR_if_ne (pc := 55) (tgt := 72) G dX9_good_55 (by decide) (fun c12 => ?_) (fun c12 => ?_)
  · refine J_sub [1, 2, 3, 4] rfl ?_
    exact hLi_good_b72 d9
  · refine JR_aload_n (pc := 58) (k := 0) (i := 0) (o := some this) G rfl rfl dX9_good_58 ?_
    refine JR_iload_n (pc := 59) (k := 3) (i := 3) G rfl rfl dX9_good_59 ?_
    refine JR_iload (pc := 60) (i := 4) G rfl dX9_good_60 ?_
    refine JR_isub (pc := 62) G dX9_good_62 ?_
    refine JR_i2f (pc := 63) G dX9_good_63 ?_
    refine JR_iload_n (pc := 64) (k := 3) (i := 3) G rfl rfl dX9_good_64 ?_
    refine JR_iload_n (pc := 65) (k := 2) (i := 2) G rfl rfl dX9_good_65 ?_
    refine JR_isub (pc := 66) G dX9_good_66 ?_
    refine JR_i2f (pc := 67) G dX9_good_67 ?_
    refine J_bd (fun g10 hg10 => ?_)
    refine JR_fdiv (pc := 68) G hg10 dX9_good_68 ?_
    refine JQV_U (pc := 69) (as := [.float g10]) (st' := []) (o := some this) G (Li_marks_fn this g10 S d9) (JC_V (n := 1) G hRm cl_X9 q1265 q1267 qs42 q149 q1268 ⟨rfl, dd_X9_marks⟩ ⟨by decide, by decide⟩ dX9_good_69 hz1 rfl (Nat.le_of_ble_eq_true rfl)) rfl (fun _ _ => rfl) (fun _ d11 hd11 => ?_)
    refine J_sub [1, 2, 3, 4] rfl ?_
    exact hLi_good_b72 d11

def Ws_kicks_b62 (this : Nat) (p1 : Int32) (p2 : Option Nat) (p3 : Int32) (s0 : Int32) (S : Sp) (d : Dt) : Option ((Unit ⊕ Nat) × Sp × Dt) :=
  if s0 = 0 then
    (isK S 0 (some this)).bind fun z10 =>
    (isK S 8 p2).bind fun z11 =>
    bind2 (Ws_sees this p1 ((d.1 z10 25) - (d.1 z11 6)) S d) fun _ d12 =>
    (aix S 50 (S.2.1 z10 21) p1).bind fun q13 =>
    (aix S 50 (S.2.1 z10 22) p1).bind fun q14 =>
    bind2 (Li_good z11 (d12.1 z10 25) (d12.1 q13.1 q13.2) (d12.1 q14.1 q14.2) S d12) fun _ d15 =>
    some (.inl (()), S, d15)
  else
    (isK S 0 (some this)).bind fun z16 =>
    bindE (Ws_faults this s0 p1 S d) (fun v9 S9 d9 => some (.inr v9, S9, d9)) fun _ S17 d18 =>
    some (.inl (()), S17, d18)
def Ws_kicks_b61 (this : Nat) (p1 : Int32) (p2 : Option Nat) (p3 : Int32) (S : Sp) (d : Dt) : Option ((Unit ⊕ Nat) × Sp × Dt) :=
  Ws_kicks_b62 this p1 p2 p3 0 S d
def Ws_kicks (this : Nat) (p1 : Int32) (p2 : Option Nat) (p3 : Int32) (S : Sp) (d : Dt) : Option ((Unit ⊕ Nat) × Sp × Dt) :=
  (isK S 0 (some this)).bind fun z1 =>
  (isK S 8 p2).bind fun z2 =>
  (some (dI d z2 7 (d.1 z1 25))).bind fun d3 =>
  if p3 = 0 then
    (Ws_isWrong this p1 (d3.1 z2 2) S d3).bind fun r4 =>
    if r4 = 0 then
      if ¬ (d3.1 z2 1) = 0 then
        Ws_kicks_b61 this p1 p2 p3 S d3
      else
        (aix S 50 (S.2.1 z1 21) p1).bind fun q5 =>
        if (d3.1 q5.1 q5.2) ≤ ((d3.1 z1 25) - (d3.1 z2 6)) then
          Ws_kicks_b61 this p1 p2 p3 S d3
        else
          Ws_kicks_b62 this p1 p2 p3 1 S d3
    else
      Ws_kicks_b62 this p1 p2 p3 4 S d3
  else
    Ws_kicks_b62 this p1 p2 p3 3 S d3
set_option maxHeartbeats 4000000 in
theorem Ws_kicks_fn (this : Nat) (p1 : Int32) (p2 : Option Nat) (p3 : Int32) (S : Sp) (d : Dt) : FnX yX0_kicks (ws_ yX0_kicks cX0_kicks 5 none) 11 249 [va_rf (some this), .int p1, va_rf p2, .int p3] S d rvU "WatchStack$Reset" (Ws_kicks this p1 p2 p3 S d) := by
  refine FnX.ofJ (own := RX0) (lv := [(0, va_rf (some this)), (1, .int p1), (2, va_rf p2), (3, .int p3)]) (by decide +kernel) rfl (by simp [cat_i, cat_l, cat_f, cat_d, rf_cat]) (by simp [lv_args, cat_i, cat_l, cat_f, cat_d, rf_cat]) ?_
  intro X F G hRm hR
  have hWs_kicks_b62 : ∀ (s0 : Int32) (S : Sp) (d : Dt), J X F Λa S d 62 [(0, va_rf (some this)), (1, .int p1), (2, va_rf p2), (3, .int p3)] [.int s0] (Ws_kicks_b62 this p1 p2 p3 s0 S d) := by
    intro s0 S d
    unfold Ws_kicks_b62
    refine JR_istore (pc := 62) (i := 4) (lv' := [(4, .int s0), (0, va_rf (some this)), (1, .int p1), (2, va_rf p2), (3, .int p3)]) G (by decide) rfl dX0_kicks_62 ?_
    refine JR_iload (pc := 64) (i := 4) G rfl dX0_kicks_64 ?_
    refine JR_if_eq (pc := 66) (tgt := 77) G dX0_kicks_66 (by decide) (fun c19 => ?_) (fun c19 => ?_)
    · refine JR_aload_n (pc := 77) (k := 0) (i := 0) (o := some this) G rfl rfl dX0_kicks_77 ?_
      refine JR_iload_n (pc := 78) (k := 1) (i := 1) G rfl rfl dX0_kicks_78 ?_
      refine JR_aload_n (pc := 79) (k := 0) (i := 0) (o := some this) G rfl rfl dX0_kicks_79 ?_
      refine J_bd (fun z10 hz10 => ?_)
      refine JR_gI (pc := 80) (k := 25) G cl_X0 in_X0 (by decide) (by decide) rfl (Or.inl rfl) q481 hz10 dX0_kicks_80 ?_
      refine JR_aload_n (pc := 83) (k := 2) (i := 2) (o := p2) G rfl rfl dX0_kicks_83 ?_
      refine J_bd (fun z11 hz11 => ?_)
      refine JR_gIN (pc := 84) (k := 6) G cl_X9 in_X9 (by decide) (by decide) rfl (Or.inl rfl) q351 hz11 dX0_kicks_84 ?_
      refine JR_isub (pc := 87) G dX0_kicks_87 ?_
      refine JQV_U (pc := 88) (as := [.int p1, .int ((d.1 z10 25) - (d.1 z11 6))]) (st' := []) (o := some this) G (Ws_sees_fn this p1 ((d.1 z10 25) - (d.1 z11 6)) S d) (JC_V (n := 2) G hRm cl_X0 q1256 q1258 qs41 q137 q1259 ⟨rfl, dd_X0_sees⟩ ⟨by decide, by decide⟩ dX0_kicks_88 hz10 rfl (Nat.le_of_ble_eq_true rfl)) rfl (fun _ _ => rfl) (fun _ d12 hd12 => ?_)
      refine JR_aload_n (pc := 91) (k := 2) (i := 2) (o := p2) G rfl rfl dX0_kicks_91 ?_
      refine JR_aload_n (pc := 92) (k := 0) (i := 0) (o := some this) G rfl rfl dX0_kicks_92 ?_
      refine JR_gI (pc := 93) (k := 25) G cl_X0 in_X0 (by decide) (by decide) rfl (Or.inl rfl) q481 hz10 dX0_kicks_93 ?_
      refine JR_aload_n (pc := 96) (k := 0) (i := 0) (o := some this) G rfl rfl dX0_kicks_96 ?_
      refine JR_gR (pc := 97) (k := 21) G cl_X0 in_X0 (by decide) (by decide) rfl (Or.inl rfl) q474 hz10 dX0_kicks_97 ?_
      refine JR_iload_n (pc := 100) (k := 1) (i := 1) G rfl rfl dX0_kicks_100 ?_
      refine J_bd (fun q13 hq13 => ?_)
      refine JR_iaload (pc := 101) G hq13 dX0_kicks_101 ?_
      refine JR_aload_n (pc := 102) (k := 0) (i := 0) (o := some this) G rfl rfl dX0_kicks_102 ?_
      refine JR_gR (pc := 103) (k := 22) G cl_X0 in_X0 (by decide) (by decide) rfl (Or.inl rfl) q475 hz10 dX0_kicks_103 ?_
      refine JR_iload_n (pc := 106) (k := 1) (i := 1) G rfl rfl dX0_kicks_106 ?_
      refine J_bd (fun q14 hq14 => ?_)
      refine JR_iaload (pc := 107) G hq14 dX0_kicks_107 ?_
      refine J_stk (st' := [.int (d12.1 q14.1 q14.2), .int (d12.1 q13.1 q13.2), .int (d12.1 z10 25), va_rf (some z11)]) (by rw [(isK_at hz11).1]) ?_
      refine JQV_U (pc := 108) (as := [.int (d12.1 z10 25), .int (d12.1 q13.1 q13.2), .int (d12.1 q14.1 q14.2)]) (st' := []) (o := some z11) G (Li_good_fn z11 (d12.1 z10 25) (d12.1 q13.1 q13.2) (d12.1 q14.1 q14.2) S d12) (JC_V (n := 3) G hRm cl_X9 q1260 q1261 q1262 q149 q1263 ⟨rfl, dd_X9_good⟩ ⟨by decide, by decide⟩ dX0_kicks_108 (isK_s hz11) rfl (Nat.le_of_ble_eq_true rfl)) rfl (fun _ _ => rfl) (fun _ d15 hd15 => ?_)
      exact JRX_vret (pc := 111) G hR dX0_kicks_111
    · refine JR_aload_n (pc := 69) (k := 0) (i := 0) (o := some this) G rfl rfl dX0_kicks_69 ?_
      refine JR_iload (pc := 70) (i := 4) G rfl dX0_kicks_70 ?_
      refine JR_iload_n (pc := 72) (k := 1) (i := 1) G rfl rfl dX0_kicks_72 ?_
      refine J_bd (fun z16 hz16 => ?_)
      refine JXV_U (pc := 73) (as := [.int s0, .int p1]) (st' := []) (o := some this) G (Ws_faults_fn this s0 p1 S d) (JXC_V (n := 2) G hRm cl_X0 q1197 q1199 qs39 q137 q1200 ⟨rfl, dd_X0_faults⟩ ⟨by decide, by decide⟩ dX0_kicks_73 hz16 rfl (Nat.le_of_ble_eq_true rfl)) rfl (fun _ _ _ => rfl) (fun _ S17 d18 hd18 => ?_) (fun v9 S9 d9 h9 => JX_out G hR)
      exact JRX_vret (pc := 76) G hR dX0_kicks_76
  have hWs_kicks_b61 : ∀ (S : Sp) (d : Dt), J X F Λa S d 61 [(0, va_rf (some this)), (1, .int p1), (2, va_rf p2), (3, .int p3)] [] (Ws_kicks_b61 this p1 p2 p3 S d) := by
    intro S d
    unfold Ws_kicks_b61
    refine JR_iconst (pc := 61) G ci_0 dX0_kicks_61 ?_
    exact hWs_kicks_b62 0 S d
  unfold Ws_kicks
  refine JR_aload_n (pc := 0) (k := 2) (i := 2) (o := p2) G rfl rfl dX0_kicks_0 ?_
  refine JR_aload_n (pc := 1) (k := 0) (i := 0) (o := some this) G rfl rfl dX0_kicks_1 ?_
  refine J_bd (fun z1 hz1 => ?_)
  refine JR_gI (pc := 2) (k := 25) G cl_X0 in_X0 (by decide) (by decide) rfl (Or.inl rfl) q481 hz1 dX0_kicks_2 ?_
  refine J_bd (fun z2 hz2 => ?_)
  refine JW_pIN (pc := 5) (k := 7) G cl_X9 in_X9 tyX9_ok nmX9 (by decide) (by decide) rfl (Or.inl rfl) rfl q353 rfl rfl hz2 (fun _ => rfl) dX0_kicks_5 ?_
  refine J_nmD (fun d3 hd3 => ?_)
  refine JR_iload_n (pc := 8) (k := 3) (i := 3) G rfl rfl dX0_kicks_8 ?_
  refine JR_if_eq (pc := 9) (tgt := 16) G dX0_kicks_9 (by decide) (fun c9 => ?_) (fun c9 => ?_)
  · refine JR_aload_n (pc := 16) (k := 0) (i := 0) (o := some this) G rfl rfl dX0_kicks_16 ?_
    refine JR_iload_n (pc := 17) (k := 1) (i := 1) G rfl rfl dX0_kicks_17 ?_
    refine JR_aload_n (pc := 18) (k := 2) (i := 2) (o := p2) G rfl rfl dX0_kicks_18 ?_
    refine JR_gIN (pc := 19) (k := 2) G cl_X9 in_X9 (by decide) (by decide) rfl (Or.inl rfl) q343 hz2 dX0_kicks_19 ?_
    refine JPV_I (pc := 22) (as := [.int p1, .int (d3.1 z2 2)]) (st' := []) (o := some this) G (Ws_isWrong_fn this p1 (d3.1 z2 2) S d3) (JC_V (n := 2) G hRm cl_X0 q1193 q1195 qs38 q137 q1196 ⟨rfl, dd_X0_isWrong⟩ ⟨by decide, by decide⟩ dX0_kicks_22 hz1 rfl (Nat.le_of_ble_eq_true rfl)) rfl (fun r4 hr4 => ?_)
    refine JR_if_eq (pc := 25) (tgt := 32) G dX0_kicks_25 (by decide) (fun c8 => ?_) (fun c8 => ?_)
    · refine JR_aload_n (pc := 32) (k := 2) (i := 2) (o := p2) G rfl rfl dX0_kicks_32 ?_
      refine JR_gIN (pc := 33) (k := 1) G cl_X9 in_X9 (by decide) (by decide) rfl (Or.inl rfl) q341 hz2 dX0_kicks_33 ?_
      refine JR_if_ne (pc := 36) (tgt := 61) G dX0_kicks_36 (by decide) (fun c7 => ?_) (fun c7 => ?_)
      · exact hWs_kicks_b61 S d3
      · refine JR_aload_n (pc := 39) (k := 0) (i := 0) (o := some this) G rfl rfl dX0_kicks_39 ?_
        refine JR_gI (pc := 40) (k := 25) G cl_X0 in_X0 (by decide) (by decide) rfl (Or.inl rfl) q481 hz1 dX0_kicks_40 ?_
        refine JR_aload_n (pc := 43) (k := 2) (i := 2) (o := p2) G rfl rfl dX0_kicks_43 ?_
        refine JR_gIN (pc := 44) (k := 6) G cl_X9 in_X9 (by decide) (by decide) rfl (Or.inl rfl) q351 hz2 dX0_kicks_44 ?_
        refine JR_isub (pc := 47) G dX0_kicks_47 ?_
        refine JR_aload_n (pc := 48) (k := 0) (i := 0) (o := some this) G rfl rfl dX0_kicks_48 ?_
        refine JR_gR (pc := 49) (k := 21) G cl_X0 in_X0 (by decide) (by decide) rfl (Or.inl rfl) q474 hz1 dX0_kicks_49 ?_
        refine JR_iload_n (pc := 52) (k := 1) (i := 1) G rfl rfl dX0_kicks_52 ?_
        refine J_bd (fun q5 hq5 => ?_)
        refine JR_iaload (pc := 53) G hq5 dX0_kicks_53 ?_
        refine JR_icmp_ge (pc := 54) (tgt := 61) G dX0_kicks_54 (by decide) (fun c6 => ?_) (fun c6 => ?_)
        · exact hWs_kicks_b61 S d3
        · refine JR_iconst (pc := 57) G ci_1 dX0_kicks_57 ?_
          refine JR_goto (pc := 58) (tgt := 62) G dX0_kicks_58 (by decide) ?_
          exact hWs_kicks_b62 1 S d3
    · refine JR_iconst (pc := 28) G ci_4 dX0_kicks_28 ?_
      refine JR_goto (pc := 29) (tgt := 62) G dX0_kicks_29 (by decide) ?_
      exact hWs_kicks_b62 4 S d3
  · refine JR_iconst (pc := 12) G ci_3 dX0_kicks_12 ?_
    refine JR_goto (pc := 13) (tgt := 62) G dX0_kicks_13 (by decide) ?_
    exact hWs_kicks_b62 3 S d3

def Ws_works_2_b110 (this : Nat) (p1 : Int32) (p2 : Option Nat) (p3 : Int32) (s0 : Int32) (s1 : Option Nat) (s2 : Int32) (s3 : Option Nat) (S : Sp) (d : Dt) : Option ((Unit ⊕ Nat) × Sp × Dt) :=
  (isK S 0 s3).bind fun z23 =>
  bindE (Ws_kicks z23 s2 s1 s0 S d) (fun v9 S9 d9 => some (.inr v9, S9, d9)) fun _ S24 d25 =>
  some (.inl (()), S24, d25)
def Ws_works_2_b91 (this : Nat) (p1 : Int32) (p2 : Option Nat) (p3 : Int32) (v5 : Int32) (S : Sp) (d : Dt) : Option ((Unit ⊕ Nat) × Sp × Dt) :=
  (isK S 8 p2).bind fun z20 =>
  (some (dI d z20 0 0)).bind fun d21 =>
  Ws_works_2_b110 this p1 p2 p3 (if v5 = ((-1)) then 0 else 1) p2 p1 (some this) S d21
def Ws_works_2_b33 (this : Nat) (p1 : Int32) (p2 : Option Nat) (p3 : Int32) (s0 : Int32) (s1 : Int32) (S : Sp) (d : Dt) : Option ((Unit ⊕ Nat) × Sp × Dt) :=
  (some (s1 * s0)).bind fun x8 =>
  if p3 = 0 then
    some (.inl (()), S, d)
  else
    (isK S 8 p2).bind fun z9 =>
    if x8 ≤ (d.1 z9 4) then
      (isK S 0 (some this)).bind fun z10 =>
      (Ws_taskOf this p1 S d).bind fun r11 =>
      (isK S 12 r11).bind fun z12 =>
      (Ta_next z12 (d.1 z9 3) (d.1 z9 2) S d).bind fun r13 =>
      if p3 = 2 then
        Ws_works_2_b91 this p1 p2 p3 r13 S d
      else
        if r13 = ((-1)) then
          Ws_works_2_b91 this p1 p2 p3 r13 S d
        else
          (some (dI d z9 3 r13)).bind fun d14 =>
          (some (dI d14 z9 4 0)).bind fun d15 =>
          some (.inl (()), S, d15)
    else
      some (.inl (()), S, d)
def Ws_works_2 (this : Nat) (p1 : Int32) (p2 : Option Nat) (p3 : Int32) (S : Sp) (d : Dt) : Option ((Unit ⊕ Nat) × Sp × Dt) :=
  (isK S 8 p2).bind fun z1 =>
  (some (dI d z1 4 ((d.1 z1 4) + 1))).bind fun d2 =>
  (isK S 0 (some this)).bind fun z3 =>
  (Ws_taskOf this p1 S d2).bind fun r4 =>
  (isK S 12 r4).bind fun z5 =>
  (aix S 50 (S.2.1 z5 6) (d2.1 z1 3)).bind fun q6 =>
  Ws_works_2_b33 this p1 p2 p3 (if ¬ p3 = 3 then 1 else 2) (d2.1 q6.1 q6.2) S d2
set_option maxHeartbeats 4000000 in
theorem Ws_works_2_fn (this : Nat) (p1 : Int32) (p2 : Option Nat) (p3 : Int32) (S : Sp) (d : Dt) : FnX yX0_works_2 (ws_ yX0_works_2 cX0_works_2 6 none) 12 273 [va_rf (some this), .int p1, va_rf p2, .int p3] S d rvU "WatchStack$Reset" (Ws_works_2 this p1 p2 p3 S d) := by
  refine FnX.ofJ (own := RX0) (lv := [(0, va_rf (some this)), (1, .int p1), (2, va_rf p2), (3, .int p3)]) (by decide +kernel) rfl (by simp [cat_i, cat_l, cat_f, cat_d, rf_cat]) (by simp [lv_args, cat_i, cat_l, cat_f, cat_d, rf_cat]) ?_
  intro X F G hRm hR
  have hWs_works_2_b110 : ∀ (s0 : Int32) (s1 : Option Nat) (s2 : Int32) (s3 : Option Nat) (S : Sp) (d : Dt), J X F Λa S d 110 [(0, va_rf (some this)), (1, .int p1), (2, va_rf p2), (3, .int p3)] [.int s0, va_rf s1, .int s2, va_rf s3] (Ws_works_2_b110 this p1 p2 p3 s0 s1 s2 s3 S d) := by
    intro s0 s1 s2 s3 S d
    unfold Ws_works_2_b110
    refine J_bd (fun z23 hz23 => ?_)
    refine J_stk (st' := [.int s0, va_rf s1, .int s2, va_rf (some z23)]) (by rw [(isK_at hz23).1]) ?_
    refine JXV_U (pc := 110) (as := [.int s2, va_rf s1, .int s0]) (st' := []) (o := some z23) G (Ws_kicks_fn z23 s2 s1 s0 S d) (JXC_V (n := 3) G hRm cl_X0 q1189 q1191 qs37 q137 q1192 ⟨rfl, dd_X0_kicks⟩ ⟨by decide, by decide⟩ dX0_works_2_110 (isK_s hz23) rfl (Nat.le_of_ble_eq_true rfl)) rfl (fun _ _ _ => rfl) (fun _ S24 d25 hd25 => ?_) (fun v9 S9 d9 h9 => JX_out G hR)
    exact JRX_vret (pc := 113) G hR dX0_works_2_113
  have hWs_works_2_b91 : ∀ (v5 : Int32) (S : Sp) (d : Dt), J X F Λa S d 91 [(0, va_rf (some this)), (1, .int p1), (2, va_rf p2), (3, .int p3), (5, .int v5)] [] (Ws_works_2_b91 this p1 p2 p3 v5 S d) := by
    intro v5 S d
    unfold Ws_works_2_b91
    refine JR_aload_n (pc := 91) (k := 2) (i := 2) (o := p2) G rfl rfl dX0_works_2_91 ?_
    refine JR_iconst (pc := 92) G ci_0 dX0_works_2_92 ?_
    refine J_bd (fun z20 hz20 => ?_)
    refine JW_pIN (pc := 93) (k := 0) G cl_X9 in_X9 tyX9_ok nmX9 (by decide) (by decide) rfl (Or.inl rfl) rfl q339 rfl rfl hz20 (fun _ => rfl) dX0_works_2_93 ?_
    refine J_nmD (fun d21 hd21 => ?_)
    refine JR_aload_n (pc := 96) (k := 0) (i := 0) (o := some this) G rfl rfl dX0_works_2_96 ?_
    refine JR_iload_n (pc := 97) (k := 1) (i := 1) G rfl rfl dX0_works_2_97 ?_
    refine JR_aload_n (pc := 98) (k := 2) (i := 2) (o := p2) G rfl rfl dX0_works_2_98 ?_
    refine JR_iload (pc := 99) (i := 5) G rfl dX0_works_2_99 ?_
    refine JR_iconst (pc := 101) G ci_m1 dX0_works_2_101 ?_
    refine J_eq (r' := if v5 = ((-1)) then Ws_works_2_b110 this p1 p2 p3 0 p2 p1 (some this) S d21 else Ws_works_2_b110 this p1 p2 p3 1 p2 p1 (some this) S d21) (by split <;> rfl) ?_
    refine JR_icmp_eq (pc := 102) (tgt := 109) G dX0_works_2_102 (by decide) (fun c22 => ?_) (fun c22 => ?_)
    · refine JR_iconst (pc := 109) G ci_0 dX0_works_2_109 ?_
      refine J_sub [0, 1, 2, 3] rfl ?_
      exact hWs_works_2_b110 0 p2 p1 (some this) S d21
    · refine JR_iconst (pc := 105) G ci_1 dX0_works_2_105 ?_
      refine JR_goto (pc := 106) (tgt := 110) G dX0_works_2_106 (by decide) ?_
      refine J_sub [0, 1, 2, 3] rfl ?_
      exact hWs_works_2_b110 1 p2 p1 (some this) S d21
  have hWs_works_2_b33 : ∀ (s0 : Int32) (s1 : Int32) (S : Sp) (d : Dt), J X F Λa S d 33 [(0, va_rf (some this)), (1, .int p1), (2, va_rf p2), (3, .int p3)] [.int s0, .int s1] (Ws_works_2_b33 this p1 p2 p3 s0 s1 S d) := by
    intro s0 s1 S d
    unfold Ws_works_2_b33
    refine JR_imul (pc := 33) G dX0_works_2_33 ?_
    refine J_nm (fun x8 hx8 => ?_)
    refine JR_istore (pc := 34) (i := 4) (lv' := [(4, .int x8), (0, va_rf (some this)), (1, .int p1), (2, va_rf p2), (3, .int p3)]) G (by decide) rfl dX0_works_2_34 ?_
    refine JR_iload_n (pc := 36) (k := 3) (i := 3) G rfl rfl dX0_works_2_36 ?_
    refine JR_if_eq (pc := 37) (tgt := 49) G dX0_works_2_37 (by decide) (fun c19 => ?_) (fun c19 => ?_)
    · exact JRX_vret (pc := 49) G hR dX0_works_2_49
    · refine JR_aload_n (pc := 40) (k := 2) (i := 2) (o := p2) G rfl rfl dX0_works_2_40 ?_
      refine J_bd (fun z9 hz9 => ?_)
      refine JR_gIN (pc := 41) (k := 4) G cl_X9 in_X9 (by decide) (by decide) rfl (Or.inl rfl) q347 hz9 dX0_works_2_41 ?_
      refine JR_iload (pc := 44) (i := 4) G rfl dX0_works_2_44 ?_
      refine JR_icmp_ge (pc := 46) (tgt := 50) G dX0_works_2_46 (by decide) (fun c18 => ?_) (fun c18 => ?_)
      · refine JR_aload_n (pc := 50) (k := 0) (i := 0) (o := some this) G rfl rfl dX0_works_2_50 ?_
        refine JR_iload_n (pc := 51) (k := 1) (i := 1) G rfl rfl dX0_works_2_51 ?_
        refine J_bd (fun z10 hz10 => ?_)
        refine JPV_R (pc := 52) (as := [.int p1]) (st' := []) (o := some this) G (Ws_taskOf_fn this p1 S d) (JC_V (n := 1) G hRm cl_X0 q431 q433 qs2 q137 q434 ⟨rfl, dd_X0_taskOf⟩ ⟨by decide, by decide⟩ dX0_works_2_52 hz10 rfl (Nat.le_of_ble_eq_true rfl)) rfl (fun r11 hr11 => ?_)
        refine JR_aload_n (pc := 55) (k := 2) (i := 2) (o := p2) G rfl rfl dX0_works_2_55 ?_
        refine JR_gIN (pc := 56) (k := 3) G cl_X9 in_X9 (by decide) (by decide) rfl (Or.inl rfl) q345 hz9 dX0_works_2_56 ?_
        refine JR_aload_n (pc := 59) (k := 2) (i := 2) (o := p2) G rfl rfl dX0_works_2_59 ?_
        refine JR_gIN (pc := 60) (k := 2) G cl_X9 in_X9 (by decide) (by decide) rfl (Or.inl rfl) q343 hz9 dX0_works_2_60 ?_
        refine J_bd (fun z12 hz12 => ?_)
        refine J_stk (st' := [.int (d.1 z9 2), .int (d.1 z9 3), va_rf (some z12)]) (by rw [(isK_at hz12).1]) ?_
        refine JPV_I (pc := 63) (as := [.int (d.1 z9 3), .int (d.1 z9 2)]) (st' := []) (o := some z12) G (Ta_next_fn z12 (d.1 z9 3) (d.1 z9 2) S d) (JC_V (n := 2) G hRm cl_X13 q1083 q1084 q1085 q162 q1086 ⟨rfl, dd_X13_next⟩ ⟨by decide, by decide⟩ dX0_works_2_63 (isK_s hz12) rfl (Nat.le_of_ble_eq_true rfl)) rfl (fun r13 hr13 => ?_)
        refine JR_istore (pc := 66) (i := 5) (lv' := [(5, .int r13), (4, .int x8), (0, va_rf (some this)), (1, .int p1), (2, va_rf p2), (3, .int p3)]) G (by decide) rfl dX0_works_2_66 ?_
        refine JR_iload_n (pc := 68) (k := 3) (i := 3) G rfl rfl dX0_works_2_68 ?_
        refine JR_iconst (pc := 69) G ci_2 dX0_works_2_69 ?_
        refine JR_icmp_eq (pc := 70) (tgt := 91) G dX0_works_2_70 (by decide) (fun c17 => ?_) (fun c17 => ?_)
        · refine J_sub [2, 3, 4, 5, 0] rfl ?_
          exact hWs_works_2_b91 r13 S d
        · refine JR_iload (pc := 73) (i := 5) G rfl dX0_works_2_73 ?_
          refine JR_iconst (pc := 75) G ci_m1 dX0_works_2_75 ?_
          refine JR_icmp_eq (pc := 76) (tgt := 91) G dX0_works_2_76 (by decide) (fun c16 => ?_) (fun c16 => ?_)
          · refine J_sub [2, 3, 4, 5, 0] rfl ?_
            exact hWs_works_2_b91 r13 S d
          · refine JR_aload_n (pc := 79) (k := 2) (i := 2) (o := p2) G rfl rfl dX0_works_2_79 ?_
            refine JR_iload (pc := 80) (i := 5) G rfl dX0_works_2_80 ?_
            refine JW_pIN (pc := 82) (k := 3) G cl_X9 in_X9 tyX9_ok nmX9 (by decide) (by decide) rfl (Or.inl rfl) rfl q345 rfl rfl hz9 (fun _ => rfl) dX0_works_2_82 ?_
            refine J_nmD (fun d14 hd14 => ?_)
            refine JR_aload_n (pc := 85) (k := 2) (i := 2) (o := p2) G rfl rfl dX0_works_2_85 ?_
            refine JR_iconst (pc := 86) G ci_0 dX0_works_2_86 ?_
            refine JW_pIN (pc := 87) (k := 4) G cl_X9 in_X9 tyX9_ok nmX9 (by decide) (by decide) rfl (Or.inl rfl) rfl q347 rfl rfl hz9 (fun _ => rfl) dX0_works_2_87 ?_
            refine J_nmD (fun d15 hd15 => ?_)
            exact JRX_vret (pc := 90) G hR dX0_works_2_90
      · exact JRX_vret (pc := 49) G hR dX0_works_2_49
  unfold Ws_works_2
  refine JR_aload_n (pc := 0) (k := 2) (i := 2) (o := p2) G rfl rfl dX0_works_2_0 ?_
  refine JR_dup (pc := 1) G (rf_cat _) dX0_works_2_1 ?_
  refine J_bd (fun z1 hz1 => ?_)
  refine JR_gIN (pc := 2) (k := 4) G cl_X9 in_X9 (by decide) (by decide) rfl (Or.inl rfl) q347 hz1 dX0_works_2_2 ?_
  refine JR_iconst (pc := 5) G ci_1 dX0_works_2_5 ?_
  refine JR_iadd (pc := 6) G dX0_works_2_6 ?_
  refine JW_pIN (pc := 7) (k := 4) G cl_X9 in_X9 tyX9_ok nmX9 (by decide) (by decide) rfl (Or.inl rfl) rfl q347 rfl rfl hz1 (fun _ => rfl) dX0_works_2_7 ?_
  refine J_nmD (fun d2 hd2 => ?_)
  refine JR_aload_n (pc := 10) (k := 0) (i := 0) (o := some this) G rfl rfl dX0_works_2_10 ?_
  refine JR_iload_n (pc := 11) (k := 1) (i := 1) G rfl rfl dX0_works_2_11 ?_
  refine J_bd (fun z3 hz3 => ?_)
  refine JPV_R (pc := 12) (as := [.int p1]) (st' := []) (o := some this) G (Ws_taskOf_fn this p1 S d2) (JC_V (n := 1) G hRm cl_X0 q431 q433 qs2 q137 q434 ⟨rfl, dd_X0_taskOf⟩ ⟨by decide, by decide⟩ dX0_works_2_12 hz3 rfl (Nat.le_of_ble_eq_true rfl)) rfl (fun r4 hr4 => ?_)
  refine J_bd (fun z5 hz5 => ?_)
  refine JR_gRN (pc := 15) (k := 6) G cl_X13 in_X13 (by decide) (by decide) rfl (Or.inl rfl) q832 hz5 dX0_works_2_15 ?_
  refine JR_aload_n (pc := 18) (k := 2) (i := 2) (o := p2) G rfl rfl dX0_works_2_18 ?_
  refine JR_gIN (pc := 19) (k := 3) G cl_X9 in_X9 (by decide) (by decide) rfl (Or.inl rfl) q345 hz1 dX0_works_2_19 ?_
  refine J_bd (fun q6 hq6 => ?_)
  refine JR_iaload (pc := 22) G hq6 dX0_works_2_22 ?_
  refine JR_iload_n (pc := 23) (k := 3) (i := 3) G rfl rfl dX0_works_2_23 ?_
  refine JR_iconst (pc := 24) G ci_3 dX0_works_2_24 ?_
  refine J_eq (r' := if ¬ p3 = 3 then Ws_works_2_b33 this p1 p2 p3 1 (d2.1 q6.1 q6.2) S d2 else Ws_works_2_b33 this p1 p2 p3 2 (d2.1 q6.1 q6.2) S d2) (by split <;> rfl) ?_
  refine JR_icmp_ne (pc := 25) (tgt := 32) G dX0_works_2_25 (by decide) (fun c7 => ?_) (fun c7 => ?_)
  · refine JR_iconst (pc := 32) G ci_1 dX0_works_2_32 ?_
    exact hWs_works_2_b33 1 (d2.1 q6.1 q6.2) S d2
  · refine JR_iconst (pc := 28) G ci_2 dX0_works_2_28 ?_
    refine JR_goto (pc := 29) (tgt := 33) G dX0_works_2_29 (by decide) ?_
    exact hWs_works_2_b33 2 (d2.1 q6.1 q6.2) S d2

def Ws_works_h2 (this : Nat) : Nat → Int32 → Sp → Dt → Option ((Unit ⊕ Nat) × Sp × Dt)
  | 0, _, _, _ => none
  | f + 1, v1, S, d =>
    (isK S 0 (some this)).bind fun z1 =>
    (Ws_tasks this S d).bind fun r2 =>
    if r2 ≤ v1 then
      some (.inl (()), S, d)
    else
      (aix S 57 (S.2.1 z1 12) v1).bind fun q3 =>
      (some (S.2.1 q3.1 q3.2)).bind fun x4 =>
      (isK S 8 x4).bind fun z5 =>
      if ¬ (d.1 z5 0) = 0 then
        (Ws_wrongAt this v1 (d.1 z5 2) (d.1 z5 3) S d).bind fun r6 =>
        if ¬ r6 = 1 then
          (aix S 50 (S.2.1 z1 13) (d.1 z1 25)).bind fun q7 =>
          (some (dI d q7.1 q7.2 v1)).bind fun d8 =>
          bindE (Ws_works_2 this v1 x4 r6 S d8) (fun v9 S9 d9 => some (.inr v9, S9, d9)) fun _ S9 d10 =>
          some (.inl (()), S9, d10)
        else
          Ws_works_h2 this f (v1 + 1) S d
      else
        Ws_works_h2 this f (v1 + 1) S d
def Ws_works (this : Nat) (S : Sp) (d : Dt) : Option ((Unit ⊕ Nat) × Sp × Dt) :=
  Ws_works_h2 this FU 0 S d
set_option maxHeartbeats 4000000 in
theorem Ws_works_fn (this : Nat) (S : Sp) (d : Dt) : FnX yX0_works (ws_ yX0_works cX0_works 4 none) 13 298 [va_rf (some this)] S d rvU "WatchStack$Reset" (Ws_works this S d) := by
  refine FnX.ofJ (own := RX0) (lv := [(0, va_rf (some this))]) (by decide +kernel) rfl (by simp [cat_i, cat_l, cat_f, cat_d, rf_cat]) (by simp [lv_args, cat_i, cat_l, cat_f, cat_d, rf_cat]) ?_
  intro X F G hRm hR
  have hWs_works_h2 : ∀ (f : Nat) (v1 : Int32) (S : Sp) (d : Dt), J X F Λa S d 2 [(0, va_rf (some this)), (1, .int v1)] [] (Ws_works_h2 this f v1 S d) := by
    intro  f
    induction f with
    | zero => intro v1 S d; exact J_no
    | succ f ih =>
      intro v1 S d
      unfold Ws_works_h2
      refine JR_iload_n (pc := 2) (k := 1) (i := 1) G rfl rfl dX0_works_2 ?_
      refine JR_aload_n (pc := 3) (k := 0) (i := 0) (o := some this) G rfl rfl dX0_works_3 ?_
      refine J_bd (fun z1 hz1 => ?_)
      refine JPV_I (pc := 4) (as := []) (st' := [.int v1]) (o := some this) G (Ws_tasks_fn this S d) (JC_V (n := 0) G hRm cl_X0 q423 q425 qs1 q137 q426 ⟨rfl, dd_X0_tasks⟩ ⟨by decide, by decide⟩ dX0_works_4 hz1 rfl (Nat.le_of_ble_eq_true rfl)) rfl (fun r2 hr2 => ?_)
      refine JR_icmp_ge (pc := 7) (tgt := 73) G dX0_works_7 (by decide) (fun c13 => ?_) (fun c13 => ?_)
      · exact JRX_vret (pc := 73) G hR dX0_works_73
      · refine JR_aload_n (pc := 10) (k := 0) (i := 0) (o := some this) G rfl rfl dX0_works_10 ?_
        refine JR_gR (pc := 11) (k := 12) G cl_X0 in_X0 (by decide) (by decide) rfl (Or.inl rfl) q464 hz1 dX0_works_11 ?_
        refine JR_iload_n (pc := 14) (k := 1) (i := 1) G rfl rfl dX0_works_14 ?_
        refine J_bd (fun q3 hq3 => ?_)
        refine JR_aaload (pc := 15) (t := 7) G (by decide) rfl hq3 dX0_works_15 ?_
        refine J_nmR (fun x4 hx4 => ?_)
        refine JR_astore_n (pc := 16) (k := 2) (i := 2) (lv' := [(2, va_rf x4), (0, va_rf (some this)), (1, .int v1)]) G rfl (by decide) rfl dX0_works_16 ?_
        refine JR_aload_n (pc := 17) (k := 2) (i := 2) (o := x4) G rfl rfl dX0_works_17 ?_
        refine J_bd (fun z5 hz5 => ?_)
        refine JR_gIN (pc := 18) (k := 0) G cl_X9 in_X9 (by decide) (by decide) rfl (Or.inl rfl) q339 hz5 dX0_works_18 ?_
        refine JR_if_ne (pc := 21) (tgt := 27) G dX0_works_21 (by decide) (fun c12 => ?_) (fun c12 => ?_)
        · refine JR_aload_n (pc := 27) (k := 0) (i := 0) (o := some this) G rfl rfl dX0_works_27 ?_
          refine JR_iload_n (pc := 28) (k := 1) (i := 1) G rfl rfl dX0_works_28 ?_
          refine JR_aload_n (pc := 29) (k := 2) (i := 2) (o := x4) G rfl rfl dX0_works_29 ?_
          refine JR_gIN (pc := 30) (k := 2) G cl_X9 in_X9 (by decide) (by decide) rfl (Or.inl rfl) q343 hz5 dX0_works_30 ?_
          refine JR_aload_n (pc := 33) (k := 2) (i := 2) (o := x4) G rfl rfl dX0_works_33 ?_
          refine JR_gIN (pc := 34) (k := 3) G cl_X9 in_X9 (by decide) (by decide) rfl (Or.inl rfl) q345 hz5 dX0_works_34 ?_
          refine JPV_I (pc := 37) (as := [.int v1, .int (d.1 z5 2), .int (d.1 z5 3)]) (st' := []) (o := some this) G (Ws_wrongAt_fn this v1 (d.1 z5 2) (d.1 z5 3) S d) (JC_V (n := 3) G hRm cl_X0 q1176 q1178 qs35 q137 q1179 ⟨rfl, dd_X0_wrongAt⟩ ⟨by decide, by decide⟩ dX0_works_37 hz1 rfl (Nat.le_of_ble_eq_true rfl)) rfl (fun r6 hr6 => ?_)
          refine JR_istore_n (pc := 40) (k := 3) (i := 3) (lv' := [(3, .int r6), (2, va_rf x4), (0, va_rf (some this)), (1, .int v1)]) G rfl (by decide) (by simp [lvS, rf_cat]) dX0_works_40 ?_
          refine JR_iload_n (pc := 41) (k := 3) (i := 3) G rfl rfl dX0_works_41 ?_
          refine JR_iconst (pc := 42) G ci_1 dX0_works_42 ?_
          refine JR_icmp_ne (pc := 43) (tgt := 49) G dX0_works_43 (by decide) (fun c11 => ?_) (fun c11 => ?_)
          · refine JR_aload_n (pc := 49) (k := 0) (i := 0) (o := some this) G rfl rfl dX0_works_49 ?_
            refine JR_gR (pc := 50) (k := 13) G cl_X0 in_X0 (by decide) (by decide) rfl (Or.inl rfl) q465 hz1 dX0_works_50 ?_
            refine JR_aload_n (pc := 53) (k := 0) (i := 0) (o := some this) G rfl rfl dX0_works_53 ?_
            refine JR_gI (pc := 54) (k := 25) G cl_X0 in_X0 (by decide) (by decide) rfl (Or.inl rfl) q481 hz1 dX0_works_54 ?_
            refine JR_iload_n (pc := 57) (k := 1) (i := 1) G rfl rfl dX0_works_57 ?_
            refine J_bd (fun q7 hq7 => ?_)
            refine JW_iastore (pc := 58) G hq7 (fun _ => rfl) dX0_works_58 ?_
            refine J_nmD (fun d8 hd8 => ?_)
            refine JR_aload_n (pc := 59) (k := 0) (i := 0) (o := some this) G rfl rfl dX0_works_59 ?_
            refine JR_iload_n (pc := 60) (k := 1) (i := 1) G rfl rfl dX0_works_60 ?_
            refine JR_aload_n (pc := 61) (k := 2) (i := 2) (o := x4) G rfl rfl dX0_works_61 ?_
            refine JR_iload_n (pc := 62) (k := 3) (i := 3) G rfl rfl dX0_works_62 ?_
            refine JXV_U (pc := 63) (as := [.int v1, va_rf x4, .int r6]) (st' := []) (o := some this) G (Ws_works_2_fn this v1 x4 r6 S d8) (JXC_V (n := 3) G hRm cl_X0 q1185 q1187 qs36 q137 q1188 ⟨rfl, dd_X0_works_2⟩ ⟨by decide, by decide⟩ dX0_works_63 hz1 rfl (Nat.le_of_ble_eq_true rfl)) rfl (fun _ _ _ => rfl) (fun _ S9 d10 hd10 => ?_) (fun v9 S9 d9 h9 => JX_out G hR)
            exact JRX_vret (pc := 66) G hR dX0_works_66
          · refine JR_goto (pc := 46) (tgt := 67) G dX0_works_46 (by decide) ?_
            refine JR_iinc (pc := 67) (i := 1) (v := v1 + 1) (lv' := [(1, .int (v1 + 1)), (3, .int r6), (2, va_rf x4), (0, va_rf (some this))]) G rfl (congrArg (fun z => v1 + z) (by decide)) (by decide) rfl dX0_works_67 ?_
            refine JR_goto (pc := 70) (tgt := 2) G dX0_works_70 (by decide) ?_
            refine J_sub [3, 0] rfl ?_
            exact ih (v1 + 1) S d
        · refine JR_goto (pc := 24) (tgt := 67) G dX0_works_24 (by decide) ?_
          refine JR_iinc (pc := 67) (i := 1) (v := v1 + 1) (lv' := [(1, .int (v1 + 1)), (2, va_rf x4), (0, va_rf (some this))]) G rfl (congrArg (fun z => v1 + z) (by decide)) (by decide) rfl dX0_works_67 ?_
          refine JR_goto (pc := 70) (tgt := 2) G dX0_works_70 (by decide) ?_
          refine J_sub [2, 0] rfl ?_
          exact ih (v1 + 1) S d
  unfold Ws_works
  refine JR_iconst (pc := 0) G ci_0 dX0_works_0 ?_
  refine JR_istore_n (pc := 1) (k := 1) (i := 1) (lv' := [(1, .int 0), (0, va_rf (some this))]) G rfl (by decide) rfl dX0_works_1 ?_
  refine J_sub [1, 0] rfl ?_
  exact hWs_works_h2 FU 0 S d

def Ws_isLate (this : Nat) (p1 : Int32) (S : Sp) (d : Dt) : Option ((Unit ⊕ Nat) × Sp × Dt) :=
  (isK S 0 (some this)).bind fun z1 =>
  (aix S 57 (S.2.1 z1 12) p1).bind fun q2 =>
  (some (S.2.1 q2.1 q2.2)).bind fun x3 =>
  (isK S 8 x3).bind fun z4 =>
  if (d.1 z1 25) < (d.1 z4 5) then
    some (.inl (()), S, d)
  else
    if (d.1 z4 7) = (d.1 z1 25) then
      some (.inl (()), S, d)
    else
      (aix S 50 (S.2.1 z1 22) p1).bind fun q5 =>
      if ((d.1 z1 25) - (d.1 z4 6)) < (d.1 q5.1 q5.2) then
        some (.inl (()), S, d)
      else
        bindE (Ws_faults this 2 p1 S d) (fun v9 S9 d9 => some (.inr v9, S9, d9)) fun _ S6 d7 =>
        some (.inl (()), S6, d7)
set_option maxHeartbeats 4000000 in
theorem Ws_isLate_fn (this : Nat) (p1 : Int32) (S : Sp) (d : Dt) : FnX yX0_isLate (ws_ yX0_isLate cX0_isLate 3 none) 11 249 [va_rf (some this), .int p1] S d rvU "WatchStack$Reset" (Ws_isLate this p1 S d) := by
  refine FnX.ofJ (own := RX0) (lv := [(0, va_rf (some this)), (1, .int p1)]) (by decide +kernel) rfl (by simp [cat_i, cat_l, cat_f, cat_d, rf_cat]) (by simp [lv_args, cat_i, cat_l, cat_f, cat_d, rf_cat]) ?_
  intro X F G hRm hR
  unfold Ws_isLate
  refine JR_aload_n (pc := 0) (k := 0) (i := 0) (o := some this) G rfl rfl dX0_isLate_0 ?_
  refine J_bd (fun z1 hz1 => ?_)
  refine JR_gR (pc := 1) (k := 12) G cl_X0 in_X0 (by decide) (by decide) rfl (Or.inl rfl) q464 hz1 dX0_isLate_1 ?_
  refine JR_iload_n (pc := 4) (k := 1) (i := 1) G rfl rfl dX0_isLate_4 ?_
  refine J_bd (fun q2 hq2 => ?_)
  refine JR_aaload (pc := 5) (t := 7) G (by decide) rfl hq2 dX0_isLate_5 ?_
  refine J_nmR (fun x3 hx3 => ?_)
  refine JR_astore_n (pc := 6) (k := 2) (i := 2) (lv' := [(2, va_rf x3), (0, va_rf (some this)), (1, .int p1)]) G rfl (by decide) rfl dX0_isLate_6 ?_
  refine JR_aload_n (pc := 7) (k := 0) (i := 0) (o := some this) G rfl rfl dX0_isLate_7 ?_
  refine JR_gI (pc := 8) (k := 25) G cl_X0 in_X0 (by decide) (by decide) rfl (Or.inl rfl) q481 hz1 dX0_isLate_8 ?_
  refine JR_aload_n (pc := 11) (k := 2) (i := 2) (o := x3) G rfl rfl dX0_isLate_11 ?_
  refine J_bd (fun z4 hz4 => ?_)
  refine JR_gIN (pc := 12) (k := 5) G cl_X9 in_X9 (by decide) (by decide) rfl (Or.inl rfl) q349 hz4 dX0_isLate_12 ?_
  refine JR_icmp_lt (pc := 15) (tgt := 53) G dX0_isLate_15 (by decide) (fun c10 => ?_) (fun c10 => ?_)
  · exact JRX_vret (pc := 53) G hR dX0_isLate_53
  · refine JR_aload_n (pc := 18) (k := 2) (i := 2) (o := x3) G rfl rfl dX0_isLate_18 ?_
    refine JR_gIN (pc := 19) (k := 7) G cl_X9 in_X9 (by decide) (by decide) rfl (Or.inl rfl) q353 hz4 dX0_isLate_19 ?_
    refine JR_aload_n (pc := 22) (k := 0) (i := 0) (o := some this) G rfl rfl dX0_isLate_22 ?_
    refine JR_gI (pc := 23) (k := 25) G cl_X0 in_X0 (by decide) (by decide) rfl (Or.inl rfl) q481 hz1 dX0_isLate_23 ?_
    refine JR_icmp_eq (pc := 26) (tgt := 53) G dX0_isLate_26 (by decide) (fun c9 => ?_) (fun c9 => ?_)
    · exact JRX_vret (pc := 53) G hR dX0_isLate_53
    · refine JR_aload_n (pc := 29) (k := 0) (i := 0) (o := some this) G rfl rfl dX0_isLate_29 ?_
      refine JR_gI (pc := 30) (k := 25) G cl_X0 in_X0 (by decide) (by decide) rfl (Or.inl rfl) q481 hz1 dX0_isLate_30 ?_
      refine JR_aload_n (pc := 33) (k := 2) (i := 2) (o := x3) G rfl rfl dX0_isLate_33 ?_
      refine JR_gIN (pc := 34) (k := 6) G cl_X9 in_X9 (by decide) (by decide) rfl (Or.inl rfl) q351 hz4 dX0_isLate_34 ?_
      refine JR_isub (pc := 37) G dX0_isLate_37 ?_
      refine JR_aload_n (pc := 38) (k := 0) (i := 0) (o := some this) G rfl rfl dX0_isLate_38 ?_
      refine JR_gR (pc := 39) (k := 22) G cl_X0 in_X0 (by decide) (by decide) rfl (Or.inl rfl) q475 hz1 dX0_isLate_39 ?_
      refine JR_iload_n (pc := 42) (k := 1) (i := 1) G rfl rfl dX0_isLate_42 ?_
      refine J_bd (fun q5 hq5 => ?_)
      refine JR_iaload (pc := 43) G hq5 dX0_isLate_43 ?_
      refine JR_icmp_lt (pc := 44) (tgt := 53) G dX0_isLate_44 (by decide) (fun c8 => ?_) (fun c8 => ?_)
      · exact JRX_vret (pc := 53) G hR dX0_isLate_53
      · refine JR_aload_n (pc := 47) (k := 0) (i := 0) (o := some this) G rfl rfl dX0_isLate_47 ?_
        refine JR_iconst (pc := 48) G ci_2 dX0_isLate_48 ?_
        refine JR_iload_n (pc := 49) (k := 1) (i := 1) G rfl rfl dX0_isLate_49 ?_
        refine JXV_U (pc := 50) (as := [.int 2, .int p1]) (st' := []) (o := some this) G (Ws_faults_fn this 2 p1 S d) (JXC_V (n := 2) G hRm cl_X0 q1197 q1199 qs39 q137 q1200 ⟨rfl, dd_X0_faults⟩ ⟨by decide, by decide⟩ dX0_isLate_50 hz1 rfl (Nat.le_of_ble_eq_true rfl)) rfl (fun _ _ _ => rfl) (fun _ S6 d7 hd7 => ?_) (fun v9 S9 d9 h9 => JX_out G hR)
        exact JRX_vret (pc := 53) G hR dX0_isLate_53

def Ws_isAsleep_h2 (this : Nat) (p1 : Int32) (p2 : Int32) (S : Sp) (d : Dt) : Nat → Int32 → Option Int32
  | 0, _ => none
  | f + 1, v3 =>
    (isK S 0 (some this)).bind fun z1 =>
    (isK S 1 (S.2.1 z1 0)).bind fun z2 =>
    (isK S 16 (S.2.1 z2 1)).bind fun z3 =>
    (Jl_size z3 S d).bind fun r4 =>
    if r4 ≤ v3 then
      some 0
    else
      (Jl_get z3 v3 S d).bind fun r5 =>
      (isK S 13 r5).bind fun z6 =>
      if v3 = (d.1 z1 28) then
        Ws_isAsleep_h2 this p1 p2 S d f (v3 + 1)
      else
        if ¬ (d.1 z6 0) = 5 then
          Ws_isAsleep_h2 this p1 p2 S d f (v3 + 1)
        else
          if ¬ (d.1 z6 1) = p1 then
            Ws_isAsleep_h2 this p1 p2 S d f (v3 + 1)
          else
            if p2 < (d.1 z6 2) then
              Ws_isAsleep_h2 this p1 p2 S d f (v3 + 1)
            else
              (aix S 50 (S.2.1 z1 14) p1).bind fun q7 =>
              if (d.1 z6 2) ≤ (d.1 q7.1 q7.2) then
                Ws_isAsleep_h2 this p1 p2 S d f (v3 + 1)
              else
                some 1
def Ws_isAsleep (this : Nat) (p1 : Int32) (p2 : Int32) (S : Sp) (d : Dt) : Option Int32 :=
  Ws_isAsleep_h2 this p1 p2 S d FU 0
set_option maxHeartbeats 4000000 in
theorem Ws_isAsleep_fn (this : Nat) (p1 : Int32) (p2 : Int32) (S : Sp) (d : Dt) : Fn yX0_isAsleep (ws_ yX0_isAsleep cX0_isAsleep 5 (some .boolean)) 3 64 [va_rf (some this), .int p1, .int p2] S d rvI Λp (Ws_isAsleep this p1 p2 S d) := by
  refine Fn.ofJ (own := RX0) (lv := [(0, va_rf (some this)), (1, .int p1), (2, .int p2)]) (by decide +kernel) rfl (by simp [cat_i, cat_l, cat_f, cat_d, rf_cat]) (by simp [lv_args, cat_i, cat_l, cat_f, cat_d, rf_cat]) ?_
  intro X F G hRm hR hI
  have hWs_isAsleep_h2 : ∀ (f : Nat) (v3 : Int32), J X F Λp S d 2 [(0, va_rf (some this)), (1, .int p1), (2, .int p2), (3, .int v3)] [] (Ws_isAsleep_h2 this p1 p2 S d f v3) := by
    intro  f
    induction f with
    | zero => intro v3; exact J_no
    | succ f ih =>
      intro v3
      unfold Ws_isAsleep_h2
      refine JR_iload_n (pc := 2) (k := 3) (i := 3) G rfl rfl dX0_isAsleep_2 ?_
      refine JR_aload_n (pc := 3) (k := 0) (i := 0) (o := some this) G rfl rfl dX0_isAsleep_3 ?_
      refine J_bd (fun z1 hz1 => ?_)
      refine JR_gR (pc := 4) (k := 0) G cl_X0 in_X0 (by decide) (by decide) rfl (Or.inl rfl) q451 hz1 dX0_isAsleep_4 ?_
      refine J_bd (fun z2 hz2 => ?_)
      refine JR_gRN (pc := 7) (k := 1) G cl_X1 in_X1 (by decide) (by decide) rfl (Or.inl rfl) q220 hz2 dX0_isAsleep_7 ?_
      refine J_bd (fun z3 hz3 => ?_)
      refine J_stk (st' := [va_rf (some z3), .int v3]) (by rw [(isK_at hz3).1]) ?_
      refine JPV_I (pc := 10) (as := []) (st' := [.int v3]) (o := some z3) G (Jl_size_fn z3 S d) (JC_V (n := 0) G hRm cl_J2 q427 q428 q429 q141 q430 ⟨rfl, dd_J2_size⟩ ⟨by decide, by decide⟩ dX0_isAsleep_10 (isK_s hz3) rfl (Nat.le_of_ble_eq_true rfl)) rfl (fun r4 hr4 => ?_)
      refine JR_icmp_ge (pc := 13) (tgt := 89) G dX0_isAsleep_13 (by decide) (fun c13 => ?_) (fun c13 => ?_)
      · refine JR_iconst (pc := 89) G ci_0 dX0_isAsleep_89 ?_
        exact JR_zret (pc := 90) G hR dX0_isAsleep_90 (Or.inl rfl) rfl rfl
      · refine JR_aload_n (pc := 16) (k := 0) (i := 0) (o := some this) G rfl rfl dX0_isAsleep_16 ?_
        refine JR_gR (pc := 17) (k := 0) G cl_X0 in_X0 (by decide) (by decide) rfl (Or.inl rfl) q451 hz1 dX0_isAsleep_17 ?_
        refine JR_gRN (pc := 20) (k := 1) G cl_X1 in_X1 (by decide) (by decide) rfl (Or.inl rfl) q220 hz2 dX0_isAsleep_20 ?_
        refine JR_iload_n (pc := 23) (k := 3) (i := 3) G rfl rfl dX0_isAsleep_23 ?_
        refine J_stk (st' := [.int v3, va_rf (some z3)]) (by rw [(isK_at hz3).1]) ?_
        refine JPV_R (pc := 24) (as := [.int v3]) (st' := []) (o := some z3) G (Jl_get_fn z3 v3 S d) (JC_V (n := 1) G hRm cl_J2 q435 q436 q437 q141 q438 ⟨rfl, dd_J2_get⟩ ⟨by decide, by decide⟩ dX0_isAsleep_24 (isK_s hz3) rfl (Nat.le_of_ble_eq_true rfl)) rfl (fun r5 hr5 => ?_)
        refine J_bd (fun z6 hz6 => ?_)
        refine JR_castE (pc := 27) G cl_X14 q1005 hz6 dX0_isAsleep_27 ?_
        refine JR_astore (pc := 30) (i := 4) (lv' := [(4, va_rf (some z6)), (0, va_rf (some this)), (1, .int p1), (2, .int p2), (3, .int v3)]) G (by decide) rfl dX0_isAsleep_30 ?_
        refine JR_iload_n (pc := 32) (k := 3) (i := 3) G rfl rfl dX0_isAsleep_32 ?_
        refine JR_aload_n (pc := 33) (k := 0) (i := 0) (o := some this) G rfl rfl dX0_isAsleep_33 ?_
        refine JR_gI (pc := 34) (k := 28) G cl_X0 in_X0 (by decide) (by decide) rfl (Or.inl rfl) q486 hz1 dX0_isAsleep_34 ?_
        refine JR_icmp_eq (pc := 37) (tgt := 83) G dX0_isAsleep_37 (by decide) (fun c12 => ?_) (fun c12 => ?_)
        · refine JR_iinc (pc := 83) (i := 3) (v := v3 + 1) (lv' := [(3, .int (v3 + 1)), (4, va_rf (some z6)), (0, va_rf (some this)), (1, .int p1), (2, .int p2)]) G rfl (congrArg (fun z => v3 + z) (by decide)) (by decide) rfl dX0_isAsleep_83 ?_
          refine JR_goto (pc := 86) (tgt := 2) G dX0_isAsleep_86 (by decide) ?_
          refine J_sub [2, 3, 4, 0] rfl ?_
          exact ih (v3 + 1)
        · refine JR_aload (pc := 40) (i := 4) (o := some z6) G rfl dX0_isAsleep_40 ?_
          refine JR_gIN (pc := 42) (k := 0) G cl_X14 in_X14 (by decide) (by decide) rfl (Or.inl rfl) q955 (isK_s hz6) dX0_isAsleep_42 ?_
          refine JR_iconst (pc := 45) G ci_5 dX0_isAsleep_45 ?_
          refine JR_icmp_ne (pc := 46) (tgt := 83) G dX0_isAsleep_46 (by decide) (fun c11 => ?_) (fun c11 => ?_)
          · refine JR_iinc (pc := 83) (i := 3) (v := v3 + 1) (lv' := [(3, .int (v3 + 1)), (4, va_rf (some z6)), (0, va_rf (some this)), (1, .int p1), (2, .int p2)]) G rfl (congrArg (fun z => v3 + z) (by decide)) (by decide) rfl dX0_isAsleep_83 ?_
            refine JR_goto (pc := 86) (tgt := 2) G dX0_isAsleep_86 (by decide) ?_
            refine J_sub [2, 3, 4, 0] rfl ?_
            exact ih (v3 + 1)
          · refine JR_aload (pc := 49) (i := 4) (o := some z6) G rfl dX0_isAsleep_49 ?_
            refine JR_gIN (pc := 51) (k := 1) G cl_X14 in_X14 (by decide) (by decide) rfl (Or.inl rfl) q957 (isK_s hz6) dX0_isAsleep_51 ?_
            refine JR_iload_n (pc := 54) (k := 1) (i := 1) G rfl rfl dX0_isAsleep_54 ?_
            refine JR_icmp_ne (pc := 55) (tgt := 83) G dX0_isAsleep_55 (by decide) (fun c10 => ?_) (fun c10 => ?_)
            · refine JR_iinc (pc := 83) (i := 3) (v := v3 + 1) (lv' := [(3, .int (v3 + 1)), (4, va_rf (some z6)), (0, va_rf (some this)), (1, .int p1), (2, .int p2)]) G rfl (congrArg (fun z => v3 + z) (by decide)) (by decide) rfl dX0_isAsleep_83 ?_
              refine JR_goto (pc := 86) (tgt := 2) G dX0_isAsleep_86 (by decide) ?_
              refine J_sub [2, 3, 4, 0] rfl ?_
              exact ih (v3 + 1)
            · refine JR_aload (pc := 58) (i := 4) (o := some z6) G rfl dX0_isAsleep_58 ?_
              refine JR_gIN (pc := 60) (k := 2) G cl_X14 in_X14 (by decide) (by decide) rfl (Or.inl rfl) q959 (isK_s hz6) dX0_isAsleep_60 ?_
              refine JR_iload_n (pc := 63) (k := 2) (i := 2) G rfl rfl dX0_isAsleep_63 ?_
              refine JR_icmp_gt (pc := 64) (tgt := 83) G dX0_isAsleep_64 (by decide) (fun c9 => ?_) (fun c9 => ?_)
              · refine JR_iinc (pc := 83) (i := 3) (v := v3 + 1) (lv' := [(3, .int (v3 + 1)), (4, va_rf (some z6)), (0, va_rf (some this)), (1, .int p1), (2, .int p2)]) G rfl (congrArg (fun z => v3 + z) (by decide)) (by decide) rfl dX0_isAsleep_83 ?_
                refine JR_goto (pc := 86) (tgt := 2) G dX0_isAsleep_86 (by decide) ?_
                refine J_sub [2, 3, 4, 0] rfl ?_
                exact ih (v3 + 1)
              · refine JR_aload_n (pc := 67) (k := 0) (i := 0) (o := some this) G rfl rfl dX0_isAsleep_67 ?_
                refine JR_gR (pc := 68) (k := 14) G cl_X0 in_X0 (by decide) (by decide) rfl (Or.inl rfl) q467 hz1 dX0_isAsleep_68 ?_
                refine JR_iload_n (pc := 71) (k := 1) (i := 1) G rfl rfl dX0_isAsleep_71 ?_
                refine J_bd (fun q7 hq7 => ?_)
                refine JR_iaload (pc := 72) G hq7 dX0_isAsleep_72 ?_
                refine JR_aload (pc := 73) (i := 4) (o := some z6) G rfl dX0_isAsleep_73 ?_
                refine JR_gIN (pc := 75) (k := 2) G cl_X14 in_X14 (by decide) (by decide) rfl (Or.inl rfl) q959 (isK_s hz6) dX0_isAsleep_75 ?_
                refine JR_icmp_ge (pc := 78) (tgt := 83) G dX0_isAsleep_78 (by decide) (fun c8 => ?_) (fun c8 => ?_)
                · refine JR_iinc (pc := 83) (i := 3) (v := v3 + 1) (lv' := [(3, .int (v3 + 1)), (4, va_rf (some z6)), (0, va_rf (some this)), (1, .int p1), (2, .int p2)]) G rfl (congrArg (fun z => v3 + z) (by decide)) (by decide) rfl dX0_isAsleep_83 ?_
                  refine JR_goto (pc := 86) (tgt := 2) G dX0_isAsleep_86 (by decide) ?_
                  refine J_sub [2, 3, 4, 0] rfl ?_
                  exact ih (v3 + 1)
                · refine JR_iconst (pc := 81) G ci_1 dX0_isAsleep_81 ?_
                  exact JR_zret (pc := 82) G hR dX0_isAsleep_82 (Or.inr rfl) rfl rfl
  unfold Ws_isAsleep
  refine JR_iconst (pc := 0) G ci_0 dX0_isAsleep_0 ?_
  refine JR_istore_n (pc := 1) (k := 3) (i := 3) (lv' := [(3, .int 0), (0, va_rf (some this)), (1, .int p1), (2, .int p2)]) G rfl (by decide) rfl dX0_isAsleep_1 ?_
  refine J_sub [1, 2, 3, 0] rfl ?_
  exact hWs_isAsleep_h2 FU 0

def Ws_looks_2_b165 (this : Nat) (p1 : Int32) (k100 : Int32 → Sp → Dt → Option ((Unit ⊕ Nat) × Sp × Dt)) (v3 : Int32) (s0 : Int32) (s1 : Int32) (s2 : Int32) (s3 : Option Nat) (S : Sp) (d : Dt) : Option ((Unit ⊕ Nat) × Sp × Dt) :=
  (isK S 0 s3).bind fun z33 =>
  bindE (Ws_notes z33 s2 s1 s0 S d) (fun v9 S9 d9 => some (.inr v9, S9, d9)) fun _ S34 d35 =>
  k100 (v3 + 1) S34 d35
def Ws_looks_2_h100 (this : Nat) (p1 : Int32) : Nat → Int32 → Sp → Dt → Option ((Unit ⊕ Nat) × Sp × Dt)
  | 0, _, _, _ => none
  | f + 1, v3, S, d =>
    (isK S 0 (some this)).bind fun z23 =>
    (isK S 1 (S.2.1 z23 0)).bind fun z24 =>
    if (d.1 z24 6) ≤ v3 then
      some (.inl (()), S, d)
    else
      (aix S 50 (S.2.1 z24 2) v3).bind fun q25 =>
      if ¬ (d.1 q25.1 q25.2) = p1 then
        Ws_looks_2_h100 this p1 f (v3 + 1) S d
      else
        (aix S 51 (S.2.1 z23 16) v3).bind fun q26 =>
        if (d.1 q26.1 q26.2) = 0 then
          (aix S 50 (S.2.1 z23 15) v3).bind fun q27 =>
          (some (dI d q27.1 q27.2 ((d.1 q27.1 q27.2) + 1))).bind fun d28 =>
          Ws_looks_2_b165 this p1 (Ws_looks_2_h100 this p1 f) v3 (if ¬ (d28.1 q27.1 q27.2) = 1 then 3 else 2) v3 6 (some this) S d28
        else
          Ws_looks_2_h100 this p1 f (v3 + 1) S d
def Ws_looks_2_h17 (this : Nat) (p1 : Int32) : Nat → Int32 → Int32 → Sp → Dt → Option ((Unit ⊕ Nat) × Sp × Dt)
  | 0, _, _, _, _ => none
  | f + 1, v2, v3, S, d =>
    (isK S 0 (some this)).bind fun z4 =>
    (Ws_tasks this S d).bind fun r5 =>
    if r5 ≤ v3 then
      (some (p1 + 1)).bind fun x6 =>
      Ws_looks_2_h100 this p1 FU x6 S d
    else
      (aix S 57 (S.2.1 z4 12) v3).bind fun q7 =>
      (some (S.2.1 q7.1 q7.2)).bind fun x8 =>
      (Ws_taskOf this v3 S d).bind fun r9 =>
      (isK S 12 r9).bind fun z10 =>
      if ¬ (d.1 z10 0) = p1 then
        Ws_looks_2_h17 this p1 f v2 (v3 + 1) S d
      else
        (isK S 8 x8).bind fun z11 =>
        if v2 < (d.1 z11 5) then
          Ws_looks_2_h17 this p1 f v2 (v3 + 1) S d
        else
          (Ws_taskOf this v3 S d).bind fun r12 =>
          (isK S 12 r12).bind fun z13 =>
          (Ws_taskOf this v3 S d).bind fun r14 =>
          (isK S 12 r14).bind fun z15 =>
          (Ws_in (Int32.toInt64 (d.1 z11 14)) (Int32.toInt64 (d.1 z13 4)) (Int32.toInt64 (d.1 z15 5)) S d).bind fun r16 =>
          if ¬ r16 = 0 then
            Ws_looks_2_h17 this p1 f v2 (v3 + 1) S d
          else
            bindE (Ws_faults this 5 v3 S d) (fun v9 S9 d9 => some (.inr v9, S9, d9)) fun _ S17 d18 =>
            Ws_looks_2_h17 this p1 f v2 (v3 + 1) S17 d18
def Ws_looks_2 (this : Nat) (p1 : Int32) (S : Sp) (d : Dt) : Option ((Unit ⊕ Nat) × Sp × Dt) :=
  (isK S 0 (some this)).bind fun z1 =>
  (isK S 1 (S.2.1 z1 0)).bind fun z2 =>
  (some (((d.1 z1 25) + 1) - (d.1 z2 4))).bind fun x3 =>
  Ws_looks_2_h17 this p1 FU x3 0 S d
set_option maxHeartbeats 4000000 in
theorem Ws_looks_2_fn (this : Nat) (p1 : Int32) (S : Sp) (d : Dt) : FnX yX0_looks_2 (ws_ yX0_looks_2 cX0_looks_2 5 none) 11 249 [va_rf (some this), .int p1] S d rvU "WatchStack$Reset" (Ws_looks_2 this p1 S d) := by
  refine FnX.ofJ (own := RX0) (lv := [(0, va_rf (some this)), (1, .int p1)]) (by decide +kernel) rfl (by simp [cat_i, cat_l, cat_f, cat_d, rf_cat]) (by simp [lv_args, cat_i, cat_l, cat_f, cat_d, rf_cat]) ?_
  intro X F G hRm hR
  have hWs_looks_2_b165 : ∀ (k100 : Int32 → Sp → Dt → Option ((Unit ⊕ Nat) × Sp × Dt)) (hk100 : ∀ (v3 : Int32) (S : Sp) (d : Dt), J X F Λa S d 100 [(0, va_rf (some this)), (1, .int p1), (3, .int v3)] [] (k100 v3 S d)) (v3 : Int32) (s0 : Int32) (s1 : Int32) (s2 : Int32) (s3 : Option Nat) (S : Sp) (d : Dt), J X F Λa S d 165 [(0, va_rf (some this)), (1, .int p1), (3, .int v3)] [.int s0, .int s1, .int s2, va_rf s3] (Ws_looks_2_b165 this p1 k100 v3 s0 s1 s2 s3 S d) := by
    intro k100 hk100 v3 s0 s1 s2 s3 S d
    unfold Ws_looks_2_b165
    refine J_bd (fun z33 hz33 => ?_)
    refine J_stk (st' := [.int s0, .int s1, .int s2, va_rf (some z33)]) (by rw [(isK_at hz33).1]) ?_
    refine JXV_U (pc := 165) (as := [.int s2, .int s1, .int s0]) (st' := []) (o := some z33) G (Ws_notes_fn z33 s2 s1 s0 S d) (JXC_V (n := 3) G hRm cl_X0 q1204 q1206 qs40 q137 q1207 ⟨rfl, dd_X0_notes⟩ ⟨by decide, by decide⟩ dX0_looks_2_165 (isK_s hz33) rfl (Nat.le_of_ble_eq_true rfl)) rfl (fun _ _ _ => rfl) (fun _ S34 d35 hd35 => ?_) (fun v9 S9 d9 h9 => JX_out G hR)
    refine JR_iinc (pc := 168) (i := 3) (v := v3 + 1) (lv' := [(3, .int (v3 + 1)), (0, va_rf (some this)), (1, .int p1)]) G rfl (congrArg (fun z => v3 + z) (by decide)) (by decide) rfl dX0_looks_2_168 ?_
    refine JR_goto (pc := 171) (tgt := 100) G dX0_looks_2_171 (by decide) ?_
    refine J_sub [1, 2, 0] rfl ?_
    exact hk100 (v3 + 1) S34 d35
  have hWs_looks_2_h100 : ∀ (f : Nat) (v3 : Int32) (S : Sp) (d : Dt), J X F Λa S d 100 [(0, va_rf (some this)), (1, .int p1), (3, .int v3)] [] (Ws_looks_2_h100 this p1 f v3 S d) := by
    intro  f
    induction f with
    | zero => intro v3 S d; exact J_no
    | succ f ih =>
      intro v3 S d
      unfold Ws_looks_2_h100
      refine JR_iload_n (pc := 100) (k := 3) (i := 3) G rfl rfl dX0_looks_2_100 ?_
      refine JR_aload_n (pc := 101) (k := 0) (i := 0) (o := some this) G rfl rfl dX0_looks_2_101 ?_
      refine J_bd (fun z23 hz23 => ?_)
      refine JR_gR (pc := 102) (k := 0) G cl_X0 in_X0 (by decide) (by decide) rfl (Or.inl rfl) q451 hz23 dX0_looks_2_102 ?_
      refine J_bd (fun z24 hz24 => ?_)
      refine JR_gIN (pc := 105) (k := 6) G cl_X1 in_X1 (by decide) (by decide) rfl (Or.inl rfl) q237 hz24 dX0_looks_2_105 ?_
      refine JR_icmp_ge (pc := 108) (tgt := 174) G dX0_looks_2_108 (by decide) (fun c32 => ?_) (fun c32 => ?_)
      · exact JRX_vret (pc := 174) G hR dX0_looks_2_174
      · refine JR_aload_n (pc := 111) (k := 0) (i := 0) (o := some this) G rfl rfl dX0_looks_2_111 ?_
        refine JR_gR (pc := 112) (k := 0) G cl_X0 in_X0 (by decide) (by decide) rfl (Or.inl rfl) q451 hz23 dX0_looks_2_112 ?_
        refine JR_gRN (pc := 115) (k := 2) G cl_X1 in_X1 (by decide) (by decide) rfl (Or.inl rfl) q224 hz24 dX0_looks_2_115 ?_
        refine JR_iload_n (pc := 118) (k := 3) (i := 3) G rfl rfl dX0_looks_2_118 ?_
        refine J_bd (fun q25 hq25 => ?_)
        refine JR_iaload (pc := 119) G hq25 dX0_looks_2_119 ?_
        refine JR_iload_n (pc := 120) (k := 1) (i := 1) G rfl rfl dX0_looks_2_120 ?_
        refine JR_icmp_ne (pc := 121) (tgt := 168) G dX0_looks_2_121 (by decide) (fun c31 => ?_) (fun c31 => ?_)
        · refine JR_iinc (pc := 168) (i := 3) (v := v3 + 1) (lv' := [(3, .int (v3 + 1)), (0, va_rf (some this)), (1, .int p1)]) G rfl (congrArg (fun z => v3 + z) (by decide)) (by decide) rfl dX0_looks_2_168 ?_
          refine JR_goto (pc := 171) (tgt := 100) G dX0_looks_2_171 (by decide) ?_
          refine J_sub [1, 2, 0] rfl ?_
          exact ih (v3 + 1) S d
        · refine JR_aload_n (pc := 124) (k := 0) (i := 0) (o := some this) G rfl rfl dX0_looks_2_124 ?_
          refine JR_gR (pc := 125) (k := 16) G cl_X0 in_X0 (by decide) (by decide) rfl (Or.inl rfl) q469 hz23 dX0_looks_2_125 ?_
          refine JR_iload_n (pc := 128) (k := 3) (i := 3) G rfl rfl dX0_looks_2_128 ?_
          refine J_bd (fun q26 hq26 => ?_)
          refine JR_zaload (pc := 129) G hq26 dX0_looks_2_129 ?_
          refine JR_if_eq (pc := 130) (tgt := 136) G dX0_looks_2_130 (by decide) (fun c30 => ?_) (fun c30 => ?_)
          · refine JR_aload_n (pc := 136) (k := 0) (i := 0) (o := some this) G rfl rfl dX0_looks_2_136 ?_
            refine JR_gR (pc := 137) (k := 15) G cl_X0 in_X0 (by decide) (by decide) rfl (Or.inl rfl) q468 hz23 dX0_looks_2_137 ?_
            refine JR_iload_n (pc := 140) (k := 3) (i := 3) G rfl rfl dX0_looks_2_140 ?_
            refine JR_dup2 (pc := 141) G rfl (rf_cat _) dX0_looks_2_141 ?_
            refine J_bd (fun q27 hq27 => ?_)
            refine JR_iaload (pc := 142) G hq27 dX0_looks_2_142 ?_
            refine JR_iconst (pc := 143) G ci_1 dX0_looks_2_143 ?_
            refine JR_iadd (pc := 144) G dX0_looks_2_144 ?_
            refine JW_iastore (pc := 145) G hq27 (fun _ => rfl) dX0_looks_2_145 ?_
            refine J_nmD (fun d28 hd28 => ?_)
            refine JR_aload_n (pc := 146) (k := 0) (i := 0) (o := some this) G rfl rfl dX0_looks_2_146 ?_
            refine JR_bipush (pc := 147) (v := 6) G (by decide) dX0_looks_2_147 ?_
            refine JR_iload_n (pc := 149) (k := 3) (i := 3) G rfl rfl dX0_looks_2_149 ?_
            refine JR_aload_n (pc := 150) (k := 0) (i := 0) (o := some this) G rfl rfl dX0_looks_2_150 ?_
            refine JR_gR (pc := 151) (k := 15) G cl_X0 in_X0 (by decide) (by decide) rfl (Or.inl rfl) q468 hz23 dX0_looks_2_151 ?_
            refine JR_iload_n (pc := 154) (k := 3) (i := 3) G rfl rfl dX0_looks_2_154 ?_
            refine JR_iaload (pc := 155) G hq27 dX0_looks_2_155 ?_
            refine JR_iconst (pc := 156) G ci_1 dX0_looks_2_156 ?_
            refine J_eq (r' := if ¬ (d28.1 q27.1 q27.2) = 1 then Ws_looks_2_b165 this p1 (Ws_looks_2_h100 this p1 f) v3 3 v3 6 (some this) S d28 else Ws_looks_2_b165 this p1 (Ws_looks_2_h100 this p1 f) v3 2 v3 6 (some this) S d28) (by split <;> rfl) ?_
            refine JR_icmp_ne (pc := 157) (tgt := 164) G dX0_looks_2_157 (by decide) (fun c29 => ?_) (fun c29 => ?_)
            · refine JR_iconst (pc := 164) G ci_3 dX0_looks_2_164 ?_
              exact hWs_looks_2_b165 (Ws_looks_2_h100 this p1 f) ih v3 3 v3 6 (some this) S d28
            · refine JR_iconst (pc := 160) G ci_2 dX0_looks_2_160 ?_
              refine JR_goto (pc := 161) (tgt := 165) G dX0_looks_2_161 (by decide) ?_
              exact hWs_looks_2_b165 (Ws_looks_2_h100 this p1 f) ih v3 2 v3 6 (some this) S d28
          · refine JR_goto (pc := 133) (tgt := 168) G dX0_looks_2_133 (by decide) ?_
            refine JR_iinc (pc := 168) (i := 3) (v := v3 + 1) (lv' := [(3, .int (v3 + 1)), (0, va_rf (some this)), (1, .int p1)]) G rfl (congrArg (fun z => v3 + z) (by decide)) (by decide) rfl dX0_looks_2_168 ?_
            refine JR_goto (pc := 171) (tgt := 100) G dX0_looks_2_171 (by decide) ?_
            refine J_sub [1, 2, 0] rfl ?_
            exact ih (v3 + 1) S d
  have hWs_looks_2_h17 : ∀ (f : Nat) (v2 : Int32) (v3 : Int32) (S : Sp) (d : Dt), J X F Λa S d 17 [(0, va_rf (some this)), (1, .int p1), (2, .int v2), (3, .int v3)] [] (Ws_looks_2_h17 this p1 f v2 v3 S d) := by
    intro  f
    induction f with
    | zero => intro v2 v3 S d; exact J_no
    | succ f ih =>
      intro v2 v3 S d
      unfold Ws_looks_2_h17
      refine JR_iload_n (pc := 17) (k := 3) (i := 3) G rfl rfl dX0_looks_2_17 ?_
      refine JR_aload_n (pc := 18) (k := 0) (i := 0) (o := some this) G rfl rfl dX0_looks_2_18 ?_
      refine J_bd (fun z4 hz4 => ?_)
      refine JPV_I (pc := 19) (as := []) (st' := [.int v3]) (o := some this) G (Ws_tasks_fn this S d) (JC_V (n := 0) G hRm cl_X0 q423 q425 qs1 q137 q426 ⟨rfl, dd_X0_tasks⟩ ⟨by decide, by decide⟩ dX0_looks_2_19 hz4 rfl (Nat.le_of_ble_eq_true rfl)) rfl (fun r5 hr5 => ?_)
      refine JR_icmp_ge (pc := 22) (tgt := 96) G dX0_looks_2_22 (by decide) (fun c22 => ?_) (fun c22 => ?_)
      · refine JR_iload_n (pc := 96) (k := 1) (i := 1) G rfl rfl dX0_looks_2_96 ?_
        refine JR_iconst (pc := 97) G ci_1 dX0_looks_2_97 ?_
        refine JR_iadd (pc := 98) G dX0_looks_2_98 ?_
        refine J_nm (fun x6 hx6 => ?_)
        refine JR_istore_n (pc := 99) (k := 3) (i := 3) (lv' := [(3, .int x6), (0, va_rf (some this)), (1, .int p1), (2, .int v2)]) G rfl (by decide) rfl dX0_looks_2_99 ?_
        refine J_sub [1, 2, 0] rfl ?_
        exact hWs_looks_2_h100 FU x6 S d
      · refine JR_aload_n (pc := 25) (k := 0) (i := 0) (o := some this) G rfl rfl dX0_looks_2_25 ?_
        refine JR_gR (pc := 26) (k := 12) G cl_X0 in_X0 (by decide) (by decide) rfl (Or.inl rfl) q464 hz4 dX0_looks_2_26 ?_
        refine JR_iload_n (pc := 29) (k := 3) (i := 3) G rfl rfl dX0_looks_2_29 ?_
        refine J_bd (fun q7 hq7 => ?_)
        refine JR_aaload (pc := 30) (t := 7) G (by decide) rfl hq7 dX0_looks_2_30 ?_
        refine J_nmR (fun x8 hx8 => ?_)
        refine JR_astore (pc := 31) (i := 4) (lv' := [(4, va_rf x8), (0, va_rf (some this)), (1, .int p1), (2, .int v2), (3, .int v3)]) G (by decide) rfl dX0_looks_2_31 ?_
        refine JR_aload_n (pc := 33) (k := 0) (i := 0) (o := some this) G rfl rfl dX0_looks_2_33 ?_
        refine JR_iload_n (pc := 34) (k := 3) (i := 3) G rfl rfl dX0_looks_2_34 ?_
        refine JPV_R (pc := 35) (as := [.int v3]) (st' := []) (o := some this) G (Ws_taskOf_fn this v3 S d) (JC_V (n := 1) G hRm cl_X0 q431 q433 qs2 q137 q434 ⟨rfl, dd_X0_taskOf⟩ ⟨by decide, by decide⟩ dX0_looks_2_35 hz4 rfl (Nat.le_of_ble_eq_true rfl)) rfl (fun r9 hr9 => ?_)
        refine J_bd (fun z10 hz10 => ?_)
        refine JR_gIN (pc := 38) (k := 0) G cl_X13 in_X13 (by decide) (by decide) rfl (Or.inl rfl) q819 hz10 dX0_looks_2_38 ?_
        refine JR_iload_n (pc := 41) (k := 1) (i := 1) G rfl rfl dX0_looks_2_41 ?_
        refine JR_icmp_ne (pc := 42) (tgt := 90) G dX0_looks_2_42 (by decide) (fun c21 => ?_) (fun c21 => ?_)
        · refine JR_iinc (pc := 90) (i := 3) (v := v3 + 1) (lv' := [(3, .int (v3 + 1)), (4, va_rf x8), (0, va_rf (some this)), (1, .int p1), (2, .int v2)]) G rfl (congrArg (fun z => v3 + z) (by decide)) (by decide) rfl dX0_looks_2_90 ?_
          refine JR_goto (pc := 93) (tgt := 17) G dX0_looks_2_93 (by decide) ?_
          refine J_sub [2, 3, 4, 0] rfl ?_
          exact ih v2 (v3 + 1) S d
        · refine JR_aload (pc := 45) (i := 4) (o := x8) G rfl dX0_looks_2_45 ?_
          refine J_bd (fun z11 hz11 => ?_)
          refine JR_gIN (pc := 47) (k := 5) G cl_X9 in_X9 (by decide) (by decide) rfl (Or.inl rfl) q349 hz11 dX0_looks_2_47 ?_
          refine JR_iload_n (pc := 50) (k := 2) (i := 2) G rfl rfl dX0_looks_2_50 ?_
          refine JR_icmp_gt (pc := 51) (tgt := 90) G dX0_looks_2_51 (by decide) (fun c20 => ?_) (fun c20 => ?_)
          · refine JR_iinc (pc := 90) (i := 3) (v := v3 + 1) (lv' := [(3, .int (v3 + 1)), (4, va_rf x8), (0, va_rf (some this)), (1, .int p1), (2, .int v2)]) G rfl (congrArg (fun z => v3 + z) (by decide)) (by decide) rfl dX0_looks_2_90 ?_
            refine JR_goto (pc := 93) (tgt := 17) G dX0_looks_2_93 (by decide) ?_
            refine J_sub [2, 3, 4, 0] rfl ?_
            exact ih v2 (v3 + 1) S d
          · refine JR_aload (pc := 54) (i := 4) (o := x8) G rfl dX0_looks_2_54 ?_
            refine JR_gIN (pc := 56) (k := 14) G cl_X9 in_X9 (by decide) (by decide) rfl (Or.inl rfl) q367 hz11 dX0_looks_2_56 ?_
            refine JR_i2l (pc := 59) G dX0_looks_2_59 ?_
            refine JR_aload_n (pc := 60) (k := 0) (i := 0) (o := some this) G rfl rfl dX0_looks_2_60 ?_
            refine JR_iload_n (pc := 61) (k := 3) (i := 3) G rfl rfl dX0_looks_2_61 ?_
            refine JPV_R (pc := 62) (as := [.int v3]) (st' := [.long (Int32.toInt64 (d.1 z11 14))]) (o := some this) G (Ws_taskOf_fn this v3 S d) (JC_V (n := 1) G hRm cl_X0 q431 q433 qs2 q137 q434 ⟨rfl, dd_X0_taskOf⟩ ⟨by decide, by decide⟩ dX0_looks_2_62 hz4 rfl (Nat.le_of_ble_eq_true rfl)) rfl (fun r12 hr12 => ?_)
            refine J_bd (fun z13 hz13 => ?_)
            refine JR_gIN (pc := 65) (k := 4) G cl_X13 in_X13 (by decide) (by decide) rfl (Or.inl rfl) q828 hz13 dX0_looks_2_65 ?_
            refine JR_i2l (pc := 68) G dX0_looks_2_68 ?_
            refine JR_aload_n (pc := 69) (k := 0) (i := 0) (o := some this) G rfl rfl dX0_looks_2_69 ?_
            refine JR_iload_n (pc := 70) (k := 3) (i := 3) G rfl rfl dX0_looks_2_70 ?_
            refine JPV_R (pc := 71) (as := [.int v3]) (st' := [.long (Int32.toInt64 (d.1 z13 4)), .long (Int32.toInt64 (d.1 z11 14))]) (o := some this) G (Ws_taskOf_fn this v3 S d) (JC_V (n := 1) G hRm cl_X0 q431 q433 qs2 q137 q434 ⟨rfl, dd_X0_taskOf⟩ ⟨by decide, by decide⟩ dX0_looks_2_71 hz4 rfl (Nat.le_of_ble_eq_true rfl)) rfl (fun r14 hr14 => ?_)
            refine J_bd (fun z15 hz15 => ?_)
            refine JR_gIN (pc := 74) (k := 5) G cl_X13 in_X13 (by decide) (by decide) rfl (Or.inl rfl) q830 hz15 dX0_looks_2_74 ?_
            refine JR_i2l (pc := 77) G dX0_looks_2_77 ?_
            refine JPS_I (pc := 78) (as := [.long (Int32.toInt64 (d.1 z11 14)), .long (Int32.toInt64 (d.1 z13 4)), .long (Int32.toInt64 (d.1 z15 5))]) (st' := []) G (Ws_in_fn (Int32.toInt64 (d.1 z11 14)) (Int32.toInt64 (d.1 z13 4)) (Int32.toInt64 (d.1 z15 5)) S d) (JC_S (n := 3) G hRm q575 q576 q137 q577 dd_X0_in ⟨by decide, by decide⟩ dX0_looks_2_78 rfl (Nat.le_of_ble_eq_true rfl)) rfl (fun r16 hr16 => ?_)
            refine JR_if_ne (pc := 81) (tgt := 90) G dX0_looks_2_81 (by decide) (fun c19 => ?_) (fun c19 => ?_)
            · refine JR_iinc (pc := 90) (i := 3) (v := v3 + 1) (lv' := [(3, .int (v3 + 1)), (4, va_rf x8), (0, va_rf (some this)), (1, .int p1), (2, .int v2)]) G rfl (congrArg (fun z => v3 + z) (by decide)) (by decide) rfl dX0_looks_2_90 ?_
              refine JR_goto (pc := 93) (tgt := 17) G dX0_looks_2_93 (by decide) ?_
              refine J_sub [2, 3, 4, 0] rfl ?_
              exact ih v2 (v3 + 1) S d
            · refine JR_aload_n (pc := 84) (k := 0) (i := 0) (o := some this) G rfl rfl dX0_looks_2_84 ?_
              refine JR_iconst (pc := 85) G ci_5 dX0_looks_2_85 ?_
              refine JR_iload_n (pc := 86) (k := 3) (i := 3) G rfl rfl dX0_looks_2_86 ?_
              refine JXV_U (pc := 87) (as := [.int 5, .int v3]) (st' := []) (o := some this) G (Ws_faults_fn this 5 v3 S d) (JXC_V (n := 2) G hRm cl_X0 q1197 q1199 qs39 q137 q1200 ⟨rfl, dd_X0_faults⟩ ⟨by decide, by decide⟩ dX0_looks_2_87 hz4 rfl (Nat.le_of_ble_eq_true rfl)) rfl (fun _ _ _ => rfl) (fun _ S17 d18 hd18 => ?_) (fun v9 S9 d9 h9 => JX_out G hR)
              refine JR_iinc (pc := 90) (i := 3) (v := v3 + 1) (lv' := [(3, .int (v3 + 1)), (4, va_rf x8), (0, va_rf (some this)), (1, .int p1), (2, .int v2)]) G rfl (congrArg (fun z => v3 + z) (by decide)) (by decide) rfl dX0_looks_2_90 ?_
              refine JR_goto (pc := 93) (tgt := 17) G dX0_looks_2_93 (by decide) ?_
              refine J_sub [2, 3, 4, 0] rfl ?_
              exact ih v2 (v3 + 1) S17 d18
  unfold Ws_looks_2
  refine JR_aload_n (pc := 0) (k := 0) (i := 0) (o := some this) G rfl rfl dX0_looks_2_0 ?_
  refine J_bd (fun z1 hz1 => ?_)
  refine JR_gI (pc := 1) (k := 25) G cl_X0 in_X0 (by decide) (by decide) rfl (Or.inl rfl) q481 hz1 dX0_looks_2_1 ?_
  refine JR_iconst (pc := 4) G ci_1 dX0_looks_2_4 ?_
  refine JR_iadd (pc := 5) G dX0_looks_2_5 ?_
  refine JR_aload_n (pc := 6) (k := 0) (i := 0) (o := some this) G rfl rfl dX0_looks_2_6 ?_
  refine JR_gR (pc := 7) (k := 0) G cl_X0 in_X0 (by decide) (by decide) rfl (Or.inl rfl) q451 hz1 dX0_looks_2_7 ?_
  refine J_bd (fun z2 hz2 => ?_)
  refine JR_gIN (pc := 10) (k := 4) G cl_X1 in_X1 (by decide) (by decide) rfl (Or.inl rfl) q230 hz2 dX0_looks_2_10 ?_
  refine JR_isub (pc := 13) G dX0_looks_2_13 ?_
  refine J_nm (fun x3 hx3 => ?_)
  refine JR_istore_n (pc := 14) (k := 2) (i := 2) (lv' := [(2, .int x3), (0, va_rf (some this)), (1, .int p1)]) G rfl (by decide) rfl dX0_looks_2_14 ?_
  refine JR_iconst (pc := 15) G ci_0 dX0_looks_2_15 ?_
  refine JR_istore_n (pc := 16) (k := 3) (i := 3) (lv' := [(3, .int 0), (2, .int x3), (0, va_rf (some this)), (1, .int p1)]) G rfl (by decide) rfl dX0_looks_2_16 ?_
  refine J_sub [2, 3, 1, 0] rfl ?_
  exact hWs_looks_2_h17 FU x3 0 S d

def Ws_looks_b36 (this : Nat) (k10 : Int32 → Sp → Dt → Option ((Unit ⊕ Nat) × Sp × Dt)) (v1 : Int32) (s0 : Int32) (s1 : Int32) (s2 : Option Nat) (S : Sp) (d : Dt) : Option ((Unit ⊕ Nat) × Sp × Dt) :=
  (aix S 51 s2 s1).bind fun q15 =>
  (some (dI d q15.1 q15.2 (vp_nar .boolean s0))).bind fun d16 =>
  (isK S 0 (some this)).bind fun z17 =>
  (aix S 51 (S.2.1 z17 16) v1).bind fun q18 =>
  if (d16.1 q18.1 q18.2) = 0 then
    k10 (v1 + (-1)) S d16
  else
    bindE (Ws_looks_2 this v1 S d16) (fun v9 S9 d9 => some (.inr v9, S9, d9)) fun _ S19 d20 =>
    k10 (v1 + (-1)) S19 d20
def Ws_looks_h10 (this : Nat) : Nat → Int32 → Sp → Dt → Option ((Unit ⊕ Nat) × Sp × Dt)
  | 0, _, _, _ => none
  | f + 1, v1, S, d =>
    if v1 < 0 then
      (isK S 0 (some this)).bind fun z4 =>
      (isK S 1 (S.2.1 z4 0)).bind fun z5 =>
      if (d.1 z5 6) ≤ 0 then
        some (.inl (()), S, d)
      else
        (aix S 51 (S.2.1 z4 16) 0).bind fun q6 =>
        if ¬ (d.1 q6.1 q6.2) = 0 then
          some (.inl (()), S, d)
        else
          bindE (Ws_notes this 7 0 3 S d) (fun v9 S9 d9 => some (.inr v9, S9, d9)) fun _ S7 d8 =>
          some (.inl (()), S7, d8)
    else
      (isK S 0 (some this)).bind fun z11 =>
      (Ws_isAsleep this v1 (d.1 z11 25) S d).bind fun r12 =>
      Ws_looks_b36 this (Ws_looks_h10 this f) v1 (if ¬ r12 = 0 then 0 else 1) v1 (S.2.1 z11 16) S d
def Ws_looks (this : Nat) (S : Sp) (d : Dt) : Option ((Unit ⊕ Nat) × Sp × Dt) :=
  (isK S 0 (some this)).bind fun z1 =>
  (isK S 1 (S.2.1 z1 0)).bind fun z2 =>
  (some ((d.1 z2 6) - 1)).bind fun x3 =>
  Ws_looks_h10 this FU x3 S d
set_option maxHeartbeats 4000000 in
theorem Ws_looks_fn (this : Nat) (S : Sp) (d : Dt) : FnX yX0_looks (ws_ yX0_looks cX0_looks 2 none) 12 273 [va_rf (some this)] S d rvU "WatchStack$Reset" (Ws_looks this S d) := by
  refine FnX.ofJ (own := RX0) (lv := [(0, va_rf (some this))]) (by decide +kernel) rfl (by simp [cat_i, cat_l, cat_f, cat_d, rf_cat]) (by simp [lv_args, cat_i, cat_l, cat_f, cat_d, rf_cat]) ?_
  intro X F G hRm hR
  have hWs_looks_b36 : ∀ (k10 : Int32 → Sp → Dt → Option ((Unit ⊕ Nat) × Sp × Dt)) (hk10 : ∀ (v1 : Int32) (S : Sp) (d : Dt), J X F Λa S d 10 [(0, va_rf (some this)), (1, .int v1)] [] (k10 v1 S d)) (v1 : Int32) (s0 : Int32) (s1 : Int32) (s2 : Option Nat) (S : Sp) (d : Dt), J X F Λa S d 36 [(0, va_rf (some this)), (1, .int v1)] [.int s0, .int s1, va_rf s2] (Ws_looks_b36 this k10 v1 s0 s1 s2 S d) := by
    intro k10 hk10 v1 s0 s1 s2 S d
    unfold Ws_looks_b36
    refine J_bd (fun q15 hq15 => ?_)
    refine JW_zastore (pc := 36) G hq15 (fun _ => rfl) dX0_looks_36 ?_
    refine J_nmD (fun d16 hd16 => ?_)
    refine JR_aload_n (pc := 37) (k := 0) (i := 0) (o := some this) G rfl rfl dX0_looks_37 ?_
    refine J_bd (fun z17 hz17 => ?_)
    refine JR_gR (pc := 38) (k := 16) G cl_X0 in_X0 (by decide) (by decide) rfl (Or.inl rfl) q469 hz17 dX0_looks_38 ?_
    refine JR_iload_n (pc := 41) (k := 1) (i := 1) G rfl rfl dX0_looks_41 ?_
    refine J_bd (fun q18 hq18 => ?_)
    refine JR_zaload (pc := 42) G hq18 dX0_looks_42 ?_
    refine JR_if_eq (pc := 43) (tgt := 51) G dX0_looks_43 (by decide) (fun c21 => ?_) (fun c21 => ?_)
    · refine JR_iinc (pc := 51) (i := 1) (v := v1 + (-1)) (lv' := [(1, .int (v1 + (-1))), (0, va_rf (some this))]) G rfl (congrArg (fun z => v1 + z) (by decide)) (by decide) rfl dX0_looks_51 ?_
      refine JR_goto (pc := 54) (tgt := 10) G dX0_looks_54 (by decide) ?_
      refine J_sub [1, 0] rfl ?_
      exact hk10 (v1 + (-1)) S d16
    · refine JR_aload_n (pc := 46) (k := 0) (i := 0) (o := some this) G rfl rfl dX0_looks_46 ?_
      refine JR_iload_n (pc := 47) (k := 1) (i := 1) G rfl rfl dX0_looks_47 ?_
      refine JXV_U (pc := 48) (as := [.int v1]) (st' := []) (o := some this) G (Ws_looks_2_fn this v1 S d16) (JXC_V (n := 1) G hRm cl_X0 q1281 q1283 qs46 q137 q1284 ⟨rfl, dd_X0_looks_2⟩ ⟨by decide, by decide⟩ dX0_looks_48 hz17 rfl (Nat.le_of_ble_eq_true rfl)) rfl (fun _ _ _ => rfl) (fun _ S19 d20 hd20 => ?_) (fun v9 S9 d9 h9 => JX_out G hR)
      refine JR_iinc (pc := 51) (i := 1) (v := v1 + (-1)) (lv' := [(1, .int (v1 + (-1))), (0, va_rf (some this))]) G rfl (congrArg (fun z => v1 + z) (by decide)) (by decide) rfl dX0_looks_51 ?_
      refine JR_goto (pc := 54) (tgt := 10) G dX0_looks_54 (by decide) ?_
      refine J_sub [1, 0] rfl ?_
      exact hk10 (v1 + (-1)) S19 d20
  have hWs_looks_h10 : ∀ (f : Nat) (v1 : Int32) (S : Sp) (d : Dt), J X F Λa S d 10 [(0, va_rf (some this)), (1, .int v1)] [] (Ws_looks_h10 this f v1 S d) := by
    intro  f
    induction f with
    | zero => intro v1 S d; exact J_no
    | succ f ih =>
      intro v1 S d
      unfold Ws_looks_h10
      refine JR_iload_n (pc := 10) (k := 1) (i := 1) G rfl rfl dX0_looks_10 ?_
      refine JR_if_lt (pc := 11) (tgt := 57) G dX0_looks_11 (by decide) (fun c14 => ?_) (fun c14 => ?_)
      · refine JR_aload_n (pc := 57) (k := 0) (i := 0) (o := some this) G rfl rfl dX0_looks_57 ?_
        refine J_bd (fun z4 hz4 => ?_)
        refine JR_gR (pc := 58) (k := 0) G cl_X0 in_X0 (by decide) (by decide) rfl (Or.inl rfl) q451 hz4 dX0_looks_58 ?_
        refine J_bd (fun z5 hz5 => ?_)
        refine JR_gIN (pc := 61) (k := 6) G cl_X1 in_X1 (by decide) (by decide) rfl (Or.inl rfl) q237 hz5 dX0_looks_61 ?_
        refine JR_if_le (pc := 64) (tgt := 84) G dX0_looks_64 (by decide) (fun c10 => ?_) (fun c10 => ?_)
        · exact JRX_vret (pc := 84) G hR dX0_looks_84
        · refine JR_aload_n (pc := 67) (k := 0) (i := 0) (o := some this) G rfl rfl dX0_looks_67 ?_
          refine JR_gR (pc := 68) (k := 16) G cl_X0 in_X0 (by decide) (by decide) rfl (Or.inl rfl) q469 hz4 dX0_looks_68 ?_
          refine JR_iconst (pc := 71) G ci_0 dX0_looks_71 ?_
          refine J_bd (fun q6 hq6 => ?_)
          refine JR_zaload (pc := 72) G hq6 dX0_looks_72 ?_
          refine JR_if_ne (pc := 73) (tgt := 84) G dX0_looks_73 (by decide) (fun c9 => ?_) (fun c9 => ?_)
          · exact JRX_vret (pc := 84) G hR dX0_looks_84
          · refine JR_aload_n (pc := 76) (k := 0) (i := 0) (o := some this) G rfl rfl dX0_looks_76 ?_
            refine JR_bipush (pc := 77) (v := 7) G (by decide) dX0_looks_77 ?_
            refine JR_iconst (pc := 79) G ci_0 dX0_looks_79 ?_
            refine JR_iconst (pc := 80) G ci_3 dX0_looks_80 ?_
            refine JXV_U (pc := 81) (as := [.int 7, .int 0, .int 3]) (st' := []) (o := some this) G (Ws_notes_fn this 7 0 3 S d) (JXC_V (n := 3) G hRm cl_X0 q1204 q1206 qs40 q137 q1207 ⟨rfl, dd_X0_notes⟩ ⟨by decide, by decide⟩ dX0_looks_81 hz4 rfl (Nat.le_of_ble_eq_true rfl)) rfl (fun _ _ _ => rfl) (fun _ S7 d8 hd8 => ?_) (fun v9 S9 d9 h9 => JX_out G hR)
            exact JRX_vret (pc := 84) G hR dX0_looks_84
      · refine JR_aload_n (pc := 14) (k := 0) (i := 0) (o := some this) G rfl rfl dX0_looks_14 ?_
        refine J_bd (fun z11 hz11 => ?_)
        refine JR_gR (pc := 15) (k := 16) G cl_X0 in_X0 (by decide) (by decide) rfl (Or.inl rfl) q469 hz11 dX0_looks_15 ?_
        refine JR_iload_n (pc := 18) (k := 1) (i := 1) G rfl rfl dX0_looks_18 ?_
        refine JR_aload_n (pc := 19) (k := 0) (i := 0) (o := some this) G rfl rfl dX0_looks_19 ?_
        refine JR_iload_n (pc := 20) (k := 1) (i := 1) G rfl rfl dX0_looks_20 ?_
        refine JR_aload_n (pc := 21) (k := 0) (i := 0) (o := some this) G rfl rfl dX0_looks_21 ?_
        refine JR_gI (pc := 22) (k := 25) G cl_X0 in_X0 (by decide) (by decide) rfl (Or.inl rfl) q481 hz11 dX0_looks_22 ?_
        refine JPV_I (pc := 25) (as := [.int v1, .int (d.1 z11 25)]) (st' := [.int v1, va_rf (S.2.1 z11 16)]) (o := some this) G (Ws_isAsleep_fn this v1 (d.1 z11 25) S d) (JC_V (n := 2) G hRm cl_X0 q1277 q1279 qs45 q137 q1280 ⟨rfl, dd_X0_isAsleep⟩ ⟨by decide, by decide⟩ dX0_looks_25 hz11 rfl (Nat.le_of_ble_eq_true rfl)) rfl (fun r12 hr12 => ?_)
        refine J_eq (r' := if ¬ r12 = 0 then Ws_looks_b36 this (Ws_looks_h10 this f) v1 0 v1 (S.2.1 z11 16) S d else Ws_looks_b36 this (Ws_looks_h10 this f) v1 1 v1 (S.2.1 z11 16) S d) (by split <;> rfl) ?_
        refine JR_if_ne (pc := 28) (tgt := 35) G dX0_looks_28 (by decide) (fun c13 => ?_) (fun c13 => ?_)
        · refine JR_iconst (pc := 35) G ci_0 dX0_looks_35 ?_
          exact hWs_looks_b36 (Ws_looks_h10 this f) ih v1 0 v1 (S.2.1 z11 16) S d
        · refine JR_iconst (pc := 31) G ci_1 dX0_looks_31 ?_
          refine JR_goto (pc := 32) (tgt := 36) G dX0_looks_32 (by decide) ?_
          exact hWs_looks_b36 (Ws_looks_h10 this f) ih v1 1 v1 (S.2.1 z11 16) S d
  unfold Ws_looks
  refine JR_aload_n (pc := 0) (k := 0) (i := 0) (o := some this) G rfl rfl dX0_looks_0 ?_
  refine J_bd (fun z1 hz1 => ?_)
  refine JR_gR (pc := 1) (k := 0) G cl_X0 in_X0 (by decide) (by decide) rfl (Or.inl rfl) q451 hz1 dX0_looks_1 ?_
  refine J_bd (fun z2 hz2 => ?_)
  refine JR_gIN (pc := 4) (k := 6) G cl_X1 in_X1 (by decide) (by decide) rfl (Or.inl rfl) q237 hz2 dX0_looks_4 ?_
  refine JR_iconst (pc := 7) G ci_1 dX0_looks_7 ?_
  refine JR_isub (pc := 8) G dX0_looks_8 ?_
  refine J_nm (fun x3 hx3 => ?_)
  refine JR_istore_n (pc := 9) (k := 1) (i := 1) (lv' := [(1, .int x3), (0, va_rf (some this))]) G rfl (by decide) rfl dX0_looks_9 ?_
  refine J_sub [1, 0] rfl ?_
  exact hWs_looks_h10 FU x3 S d

def Li_rests_b47 (this : Nat) (S : Sp) (d : Dt) : Option (Unit × Dt) :=
  (isK S 8 (some this)).bind fun z8 =>
  (some (dI d z8 16 0)).bind fun d9 =>
  (some (dI d9 z8 14 0)).bind fun d10 =>
  some ((), d10)
def Li_rests (this : Nat) (S : Sp) (d : Dt) : Option (Unit × Dt) :=
  (isK S 8 (some this)).bind fun z1 =>
  if ¬ (d.1 z1 16) = 0 then
    Li_rests_b47 this S d
  else
    if (d.1 z1 10) ≤ 0 then
      Li_rests_b47 this S d
    else
      (some (dI d z1 11 ((d.1 z1 11) + 1))).bind fun d2 =>
      if ¬ (d2.1 z1 11) = 3 then
        Li_rests_b47 this S d2
      else
        (some (dI d2 z1 10 ((d2.1 z1 10) - 1))).bind fun d3 =>
        (some (dI d3 z1 11 0)).bind fun d4 =>
        Li_rests_b47 this S d4
set_option maxHeartbeats 4000000 in
theorem Li_rests_fn (this : Nat) (S : Sp) (d : Dt) : Fn yX9_rests (ws_ yX9_rests cX9_rests 1 none) 0 0 [va_rf (some this)] S d rvU Λw (Li_rests this S d) := by
  refine Fn.ofJ (own := RX9) (lv := [(0, va_rf (some this))]) (by decide +kernel) rfl (by simp [cat_i, cat_l, cat_f, cat_d, rf_cat]) (by simp [lv_args, cat_i, cat_l, cat_f, cat_d, rf_cat]) ?_
  intro X F G hRm hR hI
  have hLi_rests_b47 : ∀ (d : Dt), J X F Λw S d 47 [(0, va_rf (some this))] [] (Li_rests_b47 this S d) := by
    intro d
    unfold Li_rests_b47
    refine JR_aload_n (pc := 47) (k := 0) (i := 0) (o := some this) G rfl rfl dX9_rests_47 ?_
    refine JR_iconst (pc := 48) G ci_0 dX9_rests_48 ?_
    refine J_bd (fun z8 hz8 => ?_)
    refine JW_pI (pc := 49) (k := 16) G cl_X9 in_X9 tyX9_ok nmX9 (by decide) (by decide) rfl (Or.inl rfl) rfl q370 rfl rfl hz8 (fun _ => rfl) dX9_rests_49 ?_
    refine J_nmD (fun d9 hd9 => ?_)
    refine JR_aload_n (pc := 52) (k := 0) (i := 0) (o := some this) G rfl rfl dX9_rests_52 ?_
    refine JR_iconst (pc := 53) G ci_0 dX9_rests_53 ?_
    refine JW_pI (pc := 54) (k := 14) G cl_X9 in_X9 tyX9_ok nmX9 (by decide) (by decide) rfl (Or.inl rfl) rfl q366 rfl rfl hz8 (fun _ => rfl) dX9_rests_54 ?_
    refine J_nmD (fun d10 hd10 => ?_)
    exact JR_vret (pc := 57) G hR dX9_rests_57 rfl rfl
  unfold Li_rests
  refine JR_aload_n (pc := 0) (k := 0) (i := 0) (o := some this) G rfl rfl dX9_rests_0 ?_
  refine J_bd (fun z1 hz1 => ?_)
  refine JR_gI (pc := 1) (k := 16) G cl_X9 in_X9 (by decide) (by decide) rfl (Or.inl rfl) q370 hz1 dX9_rests_1 ?_
  refine JR_if_ne (pc := 4) (tgt := 47) G dX9_rests_4 (by decide) (fun c7 => ?_) (fun c7 => ?_)
  · exact hLi_rests_b47 d
  · refine JR_aload_n (pc := 7) (k := 0) (i := 0) (o := some this) G rfl rfl dX9_rests_7 ?_
    refine JR_gI (pc := 8) (k := 10) G cl_X9 in_X9 (by decide) (by decide) rfl (Or.inl rfl) q358 hz1 dX9_rests_8 ?_
    refine JR_if_le (pc := 11) (tgt := 47) G dX9_rests_11 (by decide) (fun c6 => ?_) (fun c6 => ?_)
    · exact hLi_rests_b47 d
    · refine JR_aload_n (pc := 14) (k := 0) (i := 0) (o := some this) G rfl rfl dX9_rests_14 ?_
      refine JR_dup (pc := 15) G (rf_cat _) dX9_rests_15 ?_
      refine JR_gI (pc := 16) (k := 11) G cl_X9 in_X9 (by decide) (by decide) rfl (Or.inl rfl) q360 hz1 dX9_rests_16 ?_
      refine JR_iconst (pc := 19) G ci_1 dX9_rests_19 ?_
      refine JR_iadd (pc := 20) G dX9_rests_20 ?_
      refine JW_pI (pc := 21) (k := 11) G cl_X9 in_X9 tyX9_ok nmX9 (by decide) (by decide) rfl (Or.inl rfl) rfl q360 rfl rfl hz1 (fun _ => rfl) dX9_rests_21 ?_
      refine J_nmD (fun d2 hd2 => ?_)
      refine JR_aload_n (pc := 24) (k := 0) (i := 0) (o := some this) G rfl rfl dX9_rests_24 ?_
      refine JR_gI (pc := 25) (k := 11) G cl_X9 in_X9 (by decide) (by decide) rfl (Or.inl rfl) q360 hz1 dX9_rests_25 ?_
      refine JR_iconst (pc := 28) G ci_3 dX9_rests_28 ?_
      refine JR_icmp_ne (pc := 29) (tgt := 47) G dX9_rests_29 (by decide) (fun c5 => ?_) (fun c5 => ?_)
      · exact hLi_rests_b47 d2
      · refine JR_aload_n (pc := 32) (k := 0) (i := 0) (o := some this) G rfl rfl dX9_rests_32 ?_
        refine JR_dup (pc := 33) G (rf_cat _) dX9_rests_33 ?_
        refine JR_gI (pc := 34) (k := 10) G cl_X9 in_X9 (by decide) (by decide) rfl (Or.inl rfl) q358 hz1 dX9_rests_34 ?_
        refine JR_iconst (pc := 37) G ci_1 dX9_rests_37 ?_
        refine JR_isub (pc := 38) G dX9_rests_38 ?_
        refine JW_pI (pc := 39) (k := 10) G cl_X9 in_X9 tyX9_ok nmX9 (by decide) (by decide) rfl (Or.inl rfl) rfl q358 rfl rfl hz1 (fun _ => rfl) dX9_rests_39 ?_
        refine J_nmD (fun d3 hd3 => ?_)
        refine JR_aload_n (pc := 42) (k := 0) (i := 0) (o := some this) G rfl rfl dX9_rests_42 ?_
        refine JR_iconst (pc := 43) G ci_0 dX9_rests_43 ?_
        refine JW_pI (pc := 44) (k := 11) G cl_X9 in_X9 tyX9_ok nmX9 (by decide) (by decide) rfl (Or.inl rfl) rfl q360 rfl rfl hz1 (fun _ => rfl) dX9_rests_44 ?_
        refine J_nmD (fun d4 hd4 => ?_)
        exact hLi_rests_b47 d4

def Ws_ends (p0 : Option Nat) (S : Sp) (d : Dt) : Option (Unit × Dt) :=
  (isK S 8 p0).bind fun z1 =>
  (some (dI d z1 16 0)).bind fun d2 =>
  (some (dI d2 z1 14 0)).bind fun d3 =>
  some ((), d3)
set_option maxHeartbeats 4000000 in
theorem Ws_ends_fn (p0 : Option Nat) (S : Sp) (d : Dt) : Fn yX0_ends (ws_ yX0_ends cX0_ends 1 none) 0 0 [va_rf p0] S d rvU Λw (Ws_ends p0 S d) := by
  refine Fn.ofJ (own := RX0) (lv := [(0, va_rf p0)]) (by decide +kernel) rfl (by simp [cat_i, cat_l, cat_f, cat_d, rf_cat]) (by simp [lv_args, cat_i, cat_l, cat_f, cat_d, rf_cat]) ?_
  intro X F G hRm hR hI
  unfold Ws_ends
  refine JR_aload_n (pc := 0) (k := 0) (i := 0) (o := p0) G rfl rfl dX0_ends_0 ?_
  refine JR_iconst (pc := 1) G ci_0 dX0_ends_1 ?_
  refine J_bd (fun z1 hz1 => ?_)
  refine JW_pIN (pc := 2) (k := 16) G cl_X9 in_X9 tyX9_ok nmX9 (by decide) (by decide) rfl (Or.inl rfl) rfl q371 rfl rfl hz1 (fun _ => rfl) dX0_ends_2 ?_
  refine J_nmD (fun d2 hd2 => ?_)
  refine JR_aload_n (pc := 5) (k := 0) (i := 0) (o := p0) G rfl rfl dX0_ends_5 ?_
  refine JR_iconst (pc := 6) G ci_0 dX0_ends_6 ?_
  refine JW_pIN (pc := 7) (k := 14) G cl_X9 in_X9 tyX9_ok nmX9 (by decide) (by decide) rfl (Or.inl rfl) rfl q367 rfl rfl hz1 (fun _ => rfl) dX0_ends_7 ?_
  refine J_nmD (fun d3 hd3 => ?_)
  exact JR_vret (pc := 10) G hR dX0_ends_10 rfl rfl

def Ws_goes_h86 (this : Nat) : Nat → Int32 → Sp → Dt → Option (Unit × Sp × Dt)
  | 0, _, _, _ => none
  | f + 1, v1, S, d =>
    (isK S 0 (some this)).bind fun z30 =>
    (Ws_tasks this S d).bind fun r31 =>
    if r31 ≤ v1 then
      some ((), S, d)
    else
      (aix S 57 (S.2.1 z30 12) v1).bind fun q32 =>
      (isK S 8 (S.2.1 q32.1 q32.2)).bind fun z33 =>
      bind2 (Li_rests z33 S d) fun _ d34 =>
      Ws_goes_h86 this f (v1 + 1) S d34
def Ws_goes_b67 (this : Nat) (S : Sp) (d : Dt) : Option (Unit × Sp × Dt) :=
  (isK S 0 (some this)).bind fun z26 =>
  (isK S 1 (S.2.1 z26 0)).bind fun z27 =>
  (gz (d.1 z27 4)).bind fun u28 =>
  if ¬ (irm ((d.1 z26 25) + 1) (d.1 z27 4)) = 0 then
    some ((), S, d)
  else
    Ws_goes_h86 this FU 0 S d
def Ws_goes_h132 (this : Nat) : Nat → Int32 → Sp → Dt → Option (Unit × Sp × Dt)
  | 0, _, _, _ => none
  | f + 1, v2, S, d =>
    (isK S 0 (some this)).bind fun z21 =>
    (Ws_tasks this S d).bind fun r22 =>
    if r22 ≤ v2 then
      some ((), S, d)
    else
      (aix S 57 (S.2.1 z21 12) v2).bind fun q23 =>
      bind2 (Ws_ends (S.2.1 q23.1 q23.2) S d) fun _ d24 =>
      Ws_goes_h132 this f (v2 + 1) S d24
def Ws_goes_b112 (this : Nat) (s0 : Option Nat) (S : Sp) (d : Dt) : Option (Unit × Sp × Dt) :=
  (isK S 0 (some this)).bind fun z7 =>
  (isK S 1 (S.2.1 z7 0)).bind fun z8 =>
  (gz (d.1 z8 4)).bind fun u9 =>
  if ¬ (irm ((d.1 z7 25) + 1) (d.1 z8 4)) = 0 then
    some ((), S, d)
  else
    Ws_goes_h132 this FU 0 S d
def Ws_goes_h27 (this : Nat) : Nat → Int32 → Sp → Dt → Option (Unit × Sp × Dt)
  | 0, _, _, _ => none
  | f + 1, v1, S, d =>
    (isK S 0 (some this)).bind fun z11 =>
    (Ws_tasks this S d).bind fun r12 =>
    if r12 ≤ v1 then
      (isK S 1 (S.2.1 z11 0)).bind fun z13 =>
      (gz (d.1 z13 4)).bind fun u14 =>
      if ¬ (irm ((d.1 z11 25) + 1) (d.1 z13 4)) = 0 then
        Ws_goes_b67 this S d
      else
        bindE (Ws_looks this S d) (fun v9 S9 d9 => Ws_goes_b112 this (some v9) S9 d9) fun _ S15 d16 =>
        Ws_goes_b67 this S15 d16
    else
      bindE (Ws_isLate this v1 S d) (fun v9 S9 d9 => Ws_goes_b112 this (some v9) S9 d9) fun _ S18 d19 =>
      Ws_goes_h27 this f (v1 + 1) S18 d19
def Ws_goes_h2 (this : Nat) : Nat → Int32 → Sp → Dt → Option (Unit × Sp × Dt)
  | 0, _, _, _ => none
  | f + 1, v1, S, d =>
    (isK S 0 (some this)).bind fun z1 =>
    (Ws_tasks this S d).bind fun r2 =>
    if r2 ≤ v1 then
      bindE (Ws_works this S d) (fun v9 S9 d9 => Ws_goes_b112 this (some v9) S9 d9) fun _ S3 d4 =>
      Ws_goes_h27 this FU 0 S3 d4
    else
      bind2 (Ws_begins this v1 S d) fun _ d5 =>
      Ws_goes_h2 this f (v1 + 1) S d5
def Ws_goes (this : Nat) (S : Sp) (d : Dt) : Option (Unit × Sp × Dt) :=
  Ws_goes_h2 this FU 0 S d
set_option maxHeartbeats 4000000 in
theorem Ws_goes_fn (this : Nat) (S : Sp) (d : Dt) : Fn yX0_goes (wsW_ yX0_goes cX0_goes 3 none [((0), (109), (112), (354))]) 14 321 [va_rf (some this)] S d rvU Λa (Ws_goes this S d) := by
  refine Fn.ofJH (own := RX0) (lv := [(0, va_rf (some this))]) (by decide +kernel) rfl (by simp [cat_i, cat_l, cat_f, cat_d, rf_cat]) (by simp [lv_args, cat_i, cat_l, cat_f, cat_d, rf_cat]) ?_
  intro X F G hRm hR hE
  have hWs_goes_h86 : ∀ (f : Nat) (v1 : Int32) (S : Sp) (d : Dt), J X F Λa S d 86 [(0, va_rf (some this)), (1, .int v1)] [] (Ws_goes_h86 this f v1 S d) := by
    intro  f
    induction f with
    | zero => intro v1 S d; exact J_no
    | succ f ih =>
      intro v1 S d
      unfold Ws_goes_h86
      refine JR_iload_n (pc := 86) (k := 1) (i := 1) G rfl rfl dX0_goes_86 ?_
      refine JR_aload_n (pc := 87) (k := 0) (i := 0) (o := some this) G rfl rfl dX0_goes_87 ?_
      refine J_bd (fun z30 hz30 => ?_)
      refine JPV_I (pc := 88) (as := []) (st' := [.int v1]) (o := some this) G (Ws_tasks_fn this S d) (JC_V (n := 0) G hRm cl_X0 q423 q425 qs1 q137 q426 ⟨rfl, dd_X0_tasks⟩ ⟨by decide, by decide⟩ dX0_goes_88 hz30 rfl (Nat.le_of_ble_eq_true rfl)) rfl (fun r31 hr31 => ?_)
      refine JR_icmp_ge (pc := 91) (tgt := 109) G dX0_goes_91 (by decide) (fun c35 => ?_) (fun c35 => ?_)
      · refine JR_goto (pc := 109) (tgt := 155) G dX0_goes_109 (by decide) ?_
        exact JR_vret (pc := 155) G hR dX0_goes_155 rfl rfl
      · refine JR_aload_n (pc := 94) (k := 0) (i := 0) (o := some this) G rfl rfl dX0_goes_94 ?_
        refine JR_gR (pc := 95) (k := 12) G cl_X0 in_X0 (by decide) (by decide) rfl (Or.inl rfl) q464 hz30 dX0_goes_95 ?_
        refine JR_iload_n (pc := 98) (k := 1) (i := 1) G rfl rfl dX0_goes_98 ?_
        refine J_bd (fun q32 hq32 => ?_)
        refine JR_aaload (pc := 99) (t := 7) G (by decide) rfl hq32 dX0_goes_99 ?_
        refine J_bd (fun z33 hz33 => ?_)
        refine J_stk (st' := [va_rf (some z33)]) (by rw [(isK_at hz33).1]) ?_
        refine JQV_U (pc := 100) (as := []) (st' := []) (o := some z33) G (Li_rests_fn z33 S d) (JC_V (n := 0) G hRm cl_X9 q1285 q1286 q1287 q149 q1288 ⟨rfl, dd_X9_rests⟩ ⟨by decide, by decide⟩ dX0_goes_100 (isK_s hz33) rfl (Nat.le_of_ble_eq_true rfl)) rfl (fun _ _ => rfl) (fun _ d34 hd34 => ?_)
        refine JR_iinc (pc := 103) (i := 1) (v := v1 + 1) (lv' := [(1, .int (v1 + 1)), (0, va_rf (some this))]) G rfl (congrArg (fun z => v1 + z) (by decide)) (by decide) rfl dX0_goes_103 ?_
        refine JR_goto (pc := 106) (tgt := 86) G dX0_goes_106 (by decide) ?_
        refine J_sub [1, 0] rfl ?_
        exact ih (v1 + 1) S d34
  have hWs_goes_b67 : ∀ (S : Sp) (d : Dt), J X F Λa S d 67 [(0, va_rf (some this))] [] (Ws_goes_b67 this S d) := by
    intro S d
    unfold Ws_goes_b67
    refine JR_aload_n (pc := 67) (k := 0) (i := 0) (o := some this) G rfl rfl dX0_goes_67 ?_
    refine J_bd (fun z26 hz26 => ?_)
    refine JR_gI (pc := 68) (k := 25) G cl_X0 in_X0 (by decide) (by decide) rfl (Or.inl rfl) q481 hz26 dX0_goes_68 ?_
    refine JR_iconst (pc := 71) G ci_1 dX0_goes_71 ?_
    refine JR_iadd (pc := 72) G dX0_goes_72 ?_
    refine JR_aload_n (pc := 73) (k := 0) (i := 0) (o := some this) G rfl rfl dX0_goes_73 ?_
    refine JR_gR (pc := 74) (k := 0) G cl_X0 in_X0 (by decide) (by decide) rfl (Or.inl rfl) q451 hz26 dX0_goes_74 ?_
    refine J_bd (fun z27 hz27 => ?_)
    refine JR_gIN (pc := 77) (k := 4) G cl_X1 in_X1 (by decide) (by decide) rfl (Or.inl rfl) q230 hz27 dX0_goes_77 ?_
    refine J_bd (fun u28 hu28 => ?_)
    refine JR_irem (pc := 80) G (gz_at hu28) dX0_goes_80 ?_
    refine JR_if_ne (pc := 81) (tgt := 109) G dX0_goes_81 (by decide) (fun c29 => ?_) (fun c29 => ?_)
    · refine JR_goto (pc := 109) (tgt := 155) G dX0_goes_109 (by decide) ?_
      exact JR_vret (pc := 155) G hR dX0_goes_155 rfl rfl
    · refine JR_iconst (pc := 84) G ci_0 dX0_goes_84 ?_
      refine JR_istore_n (pc := 85) (k := 1) (i := 1) (lv' := [(1, .int 0), (0, va_rf (some this))]) G rfl (by decide) rfl dX0_goes_85 ?_
      refine J_sub [1, 0] rfl ?_
      exact hWs_goes_h86 FU 0 S d
  have hWs_goes_h132 : ∀ (f : Nat) (v2 : Int32) (S : Sp) (d : Dt), J X F Λa S d 132 [(0, va_rf (some this)), (2, .int v2)] [] (Ws_goes_h132 this f v2 S d) := by
    intro  f
    induction f with
    | zero => intro v2 S d; exact J_no
    | succ f ih =>
      intro v2 S d
      unfold Ws_goes_h132
      refine JR_iload_n (pc := 132) (k := 2) (i := 2) G rfl rfl dX0_goes_132 ?_
      refine JR_aload_n (pc := 133) (k := 0) (i := 0) (o := some this) G rfl rfl dX0_goes_133 ?_
      refine J_bd (fun z21 hz21 => ?_)
      refine JPV_I (pc := 134) (as := []) (st' := [.int v2]) (o := some this) G (Ws_tasks_fn this S d) (JC_V (n := 0) G hRm cl_X0 q423 q425 qs1 q137 q426 ⟨rfl, dd_X0_tasks⟩ ⟨by decide, by decide⟩ dX0_goes_134 hz21 rfl (Nat.le_of_ble_eq_true rfl)) rfl (fun r22 hr22 => ?_)
      refine JR_icmp_ge (pc := 137) (tgt := 155) G dX0_goes_137 (by decide) (fun c25 => ?_) (fun c25 => ?_)
      · exact JR_vret (pc := 155) G hR dX0_goes_155 rfl rfl
      · refine JR_aload_n (pc := 140) (k := 0) (i := 0) (o := some this) G rfl rfl dX0_goes_140 ?_
        refine JR_gR (pc := 141) (k := 12) G cl_X0 in_X0 (by decide) (by decide) rfl (Or.inl rfl) q464 hz21 dX0_goes_141 ?_
        refine JR_iload_n (pc := 144) (k := 2) (i := 2) G rfl rfl dX0_goes_144 ?_
        refine J_bd (fun q23 hq23 => ?_)
        refine JR_aaload (pc := 145) (t := 7) G (by decide) rfl hq23 dX0_goes_145 ?_
        refine JQS_U (pc := 146) (as := [va_rf (S.2.1 q23.1 q23.2)]) (st' := []) G (Ws_ends_fn (S.2.1 q23.1 q23.2) S d) (JC_S (n := 1) G hRm q1289 q1290 q137 q1291 dd_X0_ends ⟨by decide, by decide⟩ dX0_goes_146 rfl (Nat.le_of_ble_eq_true rfl)) rfl (fun _ _ => rfl) (fun _ d24 hd24 => ?_)
        refine JR_iinc (pc := 149) (i := 2) (v := v2 + 1) (lv' := [(2, .int (v2 + 1)), (0, va_rf (some this))]) G rfl (congrArg (fun z => v2 + z) (by decide)) (by decide) rfl dX0_goes_149 ?_
        refine JR_goto (pc := 152) (tgt := 132) G dX0_goes_152 (by decide) ?_
        refine J_sub [1, 0] rfl ?_
        exact ih (v2 + 1) S d24
  have hWs_goes_b112 : ∀ (s0 : Option Nat) (S : Sp) (d : Dt), J X F Λa S d 112 [(0, va_rf (some this))] [va_rf s0] (Ws_goes_b112 this s0 S d) := by
    intro s0 S d
    unfold Ws_goes_b112
    refine JR_astore_n (pc := 112) (k := 1) (i := 1) (lv' := [(1, va_rf s0), (0, va_rf (some this))]) G rfl (by decide) rfl dX0_goes_112 ?_
    refine JR_aload_n (pc := 113) (k := 0) (i := 0) (o := some this) G rfl rfl dX0_goes_113 ?_
    refine J_bd (fun z7 hz7 => ?_)
    refine JR_gI (pc := 114) (k := 25) G cl_X0 in_X0 (by decide) (by decide) rfl (Or.inl rfl) q481 hz7 dX0_goes_114 ?_
    refine JR_iconst (pc := 117) G ci_1 dX0_goes_117 ?_
    refine JR_iadd (pc := 118) G dX0_goes_118 ?_
    refine JR_aload_n (pc := 119) (k := 0) (i := 0) (o := some this) G rfl rfl dX0_goes_119 ?_
    refine JR_gR (pc := 120) (k := 0) G cl_X0 in_X0 (by decide) (by decide) rfl (Or.inl rfl) q451 hz7 dX0_goes_120 ?_
    refine J_bd (fun z8 hz8 => ?_)
    refine JR_gIN (pc := 123) (k := 4) G cl_X1 in_X1 (by decide) (by decide) rfl (Or.inl rfl) q230 hz8 dX0_goes_123 ?_
    refine J_bd (fun u9 hu9 => ?_)
    refine JR_irem (pc := 126) G (gz_at hu9) dX0_goes_126 ?_
    refine JR_if_ne (pc := 127) (tgt := 155) G dX0_goes_127 (by decide) (fun c10 => ?_) (fun c10 => ?_)
    · exact JR_vret (pc := 155) G hR dX0_goes_155 rfl rfl
    · refine JR_iconst (pc := 130) G ci_0 dX0_goes_130 ?_
      refine JR_istore_n (pc := 131) (k := 2) (i := 2) (lv' := [(2, .int 0), (1, va_rf s0), (0, va_rf (some this))]) G rfl (by decide) (by simp [lvS, rf_cat]) dX0_goes_131 ?_
      refine J_sub [2, 0] rfl ?_
      exact hWs_goes_h132 FU 0 S d
  have hWs_goes_h27 : ∀ (f : Nat) (v1 : Int32) (S : Sp) (d : Dt), J X F Λa S d 27 [(0, va_rf (some this)), (1, .int v1)] [] (Ws_goes_h27 this f v1 S d) := by
    intro  f
    induction f with
    | zero => intro v1 S d; exact J_no
    | succ f ih =>
      intro v1 S d
      unfold Ws_goes_h27
      refine JR_iload_n (pc := 27) (k := 1) (i := 1) G rfl rfl dX0_goes_27 ?_
      refine JR_aload_n (pc := 28) (k := 0) (i := 0) (o := some this) G rfl rfl dX0_goes_28 ?_
      refine J_bd (fun z11 hz11 => ?_)
      refine JPV_I (pc := 29) (as := []) (st' := [.int v1]) (o := some this) G (Ws_tasks_fn this S d) (JC_V (n := 0) G hRm cl_X0 q423 q425 qs1 q137 q426 ⟨rfl, dd_X0_tasks⟩ ⟨by decide, by decide⟩ dX0_goes_29 hz11 rfl (Nat.le_of_ble_eq_true rfl)) rfl (fun r12 hr12 => ?_)
      refine JR_icmp_ge (pc := 32) (tgt := 46) G dX0_goes_32 (by decide) (fun c20 => ?_) (fun c20 => ?_)
      · refine JR_aload_n (pc := 46) (k := 0) (i := 0) (o := some this) G rfl rfl dX0_goes_46 ?_
        refine JR_gI (pc := 47) (k := 25) G cl_X0 in_X0 (by decide) (by decide) rfl (Or.inl rfl) q481 hz11 dX0_goes_47 ?_
        refine JR_iconst (pc := 50) G ci_1 dX0_goes_50 ?_
        refine JR_iadd (pc := 51) G dX0_goes_51 ?_
        refine JR_aload_n (pc := 52) (k := 0) (i := 0) (o := some this) G rfl rfl dX0_goes_52 ?_
        refine JR_gR (pc := 53) (k := 0) G cl_X0 in_X0 (by decide) (by decide) rfl (Or.inl rfl) q451 hz11 dX0_goes_53 ?_
        refine J_bd (fun z13 hz13 => ?_)
        refine JR_gIN (pc := 56) (k := 4) G cl_X1 in_X1 (by decide) (by decide) rfl (Or.inl rfl) q230 hz13 dX0_goes_56 ?_
        refine J_bd (fun u14 hu14 => ?_)
        refine JR_irem (pc := 59) G (gz_at hu14) dX0_goes_59 ?_
        refine JR_if_ne (pc := 60) (tgt := 67) G dX0_goes_60 (by decide) (fun c17 => ?_) (fun c17 => ?_)
        · refine J_sub [0] rfl ?_
          exact hWs_goes_b67 S d
        · refine JR_aload_n (pc := 63) (k := 0) (i := 0) (o := some this) G rfl rfl dX0_goes_63 ?_
          refine JXV_U (pc := 64) (as := []) (st' := []) (o := some this) G (Ws_looks_fn this S d) (JXC_V (n := 0) G hRm cl_X0 q1273 q1275 qs44 q137 q1276 ⟨rfl, dd_X0_looks⟩ ⟨by decide, by decide⟩ dX0_goes_64 hz11 rfl (Nat.le_of_ble_eq_true rfl)) rfl (fun _ _ _ => rfl) (fun _ S15 d16 hd16 => ?_) (fun v9 S9 d9 h9 => ?_)
          rotate_left
          · refine JX_catch (x := ⟨0, 109, 112, 354⟩) G hE rfl (by decide) q1163 q1241 ?_
            refine J_sub [0] rfl ?_
            exact hWs_goes_b112 (some v9) S9 d9
          refine J_sub [0] rfl ?_
          exact hWs_goes_b67 S15 d16
      · refine JR_aload_n (pc := 35) (k := 0) (i := 0) (o := some this) G rfl rfl dX0_goes_35 ?_
        refine JR_iload_n (pc := 36) (k := 1) (i := 1) G rfl rfl dX0_goes_36 ?_
        refine JXV_U (pc := 37) (as := [.int v1]) (st' := []) (o := some this) G (Ws_isLate_fn this v1 S d) (JXC_V (n := 1) G hRm cl_X0 q1269 q1271 qs43 q137 q1272 ⟨rfl, dd_X0_isLate⟩ ⟨by decide, by decide⟩ dX0_goes_37 hz11 rfl (Nat.le_of_ble_eq_true rfl)) rfl (fun _ _ _ => rfl) (fun _ S18 d19 hd19 => ?_) (fun v9 S9 d9 h9 => ?_)
        rotate_left
        · refine JX_catch (x := ⟨0, 109, 112, 354⟩) G hE rfl (by decide) q1163 q1241 ?_
          refine J_sub [0] rfl ?_
          exact hWs_goes_b112 (some v9) S9 d9
        refine JR_iinc (pc := 40) (i := 1) (v := v1 + 1) (lv' := [(1, .int (v1 + 1)), (0, va_rf (some this))]) G rfl (congrArg (fun z => v1 + z) (by decide)) (by decide) rfl dX0_goes_40 ?_
        refine JR_goto (pc := 43) (tgt := 27) G dX0_goes_43 (by decide) ?_
        refine J_sub [1, 0] rfl ?_
        exact ih (v1 + 1) S18 d19
  have hWs_goes_h2 : ∀ (f : Nat) (v1 : Int32) (S : Sp) (d : Dt), J X F Λa S d 2 [(0, va_rf (some this)), (1, .int v1)] [] (Ws_goes_h2 this f v1 S d) := by
    intro  f
    induction f with
    | zero => intro v1 S d; exact J_no
    | succ f ih =>
      intro v1 S d
      unfold Ws_goes_h2
      refine JR_iload_n (pc := 2) (k := 1) (i := 1) G rfl rfl dX0_goes_2 ?_
      refine JR_aload_n (pc := 3) (k := 0) (i := 0) (o := some this) G rfl rfl dX0_goes_3 ?_
      refine J_bd (fun z1 hz1 => ?_)
      refine JPV_I (pc := 4) (as := []) (st' := [.int v1]) (o := some this) G (Ws_tasks_fn this S d) (JC_V (n := 0) G hRm cl_X0 q423 q425 qs1 q137 q426 ⟨rfl, dd_X0_tasks⟩ ⟨by decide, by decide⟩ dX0_goes_4 hz1 rfl (Nat.le_of_ble_eq_true rfl)) rfl (fun r2 hr2 => ?_)
      refine JR_icmp_ge (pc := 7) (tgt := 21) G dX0_goes_7 (by decide) (fun c6 => ?_) (fun c6 => ?_)
      · refine JR_aload_n (pc := 21) (k := 0) (i := 0) (o := some this) G rfl rfl dX0_goes_21 ?_
        refine JXV_U (pc := 22) (as := []) (st' := []) (o := some this) G (Ws_works_fn this S d) (JXC_V (n := 0) G hRm cl_X0 q1172 q1174 qs34 q137 q1175 ⟨rfl, dd_X0_works⟩ ⟨by decide, by decide⟩ dX0_goes_22 hz1 rfl (Nat.le_of_ble_eq_true rfl)) rfl (fun _ _ _ => rfl) (fun _ S3 d4 hd4 => ?_) (fun v9 S9 d9 h9 => ?_)
        rotate_left
        · refine JX_catch (x := ⟨0, 109, 112, 354⟩) G hE rfl (by decide) q1163 q1241 ?_
          refine J_sub [0] rfl ?_
          exact hWs_goes_b112 (some v9) S9 d9
        refine JR_iconst (pc := 25) G ci_0 dX0_goes_25 ?_
        refine JR_istore_n (pc := 26) (k := 1) (i := 1) (lv' := [(1, .int 0), (0, va_rf (some this))]) G rfl (by decide) rfl dX0_goes_26 ?_
        refine J_sub [1, 0] rfl ?_
        exact hWs_goes_h27 FU 0 S3 d4
      · refine JR_aload_n (pc := 10) (k := 0) (i := 0) (o := some this) G rfl rfl dX0_goes_10 ?_
        refine JR_iload_n (pc := 11) (k := 1) (i := 1) G rfl rfl dX0_goes_11 ?_
        refine JQV_U (pc := 12) (as := [.int v1]) (st' := []) (o := some this) G (Ws_begins_fn this v1 S d) (JC_V (n := 1) G hRm cl_X0 q1164 q1166 qs33 q137 q1167 ⟨rfl, dd_X0_begins⟩ ⟨by decide, by decide⟩ dX0_goes_12 hz1 rfl (Nat.le_of_ble_eq_true rfl)) rfl (fun _ _ => rfl) (fun _ d5 hd5 => ?_)
        refine JR_iinc (pc := 15) (i := 1) (v := v1 + 1) (lv' := [(1, .int (v1 + 1)), (0, va_rf (some this))]) G rfl (congrArg (fun z => v1 + z) (by decide)) (by decide) rfl dX0_goes_15 ?_
        refine JR_goto (pc := 18) (tgt := 2) G dX0_goes_18 (by decide) ?_
        refine J_sub [1, 0] rfl ?_
        exact ih (v1 + 1) S d5
  unfold Ws_goes
  refine JR_iconst (pc := 0) G ci_0 dX0_goes_0 ?_
  refine JR_istore_n (pc := 1) (k := 1) (i := 1) (lv' := [(1, .int 0), (0, va_rf (some this))]) G rfl (by decide) rfl dX0_goes_1 ?_
  refine J_sub [1, 0] rfl ?_
  exact hWs_goes_h2 FU 0 S d

def Ws_runs_b136 (this : Nat) (p1 : Int32) (p2 : Int32) (k106 : Sp → Dt → Option (Unit × Sp × Dt)) (S : Sp) (d : Dt) : Option (Unit × Sp × Dt) :=
  (isK S 0 (some this)).bind fun z33 =>
  (some (dI d z33 25 ((d.1 z33 25) + 1))).bind fun d34 =>
  k106 S d34
def Ws_runs_h106 (this : Nat) (p1 : Int32) (p2 : Int32) : Nat → Sp → Dt → Option (Unit × Sp × Dt)
  | 0, _, _ => none
  | f + 1, S, d =>
    (isK S 0 (some this)).bind fun z26 =>
    if p1 ≤ (d.1 z26 25) then
      some ((), S, d)
    else
      (aix S 50 (S.2.1 z26 13) (d.1 z26 25)).bind fun q27 =>
      (some (dI d q27.1 q27.2 ((-1)))).bind fun d28 =>
      if ¬ (d28.1 z26 27) = ((-1)) then
        Ws_runs_b136 this p1 p2 (Ws_runs_h106 this p1 p2 f) S d28
      else
        bind3 (Ws_goes this S d28) fun _ S29 d30 =>
        Ws_runs_b136 this p1 p2 (Ws_runs_h106 this p1 p2 f) S29 d30
def Ws_runs_h74 (this : Nat) (p1 : Int32) (p2 : Int32) : Nat → Int32 → Sp → Dt → Option (Unit × Sp × Dt)
  | 0, _, _, _ => none
  | f + 1, v3, S, d =>
    (isK S 0 (some this)).bind fun z18 =>
    (isK S 1 (S.2.1 z18 0)).bind fun z19 =>
    (isK S 16 (S.2.1 z19 1)).bind fun z20 =>
    (Jl_size z20 S d).bind fun r21 =>
    if r21 ≤ v3 then
      (some (dI d z18 25 0)).bind fun d22 =>
      Ws_runs_h106 this p1 p2 FU S d22
    else
      (aix S 50 (S.2.1 z18 23) v3).bind fun q23 =>
      (some (dI d q23.1 q23.2 ((-1)))).bind fun d24 =>
      Ws_runs_h74 this p1 p2 f (v3 + 1) S d24
def Ws_runs_h47 (this : Nat) (p1 : Int32) (p2 : Int32) : Nat → Int32 → Sp → Dt → Option (Unit × Sp × Dt)
  | 0, _, _, _ => none
  | f + 1, v3, S, d =>
    if 3 ≤ v3 then
      Ws_runs_h74 this p1 p2 FU 0 S d
    else
      (isK S 0 (some this)).bind fun z12 =>
      (aix S 50 (S.2.1 z12 14) v3).bind fun q13 =>
      (some (dI d q13.1 q13.2 ((-1)))).bind fun d14 =>
      (aix S 50 (S.2.1 z12 15) v3).bind fun q15 =>
      (some (dI d14 q15.1 q15.2 0)).bind fun d16 =>
      Ws_runs_h47 this p1 p2 f (v3 + 1) S d16
def Ws_runs_h22 (this : Nat) (p1 : Int32) (p2 : Int32) : Nat → Int32 → Sp → Dt → Option (Unit × Sp × Dt)
  | 0, _, _, _ => none
  | f + 1, v3, S, d =>
    (isK S 0 (some this)).bind fun z6 =>
    (Ws_tasks this S d).bind fun r7 =>
    if r7 ≤ v3 then
      Ws_runs_h47 this p1 p2 FU 0 S d
    else
      (aix S 57 (S.2.1 z6 12) v3).bind fun q8 =>
      (isK S 8 (S.2.1 q8.1 q8.2)).bind fun z9 =>
      bind2 (Li_isBorn z9 S d) fun _ d10 =>
      Ws_runs_h22 this p1 p2 f (v3 + 1) S d10
def Ws_runs (this : Nat) (p1 : Int32) (p2 : Int32) (S : Sp) (d : Dt) : Option (Unit × Sp × Dt) :=
  (isK S 0 (some this)).bind fun z1 =>
  (some (dI d z1 28 p2)).bind fun d2 =>
  (some (dI d2 z1 24 0)).bind fun d3 =>
  (some (dI d3 z1 26 0)).bind fun d4 =>
  (some (dI d4 z1 27 ((-1)))).bind fun d5 =>
  Ws_runs_h22 this p1 p2 FU 0 S d5
set_option maxHeartbeats 4000000 in
theorem Ws_runs_fn (this : Nat) (p1 : Int32) (p2 : Int32) (S : Sp) (d : Dt) : Fn yX0_runs (ws_ yX0_runs cX0_runs 4 none) 15 343 [va_rf (some this), .int p1, .int p2] S d rvU Λa (Ws_runs this p1 p2 S d) := by
  refine Fn.ofJ (own := RX0) (lv := [(0, va_rf (some this)), (1, .int p1), (2, .int p2)]) (by decide +kernel) rfl (by simp [cat_i, cat_l, cat_f, cat_d, rf_cat]) (by simp [lv_args, cat_i, cat_l, cat_f, cat_d, rf_cat]) ?_
  intro X F G hRm hR hI
  have hWs_runs_b136 : ∀ (k106 : Sp → Dt → Option (Unit × Sp × Dt)) (hk106 : ∀ (S : Sp) (d : Dt), J X F Λa S d 106 [(0, va_rf (some this)), (1, .int p1), (2, .int p2)] [] (k106 S d)) (S : Sp) (d : Dt), J X F Λa S d 136 [(0, va_rf (some this)), (1, .int p1), (2, .int p2)] [] (Ws_runs_b136 this p1 p2 k106 S d) := by
    intro k106 hk106 S d
    unfold Ws_runs_b136
    refine JR_aload_n (pc := 136) (k := 0) (i := 0) (o := some this) G rfl rfl dX0_runs_136 ?_
    refine JR_dup (pc := 137) G (rf_cat _) dX0_runs_137 ?_
    refine J_bd (fun z33 hz33 => ?_)
    refine JR_gI (pc := 138) (k := 25) G cl_X0 in_X0 (by decide) (by decide) rfl (Or.inl rfl) q481 hz33 dX0_runs_138 ?_
    refine JR_iconst (pc := 141) G ci_1 dX0_runs_141 ?_
    refine JR_iadd (pc := 142) G dX0_runs_142 ?_
    refine JW_pI (pc := 143) (k := 25) G cl_X0 in_X0 tyX0_ok nmX0 (by decide) (by decide) rfl (Or.inl rfl) rfl q481 rfl rfl hz33 (fun _ => rfl) dX0_runs_143 ?_
    refine J_nmD (fun d34 hd34 => ?_)
    refine JR_goto (pc := 146) (tgt := 106) G dX0_runs_146 (by decide) ?_
    exact hk106 S d34
  have hWs_runs_h106 : ∀ (f : Nat) (S : Sp) (d : Dt), J X F Λa S d 106 [(0, va_rf (some this)), (1, .int p1), (2, .int p2)] [] (Ws_runs_h106 this p1 p2 f S d) := by
    intro  f
    induction f with
    | zero => intro S d; exact J_no
    | succ f ih =>
      intro S d
      unfold Ws_runs_h106
      refine JR_aload_n (pc := 106) (k := 0) (i := 0) (o := some this) G rfl rfl dX0_runs_106 ?_
      refine J_bd (fun z26 hz26 => ?_)
      refine JR_gI (pc := 107) (k := 25) G cl_X0 in_X0 (by decide) (by decide) rfl (Or.inl rfl) q481 hz26 dX0_runs_107 ?_
      refine JR_iload_n (pc := 110) (k := 1) (i := 1) G rfl rfl dX0_runs_110 ?_
      refine JR_icmp_ge (pc := 111) (tgt := 149) G dX0_runs_111 (by decide) (fun c32 => ?_) (fun c32 => ?_)
      · exact JR_vret (pc := 149) G hR dX0_runs_149 rfl rfl
      · refine JR_aload_n (pc := 114) (k := 0) (i := 0) (o := some this) G rfl rfl dX0_runs_114 ?_
        refine JR_gR (pc := 115) (k := 13) G cl_X0 in_X0 (by decide) (by decide) rfl (Or.inl rfl) q465 hz26 dX0_runs_115 ?_
        refine JR_aload_n (pc := 118) (k := 0) (i := 0) (o := some this) G rfl rfl dX0_runs_118 ?_
        refine JR_gI (pc := 119) (k := 25) G cl_X0 in_X0 (by decide) (by decide) rfl (Or.inl rfl) q481 hz26 dX0_runs_119 ?_
        refine JR_iconst (pc := 122) G ci_m1 dX0_runs_122 ?_
        refine J_bd (fun q27 hq27 => ?_)
        refine JW_iastore (pc := 123) G hq27 (fun _ => rfl) dX0_runs_123 ?_
        refine J_nmD (fun d28 hd28 => ?_)
        refine JR_aload_n (pc := 124) (k := 0) (i := 0) (o := some this) G rfl rfl dX0_runs_124 ?_
        refine JR_gI (pc := 125) (k := 27) G cl_X0 in_X0 (by decide) (by decide) rfl (Or.inl rfl) q485 hz26 dX0_runs_125 ?_
        refine JR_iconst (pc := 128) G ci_m1 dX0_runs_128 ?_
        refine JR_icmp_ne (pc := 129) (tgt := 136) G dX0_runs_129 (by decide) (fun c31 => ?_) (fun c31 => ?_)
        · exact hWs_runs_b136 (Ws_runs_h106 this p1 p2 f) ih S d28
        · refine JR_aload_n (pc := 132) (k := 0) (i := 0) (o := some this) G rfl rfl dX0_runs_132 ?_
          refine JAV_U (pc := 133) (as := []) (st' := []) (o := some this) G (Ws_goes_fn this S d28) (JC_VW (n := 0) (hh := [((0), (109), (112), (354))]) G hRm cl_X0 q1159 q1161 qs32 q137 q1162 ⟨rfl, dd_X0_goes⟩ ⟨by decide, by decide⟩ dX0_runs_133 hz26 rfl (Nat.le_of_ble_eq_true rfl)) rfl (fun _ _ _ => rfl) (fun _ S29 d30 hd30 => ?_)
          exact hWs_runs_b136 (Ws_runs_h106 this p1 p2 f) ih S29 d30
  have hWs_runs_h74 : ∀ (f : Nat) (v3 : Int32) (S : Sp) (d : Dt), J X F Λa S d 74 [(0, va_rf (some this)), (1, .int p1), (2, .int p2), (3, .int v3)] [] (Ws_runs_h74 this p1 p2 f v3 S d) := by
    intro  f
    induction f with
    | zero => intro v3 S d; exact J_no
    | succ f ih =>
      intro v3 S d
      unfold Ws_runs_h74
      refine JR_iload_n (pc := 74) (k := 3) (i := 3) G rfl rfl dX0_runs_74 ?_
      refine JR_aload_n (pc := 75) (k := 0) (i := 0) (o := some this) G rfl rfl dX0_runs_75 ?_
      refine J_bd (fun z18 hz18 => ?_)
      refine JR_gR (pc := 76) (k := 0) G cl_X0 in_X0 (by decide) (by decide) rfl (Or.inl rfl) q451 hz18 dX0_runs_76 ?_
      refine J_bd (fun z19 hz19 => ?_)
      refine JR_gRN (pc := 79) (k := 1) G cl_X1 in_X1 (by decide) (by decide) rfl (Or.inl rfl) q220 hz19 dX0_runs_79 ?_
      refine J_bd (fun z20 hz20 => ?_)
      refine J_stk (st' := [va_rf (some z20), .int v3]) (by rw [(isK_at hz20).1]) ?_
      refine JPV_I (pc := 82) (as := []) (st' := [.int v3]) (o := some z20) G (Jl_size_fn z20 S d) (JC_V (n := 0) G hRm cl_J2 q427 q428 q429 q141 q430 ⟨rfl, dd_J2_size⟩ ⟨by decide, by decide⟩ dX0_runs_82 (isK_s hz20) rfl (Nat.le_of_ble_eq_true rfl)) rfl (fun r21 hr21 => ?_)
      refine JR_icmp_ge (pc := 85) (tgt := 101) G dX0_runs_85 (by decide) (fun c25 => ?_) (fun c25 => ?_)
      · refine JR_aload_n (pc := 101) (k := 0) (i := 0) (o := some this) G rfl rfl dX0_runs_101 ?_
        refine JR_iconst (pc := 102) G ci_0 dX0_runs_102 ?_
        refine JW_pI (pc := 103) (k := 25) G cl_X0 in_X0 tyX0_ok nmX0 (by decide) (by decide) rfl (Or.inl rfl) rfl q481 rfl rfl hz18 (fun _ => rfl) dX0_runs_103 ?_
        refine J_nmD (fun d22 hd22 => ?_)
        refine J_sub [0, 1, 2] rfl ?_
        exact hWs_runs_h106 FU S d22
      · refine JR_aload_n (pc := 88) (k := 0) (i := 0) (o := some this) G rfl rfl dX0_runs_88 ?_
        refine JR_gR (pc := 89) (k := 23) G cl_X0 in_X0 (by decide) (by decide) rfl (Or.inl rfl) q476 hz18 dX0_runs_89 ?_
        refine JR_iload_n (pc := 92) (k := 3) (i := 3) G rfl rfl dX0_runs_92 ?_
        refine JR_iconst (pc := 93) G ci_m1 dX0_runs_93 ?_
        refine J_bd (fun q23 hq23 => ?_)
        refine JW_iastore (pc := 94) G hq23 (fun _ => rfl) dX0_runs_94 ?_
        refine J_nmD (fun d24 hd24 => ?_)
        refine JR_iinc (pc := 95) (i := 3) (v := v3 + 1) (lv' := [(3, .int (v3 + 1)), (0, va_rf (some this)), (1, .int p1), (2, .int p2)]) G rfl (congrArg (fun z => v3 + z) (by decide)) (by decide) rfl dX0_runs_95 ?_
        refine JR_goto (pc := 98) (tgt := 74) G dX0_runs_98 (by decide) ?_
        refine J_sub [1, 2, 3, 0] rfl ?_
        exact ih (v3 + 1) S d24
  have hWs_runs_h47 : ∀ (f : Nat) (v3 : Int32) (S : Sp) (d : Dt), J X F Λa S d 47 [(0, va_rf (some this)), (1, .int p1), (2, .int p2), (3, .int v3)] [] (Ws_runs_h47 this p1 p2 f v3 S d) := by
    intro  f
    induction f with
    | zero => intro v3 S d; exact J_no
    | succ f ih =>
      intro v3 S d
      unfold Ws_runs_h47
      refine JR_iload_n (pc := 47) (k := 3) (i := 3) G rfl rfl dX0_runs_47 ?_
      refine JR_iconst (pc := 48) G ci_3 dX0_runs_48 ?_
      refine JR_icmp_ge (pc := 49) (tgt := 72) G dX0_runs_49 (by decide) (fun c17 => ?_) (fun c17 => ?_)
      · refine JR_iconst (pc := 72) G ci_0 dX0_runs_72 ?_
        refine JR_istore_n (pc := 73) (k := 3) (i := 3) (lv' := [(3, .int 0), (0, va_rf (some this)), (1, .int p1), (2, .int p2)]) G rfl (by decide) rfl dX0_runs_73 ?_
        refine J_sub [1, 2, 3, 0] rfl ?_
        exact hWs_runs_h74 FU 0 S d
      · refine JR_aload_n (pc := 52) (k := 0) (i := 0) (o := some this) G rfl rfl dX0_runs_52 ?_
        refine J_bd (fun z12 hz12 => ?_)
        refine JR_gR (pc := 53) (k := 14) G cl_X0 in_X0 (by decide) (by decide) rfl (Or.inl rfl) q467 hz12 dX0_runs_53 ?_
        refine JR_iload_n (pc := 56) (k := 3) (i := 3) G rfl rfl dX0_runs_56 ?_
        refine JR_iconst (pc := 57) G ci_m1 dX0_runs_57 ?_
        refine J_bd (fun q13 hq13 => ?_)
        refine JW_iastore (pc := 58) G hq13 (fun _ => rfl) dX0_runs_58 ?_
        refine J_nmD (fun d14 hd14 => ?_)
        refine JR_aload_n (pc := 59) (k := 0) (i := 0) (o := some this) G rfl rfl dX0_runs_59 ?_
        refine JR_gR (pc := 60) (k := 15) G cl_X0 in_X0 (by decide) (by decide) rfl (Or.inl rfl) q468 hz12 dX0_runs_60 ?_
        refine JR_iload_n (pc := 63) (k := 3) (i := 3) G rfl rfl dX0_runs_63 ?_
        refine JR_iconst (pc := 64) G ci_0 dX0_runs_64 ?_
        refine J_bd (fun q15 hq15 => ?_)
        refine JW_iastore (pc := 65) G hq15 (fun _ => rfl) dX0_runs_65 ?_
        refine J_nmD (fun d16 hd16 => ?_)
        refine JR_iinc (pc := 66) (i := 3) (v := v3 + 1) (lv' := [(3, .int (v3 + 1)), (0, va_rf (some this)), (1, .int p1), (2, .int p2)]) G rfl (congrArg (fun z => v3 + z) (by decide)) (by decide) rfl dX0_runs_66 ?_
        refine JR_goto (pc := 69) (tgt := 47) G dX0_runs_69 (by decide) ?_
        refine J_sub [1, 2, 3, 0] rfl ?_
        exact ih (v3 + 1) S d16
  have hWs_runs_h22 : ∀ (f : Nat) (v3 : Int32) (S : Sp) (d : Dt), J X F Λa S d 22 [(0, va_rf (some this)), (1, .int p1), (2, .int p2), (3, .int v3)] [] (Ws_runs_h22 this p1 p2 f v3 S d) := by
    intro  f
    induction f with
    | zero => intro v3 S d; exact J_no
    | succ f ih =>
      intro v3 S d
      unfold Ws_runs_h22
      refine JR_iload_n (pc := 22) (k := 3) (i := 3) G rfl rfl dX0_runs_22 ?_
      refine JR_aload_n (pc := 23) (k := 0) (i := 0) (o := some this) G rfl rfl dX0_runs_23 ?_
      refine J_bd (fun z6 hz6 => ?_)
      refine JPV_I (pc := 24) (as := []) (st' := [.int v3]) (o := some this) G (Ws_tasks_fn this S d) (JC_V (n := 0) G hRm cl_X0 q423 q425 qs1 q137 q426 ⟨rfl, dd_X0_tasks⟩ ⟨by decide, by decide⟩ dX0_runs_24 hz6 rfl (Nat.le_of_ble_eq_true rfl)) rfl (fun r7 hr7 => ?_)
      refine JR_icmp_ge (pc := 27) (tgt := 45) G dX0_runs_27 (by decide) (fun c11 => ?_) (fun c11 => ?_)
      · refine JR_iconst (pc := 45) G ci_0 dX0_runs_45 ?_
        refine JR_istore_n (pc := 46) (k := 3) (i := 3) (lv' := [(3, .int 0), (0, va_rf (some this)), (1, .int p1), (2, .int p2)]) G rfl (by decide) rfl dX0_runs_46 ?_
        refine J_sub [1, 2, 3, 0] rfl ?_
        exact hWs_runs_h47 FU 0 S d
      · refine JR_aload_n (pc := 30) (k := 0) (i := 0) (o := some this) G rfl rfl dX0_runs_30 ?_
        refine JR_gR (pc := 31) (k := 12) G cl_X0 in_X0 (by decide) (by decide) rfl (Or.inl rfl) q464 hz6 dX0_runs_31 ?_
        refine JR_iload_n (pc := 34) (k := 3) (i := 3) G rfl rfl dX0_runs_34 ?_
        refine J_bd (fun q8 hq8 => ?_)
        refine JR_aaload (pc := 35) (t := 7) G (by decide) rfl hq8 dX0_runs_35 ?_
        refine J_bd (fun z9 hz9 => ?_)
        refine J_stk (st' := [va_rf (some z9)]) (by rw [(isK_at hz9).1]) ?_
        refine JQV_U (pc := 36) (as := []) (st' := []) (o := some z9) G (Li_isBorn_fn z9 S d) (JC_V (n := 0) G hRm cl_X9 q1151 q1152 q1153 q149 q1154 ⟨rfl, dd_X9_isBorn⟩ ⟨by decide, by decide⟩ dX0_runs_36 (isK_s hz9) rfl (Nat.le_of_ble_eq_true rfl)) rfl (fun _ _ => rfl) (fun _ d10 hd10 => ?_)
        refine JR_iinc (pc := 39) (i := 3) (v := v3 + 1) (lv' := [(3, .int (v3 + 1)), (0, va_rf (some this)), (1, .int p1), (2, .int p2)]) G rfl (congrArg (fun z => v3 + z) (by decide)) (by decide) rfl dX0_runs_39 ?_
        refine JR_goto (pc := 42) (tgt := 22) G dX0_runs_42 (by decide) ?_
        refine J_sub [1, 2, 3, 0] rfl ?_
        exact ih (v3 + 1) S d10
  unfold Ws_runs
  refine JR_aload_n (pc := 0) (k := 0) (i := 0) (o := some this) G rfl rfl dX0_runs_0 ?_
  refine JR_iload_n (pc := 1) (k := 2) (i := 2) G rfl rfl dX0_runs_1 ?_
  refine J_bd (fun z1 hz1 => ?_)
  refine JW_pI (pc := 2) (k := 28) G cl_X0 in_X0 tyX0_ok nmX0 (by decide) (by decide) rfl (Or.inl rfl) rfl q486 rfl rfl hz1 (fun _ => rfl) dX0_runs_2 ?_
  refine J_nmD (fun d2 hd2 => ?_)
  refine JR_aload_n (pc := 5) (k := 0) (i := 0) (o := some this) G rfl rfl dX0_runs_5 ?_
  refine JR_iconst (pc := 6) G ci_0 dX0_runs_6 ?_
  refine JW_pI (pc := 7) (k := 24) G cl_X0 in_X0 tyX0_ok nmX0 (by decide) (by decide) rfl (Or.inl rfl) rfl q477 rfl rfl hz1 (fun _ => rfl) dX0_runs_7 ?_
  refine J_nmD (fun d3 hd3 => ?_)
  refine JR_aload_n (pc := 10) (k := 0) (i := 0) (o := some this) G rfl rfl dX0_runs_10 ?_
  refine JR_iconst (pc := 11) G ci_0 dX0_runs_11 ?_
  refine JW_pI (pc := 12) (k := 26) G cl_X0 in_X0 tyX0_ok nmX0 (by decide) (by decide) rfl (Or.inl rfl) rfl q483 rfl rfl hz1 (fun _ => rfl) dX0_runs_12 ?_
  refine J_nmD (fun d4 hd4 => ?_)
  refine JR_aload_n (pc := 15) (k := 0) (i := 0) (o := some this) G rfl rfl dX0_runs_15 ?_
  refine JR_iconst (pc := 16) G ci_m1 dX0_runs_16 ?_
  refine JW_pI (pc := 17) (k := 27) G cl_X0 in_X0 tyX0_ok nmX0 (by decide) (by decide) rfl (Or.inl rfl) rfl q485 rfl rfl hz1 (fun _ => rfl) dX0_runs_17 ?_
  refine J_nmD (fun d5 hd5 => ?_)
  refine JR_iconst (pc := 20) G ci_0 dX0_runs_20 ?_
  refine JR_istore_n (pc := 21) (k := 3) (i := 3) (lv' := [(3, .int 0), (0, va_rf (some this)), (1, .int p1), (2, .int p2)]) G rfl (by decide) rfl dX0_runs_21 ?_
  refine J_sub [1, 2, 3, 0] rfl ?_
  exact hWs_runs_h22 FU 0 S d5

def Ws_had (this : Nat) (p1 : Int32) (S : Sp) (d : Dt) : Option (Int32 × Sp × Dt) :=
  (isK S 0 (some this)).bind fun z1 =>
  (isK S 1 (S.2.1 z1 0)).bind fun z2 =>
  (To_is z2 S d).bind fun r3 =>
  if r3 = 0 then
    some ((-2), S, d)
  else
    (Ws_in (Int32.toInt64 p1) 0 (Int32.toInt64 ((d.1 z2 3) - 1)) S d).bind fun r4 =>
    if ¬ r4 = 0 then
      bind3 (Ws_runs this (p1 + 1) ((-1)) S d) fun _ S5 d6 =>
      (isK S5 0 (some this)).bind fun z7 =>
      (aix S5 50 (S5.2.1 z7 13) p1).bind fun q8 =>
      some (d6.1 q8.1 q8.2, S5, d6)
    else
      some ((-2), S, d)
set_option maxHeartbeats 4000000 in
theorem Ws_had_fn (this : Nat) (p1 : Int32) (S : Sp) (d : Dt) : Fn yX0_had (ws_ yX0_had cX0_had 2 (some .int)) 16 366 [va_rf (some this), .int p1] S d rvI Λa (Ws_had this p1 S d) := by
  refine Fn.ofJ (own := RX0) (lv := [(0, va_rf (some this)), (1, .int p1)]) (by decide +kernel) rfl (by simp [cat_i, cat_l, cat_f, cat_d, rf_cat]) (by simp [lv_args, cat_i, cat_l, cat_f, cat_d, rf_cat]) ?_
  intro X F G hRm hR hI
  unfold Ws_had
  refine JR_aload_n (pc := 0) (k := 0) (i := 0) (o := some this) G rfl rfl dX0_had_0 ?_
  refine J_bd (fun z1 hz1 => ?_)
  refine JR_gR (pc := 1) (k := 0) G cl_X0 in_X0 (by decide) (by decide) rfl (Or.inl rfl) q451 hz1 dX0_had_1 ?_
  refine J_bd (fun z2 hz2 => ?_)
  refine J_stk (st' := [va_rf (some z2)]) (by rw [(isK_at hz2).1]) ?_
  refine JPV_I (pc := 4) (as := []) (st' := []) (o := some z2) G (To_is_fn z2 S d) (JC_V (n := 0) G hRm cl_X1 q1105 q1106 q1107 q138 q1108 ⟨rfl, dd_X1_is⟩ ⟨by decide, by decide⟩ dX0_had_4 (isK_s hz2) rfl (Nat.le_of_ble_eq_true rfl)) rfl (fun r3 hr3 => ?_)
  refine JR_if_eq (pc := 7) (tgt := 29) G dX0_had_7 (by decide) (fun c10 => ?_) (fun c10 => ?_)
  · refine JR_bipush (pc := 29) (v := (-2)) G (by decide) dX0_had_29 ?_
    exact JR_iret (pc := 31) G hR dX0_had_31 rfl rfl
  · refine JR_iload_n (pc := 10) (k := 1) (i := 1) G rfl rfl dX0_had_10 ?_
    refine JR_i2l (pc := 11) G dX0_had_11 ?_
    refine JR_lconst (pc := 12) G cl_0 dX0_had_12 ?_
    refine JR_aload_n (pc := 13) (k := 0) (i := 0) (o := some this) G rfl rfl dX0_had_13 ?_
    refine JR_gR (pc := 14) (k := 0) G cl_X0 in_X0 (by decide) (by decide) rfl (Or.inl rfl) q451 hz1 dX0_had_14 ?_
    refine JR_gIN (pc := 17) (k := 3) G cl_X1 in_X1 (by decide) (by decide) rfl (Or.inl rfl) q227 hz2 dX0_had_17 ?_
    refine JR_iconst (pc := 20) G ci_1 dX0_had_20 ?_
    refine JR_isub (pc := 21) G dX0_had_21 ?_
    refine JR_i2l (pc := 22) G dX0_had_22 ?_
    refine JPS_I (pc := 23) (as := [.long (Int32.toInt64 p1), .long 0, .long (Int32.toInt64 ((d.1 z2 3) - 1))]) (st' := []) G (Ws_in_fn (Int32.toInt64 p1) 0 (Int32.toInt64 ((d.1 z2 3) - 1)) S d) (JC_S (n := 3) G hRm q575 q576 q137 q577 dd_X0_in ⟨by decide, by decide⟩ dX0_had_23 rfl (Nat.le_of_ble_eq_true rfl)) rfl (fun r4 hr4 => ?_)
    refine JR_if_ne (pc := 26) (tgt := 32) G dX0_had_26 (by decide) (fun c9 => ?_) (fun c9 => ?_)
    · refine JR_aload_n (pc := 32) (k := 0) (i := 0) (o := some this) G rfl rfl dX0_had_32 ?_
      refine JR_iload_n (pc := 33) (k := 1) (i := 1) G rfl rfl dX0_had_33 ?_
      refine JR_iconst (pc := 34) G ci_1 dX0_had_34 ?_
      refine JR_iadd (pc := 35) G dX0_had_35 ?_
      refine JR_iconst (pc := 36) G ci_m1 dX0_had_36 ?_
      refine JAV_U (pc := 37) (as := [.int (p1 + 1), .int ((-1))]) (st' := []) (o := some this) G (Ws_runs_fn this (p1 + 1) ((-1)) S d) (JC_V (n := 2) G hRm cl_X0 q1147 q1149 qs31 q137 q1150 ⟨rfl, dd_X0_runs⟩ ⟨by decide, by decide⟩ dX0_had_37 hz1 rfl (Nat.le_of_ble_eq_true rfl)) rfl (fun _ _ _ => rfl) (fun _ S5 d6 hd6 => ?_)
      refine JR_aload_n (pc := 40) (k := 0) (i := 0) (o := some this) G rfl rfl dX0_had_40 ?_
      refine J_bd (fun z7 hz7 => ?_)
      refine JR_gR (pc := 41) (k := 13) G cl_X0 in_X0 (by decide) (by decide) rfl (Or.inl rfl) q465 hz7 dX0_had_41 ?_
      refine JR_iload_n (pc := 44) (k := 1) (i := 1) G rfl rfl dX0_had_44 ?_
      refine J_bd (fun q8 hq8 => ?_)
      refine JR_iaload (pc := 45) G hq8 dX0_had_45 ?_
      exact JR_iret (pc := 46) G hR dX0_had_46 rfl rfl
    · refine JR_bipush (pc := 29) (v := (-2)) G (by decide) dX0_had_29 ?_
      exact JR_iret (pc := 31) G hR dX0_had_31 rfl rfl

def Ws_isTick (this : Nat) (p1 : Int32) (S : Sp) (d : Dt) : Option Int32 :=
  (isK S 0 (some this)).bind fun z1 =>
  (isK S 1 (S.2.1 z1 0)).bind fun z2 =>
  (To_is z2 S d).bind fun r3 =>
  if r3 = 0 then
    some 0
  else
    (Ws_in (Int32.toInt64 p1) 0 (Int32.toInt64 (d.1 z2 3)) S d).bind fun r4 =>
    if r4 = 0 then
      some 0
    else
      some 1
set_option maxHeartbeats 4000000 in
theorem Ws_isTick_fn (this : Nat) (p1 : Int32) (S : Sp) (d : Dt) : Fn yX0_isTick (ws_ yX0_isTick cX0_isTick 2 (some .boolean)) 1 25 [va_rf (some this), .int p1] S d rvI Λp (Ws_isTick this p1 S d) := by
  refine Fn.ofJ (own := RX0) (lv := [(0, va_rf (some this)), (1, .int p1)]) (by decide +kernel) rfl (by simp [cat_i, cat_l, cat_f, cat_d, rf_cat]) (by simp [lv_args, cat_i, cat_l, cat_f, cat_d, rf_cat]) ?_
  intro X F G hRm hR hI
  unfold Ws_isTick
  refine JR_aload_n (pc := 0) (k := 0) (i := 0) (o := some this) G rfl rfl dX0_isTick_0 ?_
  refine J_bd (fun z1 hz1 => ?_)
  refine JR_gR (pc := 1) (k := 0) G cl_X0 in_X0 (by decide) (by decide) rfl (Or.inl rfl) q451 hz1 dX0_isTick_1 ?_
  refine J_bd (fun z2 hz2 => ?_)
  refine J_stk (st' := [va_rf (some z2)]) (by rw [(isK_at hz2).1]) ?_
  refine JPV_I (pc := 4) (as := []) (st' := []) (o := some z2) G (To_is_fn z2 S d) (JC_V (n := 0) G hRm cl_X1 q1105 q1106 q1107 q138 q1108 ⟨rfl, dd_X1_is⟩ ⟨by decide, by decide⟩ dX0_isTick_4 (isK_s hz2) rfl (Nat.le_of_ble_eq_true rfl)) rfl (fun r3 hr3 => ?_)
  refine JR_if_eq (pc := 7) (tgt := 31) G dX0_isTick_7 (by decide) (fun c6 => ?_) (fun c6 => ?_)
  · refine JR_iconst (pc := 31) G ci_0 dX0_isTick_31 ?_
    exact JR_zret (pc := 32) G hR dX0_isTick_32 (Or.inl rfl) rfl rfl
  · refine JR_iload_n (pc := 10) (k := 1) (i := 1) G rfl rfl dX0_isTick_10 ?_
    refine JR_i2l (pc := 11) G dX0_isTick_11 ?_
    refine JR_lconst (pc := 12) G cl_0 dX0_isTick_12 ?_
    refine JR_aload_n (pc := 13) (k := 0) (i := 0) (o := some this) G rfl rfl dX0_isTick_13 ?_
    refine JR_gR (pc := 14) (k := 0) G cl_X0 in_X0 (by decide) (by decide) rfl (Or.inl rfl) q451 hz1 dX0_isTick_14 ?_
    refine JR_gIN (pc := 17) (k := 3) G cl_X1 in_X1 (by decide) (by decide) rfl (Or.inl rfl) q227 hz2 dX0_isTick_17 ?_
    refine JR_i2l (pc := 20) G dX0_isTick_20 ?_
    refine JPS_I (pc := 21) (as := [.long (Int32.toInt64 p1), .long 0, .long (Int32.toInt64 (d.1 z2 3))]) (st' := []) G (Ws_in_fn (Int32.toInt64 p1) 0 (Int32.toInt64 (d.1 z2 3)) S d) (JC_S (n := 3) G hRm q575 q576 q137 q577 dd_X0_in ⟨by decide, by decide⟩ dX0_isTick_21 rfl (Nat.le_of_ble_eq_true rfl)) rfl (fun r4 hr4 => ?_)
    refine JR_if_eq (pc := 24) (tgt := 31) G dX0_isTick_24 (by decide) (fun c5 => ?_) (fun c5 => ?_)
    · refine JR_iconst (pc := 31) G ci_0 dX0_isTick_31 ?_
      exact JR_zret (pc := 32) G hR dX0_isTick_32 (Or.inl rfl) rfl rfl
    · refine JR_iconst (pc := 27) G ci_1 dX0_isTick_27 ?_
      refine JR_goto (pc := 28) (tgt := 32) G dX0_isTick_28 (by decide) ?_
      exact JR_zret (pc := 32) G hR dX0_isTick_32 (Or.inr rfl) rfl rfl

def Ws_idle_b42 (this : Nat) (p1 : Int32) (k21 : Int32 → Int32 → Sp → Dt → Option (Int32 × Sp × Dt)) (v3 : Int32) (s0 : Int32) (s1 : Int32) (S : Sp) (d : Dt) : Option (Int32 × Sp × Dt) :=
  (some (s1 + s0)).bind fun x10 =>
  k21 x10 (v3 + 1) S d
def Ws_idle_h21 (this : Nat) (p1 : Int32) : Nat → Int32 → Int32 → Sp → Dt → Option (Int32 × Sp × Dt)
  | 0, _, _, _, _ => none
  | f + 1, v2, v3, S, d =>
    if p1 ≤ v3 then
      some (v2, S, d)
    else
      (isK S 0 (some this)).bind fun z6 =>
      (aix S 50 (S.2.1 z6 13) v3).bind fun q7 =>
      Ws_idle_b42 this p1 (Ws_idle_h21 this p1 f) v3 (if ¬ (d.1 q7.1 q7.2) = ((-1)) then 0 else 1) v2 S d
def Ws_idle (this : Nat) (p1 : Int32) (S : Sp) (d : Dt) : Option (Int32 × Sp × Dt) :=
  (isK S 0 (some this)).bind fun z1 =>
  (Ws_isTick this p1 S d).bind fun r2 =>
  if ¬ r2 = 0 then
    bind3 (Ws_runs this p1 ((-1)) S d) fun _ S3 d4 =>
    Ws_idle_h21 this p1 FU 0 0 S3 d4
  else
    some ((-2), S, d)
set_option maxHeartbeats 4000000 in
theorem Ws_idle_fn (this : Nat) (p1 : Int32) (S : Sp) (d : Dt) : Fn yX0_idle (ws_ yX0_idle cX0_idle 4 (some .int)) 16 366 [va_rf (some this), .int p1] S d rvI Λa (Ws_idle this p1 S d) := by
  refine Fn.ofJ (own := RX0) (lv := [(0, va_rf (some this)), (1, .int p1)]) (by decide +kernel) rfl (by simp [cat_i, cat_l, cat_f, cat_d, rf_cat]) (by simp [lv_args, cat_i, cat_l, cat_f, cat_d, rf_cat]) ?_
  intro X F G hRm hR hI
  have hWs_idle_b42 : ∀ (k21 : Int32 → Int32 → Sp → Dt → Option (Int32 × Sp × Dt)) (hk21 : ∀ (v2 : Int32) (v3 : Int32) (S : Sp) (d : Dt), J X F Λa S d 21 [(0, va_rf (some this)), (1, .int p1), (2, .int v2), (3, .int v3)] [] (k21 v2 v3 S d)) (v3 : Int32) (s0 : Int32) (s1 : Int32) (S : Sp) (d : Dt), J X F Λa S d 42 [(0, va_rf (some this)), (1, .int p1), (3, .int v3)] [.int s0, .int s1] (Ws_idle_b42 this p1 k21 v3 s0 s1 S d) := by
    intro k21 hk21 v3 s0 s1 S d
    unfold Ws_idle_b42
    refine JR_iadd (pc := 42) G dX0_idle_42 ?_
    refine J_nm (fun x10 hx10 => ?_)
    refine JR_istore_n (pc := 43) (k := 2) (i := 2) (lv' := [(2, .int x10), (0, va_rf (some this)), (1, .int p1), (3, .int v3)]) G rfl (by decide) rfl dX0_idle_43 ?_
    refine JR_iinc (pc := 44) (i := 3) (v := v3 + 1) (lv' := [(3, .int (v3 + 1)), (2, .int x10), (0, va_rf (some this)), (1, .int p1)]) G rfl (congrArg (fun z => v3 + z) (by decide)) (by decide) rfl dX0_idle_44 ?_
    refine JR_goto (pc := 47) (tgt := 21) G dX0_idle_47 (by decide) ?_
    refine J_sub [2, 3, 1, 0] rfl ?_
    exact hk21 x10 (v3 + 1) S d
  have hWs_idle_h21 : ∀ (f : Nat) (v2 : Int32) (v3 : Int32) (S : Sp) (d : Dt), J X F Λa S d 21 [(0, va_rf (some this)), (1, .int p1), (2, .int v2), (3, .int v3)] [] (Ws_idle_h21 this p1 f v2 v3 S d) := by
    intro  f
    induction f with
    | zero => intro v2 v3 S d; exact J_no
    | succ f ih =>
      intro v2 v3 S d
      unfold Ws_idle_h21
      refine JR_iload_n (pc := 21) (k := 3) (i := 3) G rfl rfl dX0_idle_21 ?_
      refine JR_iload_n (pc := 22) (k := 1) (i := 1) G rfl rfl dX0_idle_22 ?_
      refine JR_icmp_ge (pc := 23) (tgt := 50) G dX0_idle_23 (by decide) (fun c9 => ?_) (fun c9 => ?_)
      · refine JR_iload_n (pc := 50) (k := 2) (i := 2) G rfl rfl dX0_idle_50 ?_
        exact JR_iret (pc := 51) G hR dX0_idle_51 rfl rfl
      · refine JR_iload_n (pc := 26) (k := 2) (i := 2) G rfl rfl dX0_idle_26 ?_
        refine JR_aload_n (pc := 27) (k := 0) (i := 0) (o := some this) G rfl rfl dX0_idle_27 ?_
        refine J_bd (fun z6 hz6 => ?_)
        refine JR_gR (pc := 28) (k := 13) G cl_X0 in_X0 (by decide) (by decide) rfl (Or.inl rfl) q465 hz6 dX0_idle_28 ?_
        refine JR_iload_n (pc := 31) (k := 3) (i := 3) G rfl rfl dX0_idle_31 ?_
        refine J_bd (fun q7 hq7 => ?_)
        refine JR_iaload (pc := 32) G hq7 dX0_idle_32 ?_
        refine JR_iconst (pc := 33) G ci_m1 dX0_idle_33 ?_
        refine J_eq (r' := if ¬ (d.1 q7.1 q7.2) = ((-1)) then Ws_idle_b42 this p1 (Ws_idle_h21 this p1 f) v3 0 v2 S d else Ws_idle_b42 this p1 (Ws_idle_h21 this p1 f) v3 1 v2 S d) (by split <;> rfl) ?_
        refine JR_icmp_ne (pc := 34) (tgt := 41) G dX0_idle_34 (by decide) (fun c8 => ?_) (fun c8 => ?_)
        · refine JR_iconst (pc := 41) G ci_0 dX0_idle_41 ?_
          refine J_sub [0, 1, 3] rfl ?_
          exact hWs_idle_b42 (Ws_idle_h21 this p1 f) ih v3 0 v2 S d
        · refine JR_iconst (pc := 37) G ci_1 dX0_idle_37 ?_
          refine JR_goto (pc := 38) (tgt := 42) G dX0_idle_38 (by decide) ?_
          refine J_sub [0, 1, 3] rfl ?_
          exact hWs_idle_b42 (Ws_idle_h21 this p1 f) ih v3 1 v2 S d
  unfold Ws_idle
  refine JR_aload_n (pc := 0) (k := 0) (i := 0) (o := some this) G rfl rfl dX0_idle_0 ?_
  refine JR_iload_n (pc := 1) (k := 1) (i := 1) G rfl rfl dX0_idle_1 ?_
  refine J_bd (fun z1 hz1 => ?_)
  refine JPV_I (pc := 2) (as := [.int p1]) (st' := []) (o := some this) G (Ws_isTick_fn this p1 S d) (JC_V (n := 1) G hRm cl_X0 q1296 q1298 qs47 q137 q1299 ⟨rfl, dd_X0_isTick⟩ ⟨by decide, by decide⟩ dX0_idle_2 hz1 rfl (Nat.le_of_ble_eq_true rfl)) rfl (fun r2 hr2 => ?_)
  refine JR_if_ne (pc := 5) (tgt := 11) G dX0_idle_5 (by decide) (fun c5 => ?_) (fun c5 => ?_)
  · refine JR_aload_n (pc := 11) (k := 0) (i := 0) (o := some this) G rfl rfl dX0_idle_11 ?_
    refine JR_iload_n (pc := 12) (k := 1) (i := 1) G rfl rfl dX0_idle_12 ?_
    refine JR_iconst (pc := 13) G ci_m1 dX0_idle_13 ?_
    refine JAV_U (pc := 14) (as := [.int p1, .int ((-1))]) (st' := []) (o := some this) G (Ws_runs_fn this p1 ((-1)) S d) (JC_V (n := 2) G hRm cl_X0 q1147 q1149 qs31 q137 q1150 ⟨rfl, dd_X0_runs⟩ ⟨by decide, by decide⟩ dX0_idle_14 hz1 rfl (Nat.le_of_ble_eq_true rfl)) rfl (fun _ _ _ => rfl) (fun _ S3 d4 hd4 => ?_)
    refine JR_iconst (pc := 17) G ci_0 dX0_idle_17 ?_
    refine JR_istore_n (pc := 18) (k := 2) (i := 2) (lv' := [(2, .int 0), (0, va_rf (some this)), (1, .int p1)]) G rfl (by decide) rfl dX0_idle_18 ?_
    refine JR_iconst (pc := 19) G ci_0 dX0_idle_19 ?_
    refine JR_istore_n (pc := 20) (k := 3) (i := 3) (lv' := [(3, .int 0), (2, .int 0), (0, va_rf (some this)), (1, .int p1)]) G rfl (by decide) rfl dX0_idle_20 ?_
    refine J_sub [2, 3, 1, 0] rfl ?_
    exact hWs_idle_h21 FU 0 0 S3 d4
  · refine JR_bipush (pc := 8) (v := (-2)) G (by decide) dX0_idle_8 ?_
    exact JR_iret (pc := 10) G hR dX0_idle_10 rfl rfl

def Ws_isThen (this : Nat) (p1 : Int32) (p2 : Int32) (S : Sp) (d : Dt) : Option Int32 :=
  (isK S 0 (some this)).bind fun z1 =>
  (Ws_isTask this p1 S d).bind fun r2 =>
  if r2 = 0 then
    some 0
  else
    (Ws_isTick this p2 S d).bind fun r3 =>
    if r3 = 0 then
      some 0
    else
      some 1
set_option maxHeartbeats 4000000 in
theorem Ws_isThen_fn (this : Nat) (p1 : Int32) (p2 : Int32) (S : Sp) (d : Dt) : Fn yX0_isThen (ws_ yX0_isThen cX0_isThen 3 (some .boolean)) 3 61 [va_rf (some this), .int p1, .int p2] S d rvI Λp (Ws_isThen this p1 p2 S d) := by
  refine Fn.ofJ (own := RX0) (lv := [(0, va_rf (some this)), (1, .int p1), (2, .int p2)]) (by decide +kernel) rfl (by simp [cat_i, cat_l, cat_f, cat_d, rf_cat]) (by simp [lv_args, cat_i, cat_l, cat_f, cat_d, rf_cat]) ?_
  intro X F G hRm hR hI
  unfold Ws_isThen
  refine JR_aload_n (pc := 0) (k := 0) (i := 0) (o := some this) G rfl rfl dX0_isThen_0 ?_
  refine JR_iload_n (pc := 1) (k := 1) (i := 1) G rfl rfl dX0_isThen_1 ?_
  refine J_bd (fun z1 hz1 => ?_)
  refine JPV_I (pc := 2) (as := [.int p1]) (st' := []) (o := some this) G (Ws_isTask_fn this p1 S d) (JC_V (n := 1) G hRm cl_X0 q985 q987 qs21 q137 q988 ⟨rfl, dd_X0_isTask⟩ ⟨by decide, by decide⟩ dX0_isThen_2 hz1 rfl (Nat.le_of_ble_eq_true rfl)) rfl (fun r2 hr2 => ?_)
  refine JR_if_eq (pc := 5) (tgt := 20) G dX0_isThen_5 (by decide) (fun c5 => ?_) (fun c5 => ?_)
  · refine JR_iconst (pc := 20) G ci_0 dX0_isThen_20 ?_
    exact JR_zret (pc := 21) G hR dX0_isThen_21 (Or.inl rfl) rfl rfl
  · refine JR_aload_n (pc := 8) (k := 0) (i := 0) (o := some this) G rfl rfl dX0_isThen_8 ?_
    refine JR_iload_n (pc := 9) (k := 2) (i := 2) G rfl rfl dX0_isThen_9 ?_
    refine JPV_I (pc := 10) (as := [.int p2]) (st' := []) (o := some this) G (Ws_isTick_fn this p2 S d) (JC_V (n := 1) G hRm cl_X0 q1296 q1298 qs47 q137 q1299 ⟨rfl, dd_X0_isTick⟩ ⟨by decide, by decide⟩ dX0_isThen_10 hz1 rfl (Nat.le_of_ble_eq_true rfl)) rfl (fun r3 hr3 => ?_)
    refine JR_if_eq (pc := 13) (tgt := 20) G dX0_isThen_13 (by decide) (fun c4 => ?_) (fun c4 => ?_)
    · refine JR_iconst (pc := 20) G ci_0 dX0_isThen_20 ?_
      exact JR_zret (pc := 21) G hR dX0_isThen_21 (Or.inl rfl) rfl rfl
    · refine JR_iconst (pc := 16) G ci_1 dX0_isThen_16 ?_
      refine JR_goto (pc := 17) (tgt := 21) G dX0_isThen_17 (by decide) ?_
      exact JR_zret (pc := 21) G hR dX0_isThen_21 (Or.inr rfl) rfl rfl

def Ws_at (this : Nat) (p1 : Int32) (p2 : Int32) (p3 : Int32) (S : Sp) (d : Dt) : Option ((Option Nat) × Sp × Dt) :=
  (isK S 0 (some this)).bind fun z1 =>
  bind3 (Ws_runs this p2 p3 S d) fun _ S2 d3 =>
  (isK S2 0 (some this)).bind fun z4 =>
  (aix S2 57 (S2.2.1 z4 12) p1).bind fun q5 =>
  some (S2.2.1 q5.1 q5.2, S2, d3)
set_option maxHeartbeats 4000000 in
theorem Ws_at_fn (this : Nat) (p1 : Int32) (p2 : Int32) (p3 : Int32) (S : Sp) (d : Dt) : Fn yX0_at (ws_ yX0_at cX0_at 4 (some (.object "WatchStack$Life"))) 16 366 [va_rf (some this), .int p1, .int p2, .int p3] S d rvR Λa (Ws_at this p1 p2 p3 S d) := by
  refine Fn.ofJ (own := RX0) (lv := [(0, va_rf (some this)), (1, .int p1), (2, .int p2), (3, .int p3)]) (by decide +kernel) rfl (by simp [cat_i, cat_l, cat_f, cat_d, rf_cat]) (by simp [lv_args, cat_i, cat_l, cat_f, cat_d, rf_cat]) ?_
  intro X F G hRm hR hI
  unfold Ws_at
  refine JR_aload_n (pc := 0) (k := 0) (i := 0) (o := some this) G rfl rfl dX0_at_0 ?_
  refine JR_iload_n (pc := 1) (k := 2) (i := 2) G rfl rfl dX0_at_1 ?_
  refine JR_iload_n (pc := 2) (k := 3) (i := 3) G rfl rfl dX0_at_2 ?_
  refine J_bd (fun z1 hz1 => ?_)
  refine JAV_U (pc := 3) (as := [.int p2, .int p3]) (st' := []) (o := some this) G (Ws_runs_fn this p2 p3 S d) (JC_V (n := 2) G hRm cl_X0 q1147 q1149 qs31 q137 q1150 ⟨rfl, dd_X0_runs⟩ ⟨by decide, by decide⟩ dX0_at_3 hz1 rfl (Nat.le_of_ble_eq_true rfl)) rfl (fun _ _ _ => rfl) (fun _ S2 d3 hd3 => ?_)
  refine JR_aload_n (pc := 6) (k := 0) (i := 0) (o := some this) G rfl rfl dX0_at_6 ?_
  refine J_bd (fun z4 hz4 => ?_)
  refine JR_gR (pc := 7) (k := 12) G cl_X0 in_X0 (by decide) (by decide) rfl (Or.inl rfl) q464 hz4 dX0_at_7 ?_
  refine JR_iload_n (pc := 10) (k := 1) (i := 1) G rfl rfl dX0_at_10 ?_
  refine J_bd (fun q5 hq5 => ?_)
  refine JR_aaload (pc := 11) (t := 7) G (by decide) rfl hq5 dX0_at_11 ?_
  exact JR_aret (pc := 12) G hR ⟨_, rfl, Or.inl ⟨_, rfl⟩⟩ dX0_at_12 rfl rfl

def Ws_then (this : Nat) (p1 : Int32) (p2 : Int32) (S : Sp) (d : Dt) : Option ((Option Nat) × Sp × Dt) :=
  (isK S 0 (some this)).bind fun z1 =>
  bind3 (Ws_at this p1 p2 ((-1)) S d) fun r2 S3 d4 =>
  some (r2, S3, d4)
set_option maxHeartbeats 4000000 in
theorem Ws_then_fn (this : Nat) (p1 : Int32) (p2 : Int32) (S : Sp) (d : Dt) : Fn yX0_then (ws_ yX0_then cX0_then 3 (some (.object "WatchStack$Life"))) 17 389 [va_rf (some this), .int p1, .int p2] S d rvR Λa (Ws_then this p1 p2 S d) := by
  refine Fn.ofJ (own := RX0) (lv := [(0, va_rf (some this)), (1, .int p1), (2, .int p2)]) (by decide +kernel) rfl (by simp [cat_i, cat_l, cat_f, cat_d, rf_cat]) (by simp [lv_args, cat_i, cat_l, cat_f, cat_d, rf_cat]) ?_
  intro X F G hRm hR hI
  unfold Ws_then
  refine JR_aload_n (pc := 0) (k := 0) (i := 0) (o := some this) G rfl rfl dX0_then_0 ?_
  refine JR_iload_n (pc := 1) (k := 1) (i := 1) G rfl rfl dX0_then_1 ?_
  refine JR_iload_n (pc := 2) (k := 2) (i := 2) G rfl rfl dX0_then_2 ?_
  refine JR_iconst (pc := 3) G ci_m1 dX0_then_3 ?_
  refine J_bd (fun z1 hz1 => ?_)
  refine JAV_R (pc := 4) (as := [.int p1, .int p2, .int ((-1))]) (st' := []) (o := some this) G (Ws_at_fn this p1 p2 ((-1)) S d) (JC_V (n := 3) G hRm cl_X0 q1312 q1314 qs50 q137 q1315 ⟨rfl, dd_X0_at⟩ ⟨by decide, by decide⟩ dX0_then_4 hz1 rfl (Nat.le_of_ble_eq_true rfl)) rfl (fun _ _ _ => rfl) (fun r2 S3 d4 hd4 => ?_)
  exact JR_aret (pc := 7) G hR ⟨_, rfl, Or.inl ⟨_, rfl⟩⟩ dX0_then_7 rfl rfl

def Ws_kicks_2 (this : Nat) (p1 : Int32) (p2 : Int32) (S : Sp) (d : Dt) : Option (Int32 × Sp × Dt) :=
  (isK S 0 (some this)).bind fun z1 =>
  (Ws_isThen this p1 p2 S d).bind fun r2 =>
  if r2 = 0 then
    some ((-2), S, d)
  else
    bind3 (Ws_then this p1 p2 S d) fun r3 S4 d5 =>
    (isK S4 8 r3).bind fun z6 =>
    some (d5.1 z6 12, S4, d5)
set_option maxHeartbeats 4000000 in
theorem Ws_kicks_2_fn (this : Nat) (p1 : Int32) (p2 : Int32) (S : Sp) (d : Dt) : Fn yX0_kicks_2 (ws_ yX0_kicks_2 cX0_kicks_2 3 (some .int)) 18 411 [va_rf (some this), .int p1, .int p2] S d rvI Λa (Ws_kicks_2 this p1 p2 S d) := by
  refine Fn.ofJ (own := RX0) (lv := [(0, va_rf (some this)), (1, .int p1), (2, .int p2)]) (by decide +kernel) rfl (by simp [cat_i, cat_l, cat_f, cat_d, rf_cat]) (by simp [lv_args, cat_i, cat_l, cat_f, cat_d, rf_cat]) ?_
  intro X F G hRm hR hI
  unfold Ws_kicks_2
  refine JR_aload_n (pc := 0) (k := 0) (i := 0) (o := some this) G rfl rfl dX0_kicks_2_0 ?_
  refine JR_iload_n (pc := 1) (k := 1) (i := 1) G rfl rfl dX0_kicks_2_1 ?_
  refine JR_iload_n (pc := 2) (k := 2) (i := 2) G rfl rfl dX0_kicks_2_2 ?_
  refine J_bd (fun z1 hz1 => ?_)
  refine JPV_I (pc := 3) (as := [.int p1, .int p2]) (st' := []) (o := some this) G (Ws_isThen_fn this p1 p2 S d) (JC_V (n := 2) G hRm cl_X0 q1304 q1306 qs48 q137 q1307 ⟨rfl, dd_X0_isThen⟩ ⟨by decide, by decide⟩ dX0_kicks_2_3 hz1 rfl (Nat.le_of_ble_eq_true rfl)) rfl (fun r2 hr2 => ?_)
  refine JR_if_eq (pc := 6) (tgt := 21) G dX0_kicks_2_6 (by decide) (fun c7 => ?_) (fun c7 => ?_)
  · refine JR_bipush (pc := 21) (v := (-2)) G (by decide) dX0_kicks_2_21 ?_
    exact JR_iret (pc := 23) G hR dX0_kicks_2_23 rfl rfl
  · refine JR_aload_n (pc := 9) (k := 0) (i := 0) (o := some this) G rfl rfl dX0_kicks_2_9 ?_
    refine JR_iload_n (pc := 10) (k := 1) (i := 1) G rfl rfl dX0_kicks_2_10 ?_
    refine JR_iload_n (pc := 11) (k := 2) (i := 2) G rfl rfl dX0_kicks_2_11 ?_
    refine JAV_R (pc := 12) (as := [.int p1, .int p2]) (st' := []) (o := some this) G (Ws_then_fn this p1 p2 S d) (JC_V (n := 2) G hRm cl_X0 q1308 q1310 qs49 q137 q1311 ⟨rfl, dd_X0_then⟩ ⟨by decide, by decide⟩ dX0_kicks_2_12 hz1 rfl (Nat.le_of_ble_eq_true rfl)) rfl (fun _ _ _ => rfl) (fun r3 S4 d5 hd5 => ?_)
    refine J_bd (fun z6 hz6 => ?_)
    refine JR_gIN (pc := 15) (k := 12) G cl_X9 in_X9 (by decide) (by decide) rfl (Or.inl rfl) q363 hz6 dX0_kicks_2_15 ?_
    refine JR_goto (pc := 18) (tgt := 23) G dX0_kicks_2_18 (by decide) ?_
    exact JR_iret (pc := 23) G hR dX0_kicks_2_23 rfl rfl

def Ws_kicked (this : Nat) (p1 : Int32) (p2 : Int32) (S : Sp) (d : Dt) : Option (Int32 × Sp × Dt) :=
  (isK S 0 (some this)).bind fun z1 =>
  (Ws_isThen this p1 p2 S d).bind fun r2 =>
  if r2 = 0 then
    some ((-2), S, d)
  else
    bind3 (Ws_then this p1 p2 S d) fun r3 S4 d5 =>
    (isK S4 8 r3).bind fun z6 =>
    some (d5.1 z6 13, S4, d5)
set_option maxHeartbeats 4000000 in
theorem Ws_kicked_fn (this : Nat) (p1 : Int32) (p2 : Int32) (S : Sp) (d : Dt) : Fn yX0_kicked (ws_ yX0_kicked cX0_kicked 3 (some .int)) 18 411 [va_rf (some this), .int p1, .int p2] S d rvI Λa (Ws_kicked this p1 p2 S d) := by
  refine Fn.ofJ (own := RX0) (lv := [(0, va_rf (some this)), (1, .int p1), (2, .int p2)]) (by decide +kernel) rfl (by simp [cat_i, cat_l, cat_f, cat_d, rf_cat]) (by simp [lv_args, cat_i, cat_l, cat_f, cat_d, rf_cat]) ?_
  intro X F G hRm hR hI
  unfold Ws_kicked
  refine JR_aload_n (pc := 0) (k := 0) (i := 0) (o := some this) G rfl rfl dX0_kicked_0 ?_
  refine JR_iload_n (pc := 1) (k := 1) (i := 1) G rfl rfl dX0_kicked_1 ?_
  refine JR_iload_n (pc := 2) (k := 2) (i := 2) G rfl rfl dX0_kicked_2 ?_
  refine J_bd (fun z1 hz1 => ?_)
  refine JPV_I (pc := 3) (as := [.int p1, .int p2]) (st' := []) (o := some this) G (Ws_isThen_fn this p1 p2 S d) (JC_V (n := 2) G hRm cl_X0 q1304 q1306 qs48 q137 q1307 ⟨rfl, dd_X0_isThen⟩ ⟨by decide, by decide⟩ dX0_kicked_3 hz1 rfl (Nat.le_of_ble_eq_true rfl)) rfl (fun r2 hr2 => ?_)
  refine JR_if_eq (pc := 6) (tgt := 21) G dX0_kicked_6 (by decide) (fun c7 => ?_) (fun c7 => ?_)
  · refine JR_bipush (pc := 21) (v := (-2)) G (by decide) dX0_kicked_21 ?_
    exact JR_iret (pc := 23) G hR dX0_kicked_23 rfl rfl
  · refine JR_aload_n (pc := 9) (k := 0) (i := 0) (o := some this) G rfl rfl dX0_kicked_9 ?_
    refine JR_iload_n (pc := 10) (k := 1) (i := 1) G rfl rfl dX0_kicked_10 ?_
    refine JR_iload_n (pc := 11) (k := 2) (i := 2) G rfl rfl dX0_kicked_11 ?_
    refine JAV_R (pc := 12) (as := [.int p1, .int p2]) (st' := []) (o := some this) G (Ws_then_fn this p1 p2 S d) (JC_V (n := 2) G hRm cl_X0 q1308 q1310 qs49 q137 q1311 ⟨rfl, dd_X0_then⟩ ⟨by decide, by decide⟩ dX0_kicked_12 hz1 rfl (Nat.le_of_ble_eq_true rfl)) rfl (fun _ _ _ => rfl) (fun r3 S4 d5 hd5 => ?_)
    refine J_bd (fun z6 hz6 => ?_)
    refine JR_gIN (pc := 15) (k := 13) G cl_X9 in_X9 (by decide) (by decide) rfl (Or.inl rfl) q365 hz6 dX0_kicked_15 ?_
    refine JR_goto (pc := 18) (tgt := 23) G dX0_kicked_18 (by decide) ?_
    exact JR_iret (pc := 23) G hR dX0_kicked_23 rfl rfl

def Ws_jobs (this : Nat) (p1 : Int32) (p2 : Int32) (S : Sp) (d : Dt) : Option (Int32 × Sp × Dt) :=
  (isK S 0 (some this)).bind fun z1 =>
  (Ws_isThen this p1 p2 S d).bind fun r2 =>
  if r2 = 0 then
    some ((-2), S, d)
  else
    bind3 (Ws_then this p1 p2 S d) fun r3 S4 d5 =>
    (isK S4 8 r3).bind fun z6 =>
    some (d5.1 z6 9, S4, d5)
set_option maxHeartbeats 4000000 in
theorem Ws_jobs_fn (this : Nat) (p1 : Int32) (p2 : Int32) (S : Sp) (d : Dt) : Fn yX0_jobs (ws_ yX0_jobs cX0_jobs 3 (some .int)) 18 411 [va_rf (some this), .int p1, .int p2] S d rvI Λa (Ws_jobs this p1 p2 S d) := by
  refine Fn.ofJ (own := RX0) (lv := [(0, va_rf (some this)), (1, .int p1), (2, .int p2)]) (by decide +kernel) rfl (by simp [cat_i, cat_l, cat_f, cat_d, rf_cat]) (by simp [lv_args, cat_i, cat_l, cat_f, cat_d, rf_cat]) ?_
  intro X F G hRm hR hI
  unfold Ws_jobs
  refine JR_aload_n (pc := 0) (k := 0) (i := 0) (o := some this) G rfl rfl dX0_jobs_0 ?_
  refine JR_iload_n (pc := 1) (k := 1) (i := 1) G rfl rfl dX0_jobs_1 ?_
  refine JR_iload_n (pc := 2) (k := 2) (i := 2) G rfl rfl dX0_jobs_2 ?_
  refine J_bd (fun z1 hz1 => ?_)
  refine JPV_I (pc := 3) (as := [.int p1, .int p2]) (st' := []) (o := some this) G (Ws_isThen_fn this p1 p2 S d) (JC_V (n := 2) G hRm cl_X0 q1304 q1306 qs48 q137 q1307 ⟨rfl, dd_X0_isThen⟩ ⟨by decide, by decide⟩ dX0_jobs_3 hz1 rfl (Nat.le_of_ble_eq_true rfl)) rfl (fun r2 hr2 => ?_)
  refine JR_if_eq (pc := 6) (tgt := 21) G dX0_jobs_6 (by decide) (fun c7 => ?_) (fun c7 => ?_)
  · refine JR_bipush (pc := 21) (v := (-2)) G (by decide) dX0_jobs_21 ?_
    exact JR_iret (pc := 23) G hR dX0_jobs_23 rfl rfl
  · refine JR_aload_n (pc := 9) (k := 0) (i := 0) (o := some this) G rfl rfl dX0_jobs_9 ?_
    refine JR_iload_n (pc := 10) (k := 1) (i := 1) G rfl rfl dX0_jobs_10 ?_
    refine JR_iload_n (pc := 11) (k := 2) (i := 2) G rfl rfl dX0_jobs_11 ?_
    refine JAV_R (pc := 12) (as := [.int p1, .int p2]) (st' := []) (o := some this) G (Ws_then_fn this p1 p2 S d) (JC_V (n := 2) G hRm cl_X0 q1308 q1310 qs49 q137 q1311 ⟨rfl, dd_X0_then⟩ ⟨by decide, by decide⟩ dX0_jobs_12 hz1 rfl (Nat.le_of_ble_eq_true rfl)) rfl (fun _ _ _ => rfl) (fun r3 S4 d5 hd5 => ?_)
    refine J_bd (fun z6 hz6 => ?_)
    refine JR_gIN (pc := 15) (k := 9) G cl_X9 in_X9 (by decide) (by decide) rfl (Or.inl rfl) q357 hz6 dX0_jobs_15 ?_
    refine JR_goto (pc := 18) (tgt := 23) G dX0_jobs_18 (by decide) ?_
    exact JR_iret (pc := 23) G hR dX0_jobs_23 rfl rfl

def Ws_at_2 (this : Nat) (p1 : Int32) (p2 : Int32) (S : Sp) (d : Dt) : Option (Int32 × Sp × Dt) :=
  (isK S 0 (some this)).bind fun z1 =>
  (Ws_isThen this p1 p2 S d).bind fun r2 =>
  if ¬ r2 = 0 then
    bind3 (Ws_then this p1 p2 S d) fun r3 S4 d5 =>
    (isK S4 8 r3).bind fun z6 =>
    if (d5.1 z6 0) = 0 then
      some ((-1), S4, d5)
    else
      some (d5.1 z6 3, S4, d5)
  else
    some ((-2), S, d)
set_option maxHeartbeats 4000000 in
theorem Ws_at_2_fn (this : Nat) (p1 : Int32) (p2 : Int32) (S : Sp) (d : Dt) : Fn yX0_at_2 (ws_ yX0_at_2 cX0_at_2 4 (some .int)) 18 411 [va_rf (some this), .int p1, .int p2] S d rvI Λa (Ws_at_2 this p1 p2 S d) := by
  refine Fn.ofJ (own := RX0) (lv := [(0, va_rf (some this)), (1, .int p1), (2, .int p2)]) (by decide +kernel) rfl (by simp [cat_i, cat_l, cat_f, cat_d, rf_cat]) (by simp [lv_args, cat_i, cat_l, cat_f, cat_d, rf_cat]) ?_
  intro X F G hRm hR hI
  unfold Ws_at_2
  refine JR_aload_n (pc := 0) (k := 0) (i := 0) (o := some this) G rfl rfl dX0_at_2_0 ?_
  refine JR_iload_n (pc := 1) (k := 1) (i := 1) G rfl rfl dX0_at_2_1 ?_
  refine JR_iload_n (pc := 2) (k := 2) (i := 2) G rfl rfl dX0_at_2_2 ?_
  refine J_bd (fun z1 hz1 => ?_)
  refine JPV_I (pc := 3) (as := [.int p1, .int p2]) (st' := []) (o := some this) G (Ws_isThen_fn this p1 p2 S d) (JC_V (n := 2) G hRm cl_X0 q1304 q1306 qs48 q137 q1307 ⟨rfl, dd_X0_isThen⟩ ⟨by decide, by decide⟩ dX0_at_2_3 hz1 rfl (Nat.le_of_ble_eq_true rfl)) rfl (fun r2 hr2 => ?_)
  refine JR_if_ne (pc := 6) (tgt := 12) G dX0_at_2_6 (by decide) (fun c8 => ?_) (fun c8 => ?_)
  · refine JR_aload_n (pc := 12) (k := 0) (i := 0) (o := some this) G rfl rfl dX0_at_2_12 ?_
    refine JR_iload_n (pc := 13) (k := 1) (i := 1) G rfl rfl dX0_at_2_13 ?_
    refine JR_iload_n (pc := 14) (k := 2) (i := 2) G rfl rfl dX0_at_2_14 ?_
    refine JAV_R (pc := 15) (as := [.int p1, .int p2]) (st' := []) (o := some this) G (Ws_then_fn this p1 p2 S d) (JC_V (n := 2) G hRm cl_X0 q1308 q1310 qs49 q137 q1311 ⟨rfl, dd_X0_then⟩ ⟨by decide, by decide⟩ dX0_at_2_15 hz1 rfl (Nat.le_of_ble_eq_true rfl)) rfl (fun _ _ _ => rfl) (fun r3 S4 d5 hd5 => ?_)
    refine JR_astore_n (pc := 18) (k := 3) (i := 3) (lv' := [(3, va_rf r3), (0, va_rf (some this)), (1, .int p1), (2, .int p2)]) G rfl (by decide) rfl dX0_at_2_18 ?_
    refine JR_aload_n (pc := 19) (k := 3) (i := 3) (o := r3) G rfl rfl dX0_at_2_19 ?_
    refine J_bd (fun z6 hz6 => ?_)
    refine JR_gIN (pc := 20) (k := 0) G cl_X9 in_X9 (by decide) (by decide) rfl (Or.inl rfl) q339 hz6 dX0_at_2_20 ?_
    refine JR_if_eq (pc := 23) (tgt := 33) G dX0_at_2_23 (by decide) (fun c7 => ?_) (fun c7 => ?_)
    · refine JR_iconst (pc := 33) G ci_m1 dX0_at_2_33 ?_
      exact JR_iret (pc := 34) G hR dX0_at_2_34 rfl rfl
    · refine JR_aload_n (pc := 26) (k := 3) (i := 3) (o := r3) G rfl rfl dX0_at_2_26 ?_
      refine JR_gIN (pc := 27) (k := 3) G cl_X9 in_X9 (by decide) (by decide) rfl (Or.inl rfl) q345 hz6 dX0_at_2_27 ?_
      refine JR_goto (pc := 30) (tgt := 34) G dX0_at_2_30 (by decide) ?_
      exact JR_iret (pc := 34) G hR dX0_at_2_34 rfl rfl
  · refine JR_bipush (pc := 9) (v := (-2)) G (by decide) dX0_at_2_9 ?_
    exact JR_iret (pc := 11) G hR dX0_at_2_11 rfl rfl

def Ws_all (this : Nat) (p1 : Int32) (S : Sp) (d : Dt) : Option (Int32 × Sp × Dt) :=
  (isK S 0 (some this)).bind fun z1 =>
  (isK S 1 (S.2.1 z1 0)).bind fun z2 =>
  bind3 (Ws_runs this (d.1 z2 3) p1 S d) fun _ S3 d4 =>
  (isK S3 0 (some this)).bind fun z5 =>
  some (d4.1 z5 24, S3, d4)
set_option maxHeartbeats 4000000 in
theorem Ws_all_fn (this : Nat) (p1 : Int32) (S : Sp) (d : Dt) : Fn yX0_all (ws_ yX0_all cX0_all 2 (some .int)) 16 366 [va_rf (some this), .int p1] S d rvI Λa (Ws_all this p1 S d) := by
  refine Fn.ofJ (own := RX0) (lv := [(0, va_rf (some this)), (1, .int p1)]) (by decide +kernel) rfl (by simp [cat_i, cat_l, cat_f, cat_d, rf_cat]) (by simp [lv_args, cat_i, cat_l, cat_f, cat_d, rf_cat]) ?_
  intro X F G hRm hR hI
  unfold Ws_all
  refine JR_aload_n (pc := 0) (k := 0) (i := 0) (o := some this) G rfl rfl dX0_all_0 ?_
  refine JR_aload_n (pc := 1) (k := 0) (i := 0) (o := some this) G rfl rfl dX0_all_1 ?_
  refine J_bd (fun z1 hz1 => ?_)
  refine JR_gR (pc := 2) (k := 0) G cl_X0 in_X0 (by decide) (by decide) rfl (Or.inl rfl) q451 hz1 dX0_all_2 ?_
  refine J_bd (fun z2 hz2 => ?_)
  refine JR_gIN (pc := 5) (k := 3) G cl_X1 in_X1 (by decide) (by decide) rfl (Or.inl rfl) q227 hz2 dX0_all_5 ?_
  refine JR_iload_n (pc := 8) (k := 1) (i := 1) G rfl rfl dX0_all_8 ?_
  refine JAV_U (pc := 9) (as := [.int (d.1 z2 3), .int p1]) (st' := []) (o := some this) G (Ws_runs_fn this (d.1 z2 3) p1 S d) (JC_V (n := 2) G hRm cl_X0 q1147 q1149 qs31 q137 q1150 ⟨rfl, dd_X0_runs⟩ ⟨by decide, by decide⟩ dX0_all_9 hz1 rfl (Nat.le_of_ble_eq_true rfl)) rfl (fun _ _ _ => rfl) (fun _ S3 d4 hd4 => ?_)
  refine JR_aload_n (pc := 12) (k := 0) (i := 0) (o := some this) G rfl rfl dX0_all_12 ?_
  refine J_bd (fun z5 hz5 => ?_)
  refine JR_gI (pc := 13) (k := 24) G cl_X0 in_X0 (by decide) (by decide) rfl (Or.inl rfl) q477 hz5 dX0_all_13 ?_
  exact JR_iret (pc := 16) G hR dX0_all_16 rfl rfl

def Ws_gap (this : Nat) (p1 : Int32) (p2 : Int32) (S : Sp) (d : Dt) : Option (Int32 × Sp × Dt) :=
  (isK S 0 (some this)).bind fun z1 =>
  (Ws_isTask this p1 S d).bind fun r2 =>
  if r2 = 0 then
    some ((-2), S, d)
  else
    if 0 ≤ p2 then
      (some (dI d z1 29 p1)).bind fun d3 =>
      (some (dI d3 z1 30 p2)).bind fun d4 =>
      (some (dI d4 z1 31 ((-1)))).bind fun d5 =>
      bind3 (Ws_all this ((-1)) S d5) fun r6 S7 d8 =>
      (isK S7 0 (some this)).bind fun z9 =>
      some (d8.1 z9 31, S7, d8)
    else
      some ((-2), S, d)
set_option maxHeartbeats 4000000 in
theorem Ws_gap_fn (this : Nat) (p1 : Int32) (p2 : Int32) (S : Sp) (d : Dt) : Fn yX0_gap (ws_ yX0_gap cX0_gap 3 (some .int)) 17 387 [va_rf (some this), .int p1, .int p2] S d rvI Λa (Ws_gap this p1 p2 S d) := by
  refine Fn.ofJ (own := RX0) (lv := [(0, va_rf (some this)), (1, .int p1), (2, .int p2)]) (by decide +kernel) rfl (by simp [cat_i, cat_l, cat_f, cat_d, rf_cat]) (by simp [lv_args, cat_i, cat_l, cat_f, cat_d, rf_cat]) ?_
  intro X F G hRm hR hI
  unfold Ws_gap
  refine JR_aload_n (pc := 0) (k := 0) (i := 0) (o := some this) G rfl rfl dX0_gap_0 ?_
  refine JR_iload_n (pc := 1) (k := 1) (i := 1) G rfl rfl dX0_gap_1 ?_
  refine J_bd (fun z1 hz1 => ?_)
  refine JPV_I (pc := 2) (as := [.int p1]) (st' := []) (o := some this) G (Ws_isTask_fn this p1 S d) (JC_V (n := 1) G hRm cl_X0 q985 q987 qs21 q137 q988 ⟨rfl, dd_X0_isTask⟩ ⟨by decide, by decide⟩ dX0_gap_2 hz1 rfl (Nat.le_of_ble_eq_true rfl)) rfl (fun r2 hr2 => ?_)
  refine JR_if_eq (pc := 5) (tgt := 12) G dX0_gap_5 (by decide) (fun c11 => ?_) (fun c11 => ?_)
  · refine JR_bipush (pc := 12) (v := (-2)) G (by decide) dX0_gap_12 ?_
    exact JR_iret (pc := 14) G hR dX0_gap_14 rfl rfl
  · refine JR_iload_n (pc := 8) (k := 2) (i := 2) G rfl rfl dX0_gap_8 ?_
    refine JR_if_ge (pc := 9) (tgt := 15) G dX0_gap_9 (by decide) (fun c10 => ?_) (fun c10 => ?_)
    · refine JR_aload_n (pc := 15) (k := 0) (i := 0) (o := some this) G rfl rfl dX0_gap_15 ?_
      refine JR_iload_n (pc := 16) (k := 1) (i := 1) G rfl rfl dX0_gap_16 ?_
      refine JW_pI (pc := 17) (k := 29) G cl_X0 in_X0 tyX0_ok nmX0 (by decide) (by decide) rfl (Or.inl rfl) rfl q487 rfl rfl hz1 (fun _ => rfl) dX0_gap_17 ?_
      refine J_nmD (fun d3 hd3 => ?_)
      refine JR_aload_n (pc := 20) (k := 0) (i := 0) (o := some this) G rfl rfl dX0_gap_20 ?_
      refine JR_iload_n (pc := 21) (k := 2) (i := 2) G rfl rfl dX0_gap_21 ?_
      refine JW_pI (pc := 22) (k := 30) G cl_X0 in_X0 tyX0_ok nmX0 (by decide) (by decide) rfl (Or.inl rfl) rfl q488 rfl rfl hz1 (fun _ => rfl) dX0_gap_22 ?_
      refine J_nmD (fun d4 hd4 => ?_)
      refine JR_aload_n (pc := 25) (k := 0) (i := 0) (o := some this) G rfl rfl dX0_gap_25 ?_
      refine JR_iconst (pc := 26) G ci_m1 dX0_gap_26 ?_
      refine JW_pI (pc := 27) (k := 31) G cl_X0 in_X0 tyX0_ok nmX0 (by decide) (by decide) rfl (Or.inl rfl) rfl q489 rfl rfl hz1 (fun _ => rfl) dX0_gap_27 ?_
      refine J_nmD (fun d5 hd5 => ?_)
      refine JR_aload_n (pc := 30) (k := 0) (i := 0) (o := some this) G rfl rfl dX0_gap_30 ?_
      refine JR_iconst (pc := 31) G ci_m1 dX0_gap_31 ?_
      refine JAV_I (pc := 32) (as := [.int ((-1))]) (st' := []) (o := some this) G (Ws_all_fn this ((-1)) S d5) (JC_V (n := 1) G hRm cl_X0 q1332 q1334 qs51 q137 q1335 ⟨rfl, dd_X0_all⟩ ⟨by decide, by decide⟩ dX0_gap_32 hz1 rfl (Nat.le_of_ble_eq_true rfl)) rfl (fun _ _ _ => rfl) (fun r6 S7 d8 hd8 => ?_)
      refine JR_pop (pc := 35) G rfl dX0_gap_35 ?_
      refine JR_aload_n (pc := 36) (k := 0) (i := 0) (o := some this) G rfl rfl dX0_gap_36 ?_
      refine J_bd (fun z9 hz9 => ?_)
      refine JR_gI (pc := 37) (k := 31) G cl_X0 in_X0 (by decide) (by decide) rfl (Or.inl rfl) q489 hz9 dX0_gap_37 ?_
      exact JR_iret (pc := 40) G hR dX0_gap_40 rfl rfl
    · refine JR_bipush (pc := 12) (v := (-2)) G (by decide) dX0_gap_12 ?_
      exact JR_iret (pc := 14) G hR dX0_gap_14 rfl rfl
