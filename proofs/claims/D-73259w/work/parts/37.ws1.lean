/-! THE COMPONENT, printed -/
set_option maxRecDepth 100000
def Ws_fault (this : Nat) (p1 : Int32) (S : Sp) (d : Dt) : Option Int32 :=
  if ¬ p1 = 0 then
    if ¬ p1 = 1 then
      some ((-1))
    else
      (isK S 0 (some this)).bind fun z1 =>
      some (d.1 z1 5)
  else
    (isK S 0 (some this)).bind fun z3 =>
    some (d.1 z3 4)
set_option maxHeartbeats 4000000 in
theorem Ws_fault_fn (this : Nat) (p1 : Int32) (S : Sp) (d : Dt) : Fn yX0_fault (ws_ yX0_fault cX0_fault 2 (some .int)) 0 0 [va_rf (some this), .int p1] S d rvI Λp (Ws_fault this p1 S d) := by
  refine Fn.ofJ (own := RX0) (lv := [(0, va_rf (some this)), (1, .int p1)]) (by decide +kernel) rfl (by simp [cat_i, cat_l, cat_f, cat_d, rf_cat]) (by simp [lv_args, cat_i, cat_l, cat_f, cat_d, rf_cat]) ?_
  intro X F G hRm hR hI
  unfold Ws_fault
  refine JR_iload_n (pc := 0) (k := 1) (i := 1) G rfl rfl dX0_fault_0 ?_
  refine JR_if_ne (pc := 1) (tgt := 11) G dX0_fault_1 (by decide) (fun c4 => ?_) (fun c4 => ?_)
  · refine JR_iload_n (pc := 11) (k := 1) (i := 1) G rfl rfl dX0_fault_11 ?_
    refine JR_iconst (pc := 12) G ci_1 dX0_fault_12 ?_
    refine JR_icmp_ne (pc := 13) (tgt := 23) G dX0_fault_13 (by decide) (fun c2 => ?_) (fun c2 => ?_)
    · refine JR_iconst (pc := 23) G ci_m1 dX0_fault_23 ?_
      exact JR_iret (pc := 24) G hR dX0_fault_24 rfl rfl
    · refine JR_aload_n (pc := 16) (k := 0) (i := 0) (o := some this) G rfl rfl dX0_fault_16 ?_
      refine J_bd (fun z1 hz1 => ?_)
      refine JR_gI (pc := 17) (k := 5) G cl_X0 in_X0 (by decide) (by decide) rfl (Or.inl rfl) q456 hz1 dX0_fault_17 ?_
      refine JR_goto (pc := 20) (tgt := 24) G dX0_fault_20 (by decide) ?_
      exact JR_iret (pc := 24) G hR dX0_fault_24 rfl rfl
  · refine JR_aload_n (pc := 4) (k := 0) (i := 0) (o := some this) G rfl rfl dX0_fault_4 ?_
    refine J_bd (fun z3 hz3 => ?_)
    refine JR_gI (pc := 5) (k := 4) G cl_X0 in_X0 (by decide) (by decide) rfl (Or.inl rfl) q455 hz3 dX0_fault_5 ?_
    refine JR_goto (pc := 8) (tgt := 24) G dX0_fault_8 (by decide) ?_
    exact JR_iret (pc := 24) G hR dX0_fault_24 rfl rfl

def Ws_isTask (this : Nat) (p1 : Int32) (S : Sp) (d : Dt) : Option Int32 :=
  (isK S 0 (some this)).bind fun z1 =>
  (Ws_tasks this S d).bind fun r2 =>
  (Ws_in (Int32.toInt64 p1) 0 (Int32.toInt64 (r2 - 1)) S d).bind fun r3 =>
  (gb r3).bind fun b4 =>
  some b4
set_option maxHeartbeats 4000000 in
theorem Ws_isTask_fn (this : Nat) (p1 : Int32) (S : Sp) (d : Dt) : Fn yX0_isTask (ws_ yX0_isTask cX0_isTask 2 (some .boolean)) 2 40 [va_rf (some this), .int p1] S d rvI Λp (Ws_isTask this p1 S d) := by
  refine Fn.ofJ (own := RX0) (lv := [(0, va_rf (some this)), (1, .int p1)]) (by decide +kernel) rfl (by simp [cat_i, cat_l, cat_f, cat_d, rf_cat]) (by simp [lv_args, cat_i, cat_l, cat_f, cat_d, rf_cat]) ?_
  intro X F G hRm hR hI
  unfold Ws_isTask
  refine JR_iload_n (pc := 0) (k := 1) (i := 1) G rfl rfl dX0_isTask_0 ?_
  refine JR_i2l (pc := 1) G dX0_isTask_1 ?_
  refine JR_lconst (pc := 2) G cl_0 dX0_isTask_2 ?_
  refine JR_aload_n (pc := 3) (k := 0) (i := 0) (o := some this) G rfl rfl dX0_isTask_3 ?_
  refine J_bd (fun z1 hz1 => ?_)
  refine JPV_I (pc := 4) (as := []) (st' := [.long 0, .long (Int32.toInt64 p1)]) (o := some this) G (Ws_tasks_fn this S d) (JC_V (n := 0) G hRm cl_X0 q423 q425 qs1 q137 q426 ⟨rfl, dd_X0_tasks⟩ ⟨by decide, by decide⟩ dX0_isTask_4 hz1 rfl (Nat.le_of_ble_eq_true rfl)) rfl (fun r2 hr2 => ?_)
  refine JR_iconst (pc := 7) G ci_1 dX0_isTask_7 ?_
  refine JR_isub (pc := 8) G dX0_isTask_8 ?_
  refine JR_i2l (pc := 9) G dX0_isTask_9 ?_
  refine JPS_I (pc := 10) (as := [.long (Int32.toInt64 p1), .long 0, .long (Int32.toInt64 (r2 - 1))]) (st' := []) G (Ws_in_fn (Int32.toInt64 p1) 0 (Int32.toInt64 (r2 - 1)) S d) (JC_S (n := 3) G hRm q575 q576 q137 q577 dd_X0_in ⟨by decide, by decide⟩ dX0_isTask_10 rfl (Nat.le_of_ble_eq_true rfl)) rfl (fun r3 hr3 => ?_)
  refine J_bd (fun b4 hb4 => ?_)
  refine J_stk (st' := [.int b4]) (by rw [(gb_at hb4).1]) ?_
  exact JR_zret (pc := 13) G hR dX0_isTask_13 (by have h9 := gb_at hb4; rw [h9.1]; exact h9.2) rfl rfl

def Ws_task (this : Nat) (p1 : Int32) (p2 : Int32) (S : Sp) (d : Dt) : Option Int32 :=
  (isK S 0 (some this)).bind fun z1 =>
  (Ws_isTask this p1 S d).bind fun r2 =>
  if ¬ r2 = 0 then
    (Ws_taskOf this p1 S d).bind fun r3 =>
    if p2 = nI 0 then
      (isK S 12 r3).bind fun z4 =>
      some (d.1 z4 0)
    else
      if p2 = nI 1 then
        (isK S 12 r3).bind fun z6 =>
        some (d.1 z6 1)
      else
        if p2 = nI 2 then
          (isK S 12 r3).bind fun z8 =>
          some (d.1 z8 2)
        else
          if p2 = nI 3 then
            (isK S 12 r3).bind fun z10 =>
            some (d.1 z10 3)
          else
            if p2 = nI 4 then
              (isK S 12 r3).bind fun z12 =>
              some (d.1 z12 4)
            else
              if p2 = nI 5 then
                (isK S 12 r3).bind fun z14 =>
                some (d.1 z14 5)
              else
                if p2 = nI 6 then
                  (isK S 12 r3).bind fun z16 =>
                  some (d.1 z16 8)
                else
                  some ((-2))
  else
    some ((-2))
set_option maxHeartbeats 4000000 in
theorem Ws_task_fn (this : Nat) (p1 : Int32) (p2 : Int32) (S : Sp) (d : Dt) : Fn yX0_task (ws_ yX0_task cX0_task 4 (some .int)) 4 85 [va_rf (some this), .int p1, .int p2] S d rvI Λp (Ws_task this p1 p2 S d) := by
  refine Fn.ofJ (own := RX0) (lv := [(0, va_rf (some this)), (1, .int p1), (2, .int p2)]) (by decide +kernel) rfl (by simp [cat_i, cat_l, cat_f, cat_d, rf_cat]) (by simp [lv_args, cat_i, cat_l, cat_f, cat_d, rf_cat]) ?_
  intro X F G hRm hR hI
  unfold Ws_task
  refine JR_aload_n (pc := 0) (k := 0) (i := 0) (o := some this) G rfl rfl dX0_task_0 ?_
  refine JR_iload_n (pc := 1) (k := 1) (i := 1) G rfl rfl dX0_task_1 ?_
  refine J_bd (fun z1 hz1 => ?_)
  refine JPV_I (pc := 2) (as := [.int p1]) (st' := []) (o := some this) G (Ws_isTask_fn this p1 S d) (JC_V (n := 1) G hRm cl_X0 q985 q987 qs21 q137 q988 ⟨rfl, dd_X0_isTask⟩ ⟨by decide, by decide⟩ dX0_task_2 hz1 rfl (Nat.le_of_ble_eq_true rfl)) rfl (fun r2 hr2 => ?_)
  refine JR_if_ne (pc := 5) (tgt := 11) G dX0_task_5 (by decide) (fun c18 => ?_) (fun c18 => ?_)
  · refine JR_aload_n (pc := 11) (k := 0) (i := 0) (o := some this) G rfl rfl dX0_task_11 ?_
    refine JR_iload_n (pc := 12) (k := 1) (i := 1) G rfl rfl dX0_task_12 ?_
    refine JPV_R (pc := 13) (as := [.int p1]) (st' := []) (o := some this) G (Ws_taskOf_fn this p1 S d) (JC_V (n := 1) G hRm cl_X0 q431 q433 qs2 q137 q434 ⟨rfl, dd_X0_taskOf⟩ ⟨by decide, by decide⟩ dX0_task_13 hz1 rfl (Nat.le_of_ble_eq_true rfl)) rfl (fun r3 hr3 => ?_)
    refine JR_astore_n (pc := 16) (k := 3) (i := 3) (lv' := [(3, va_rf r3), (0, va_rf (some this)), (1, .int p1), (2, .int p2)]) G rfl (by decide) rfl dX0_task_16 ?_
    refine JR_iload_n (pc := 17) (k := 2) (i := 2) G rfl rfl dX0_task_17 ?_
    refine J_if (fun c5 => ?_) (fun c5 => ?_)
    · refine JR_tsIn (pc := 18) (k := 0) (tgt := 60) G dX0_task_18 c5 (by decide) (by decide) rfl (by decide) ?_
      refine JR_aload_n (pc := 60) (k := 3) (i := 3) (o := r3) G rfl rfl dX0_task_60 ?_
      refine J_bd (fun z4 hz4 => ?_)
      refine JR_gIN (pc := 61) (k := 0) G cl_X13 in_X13 (by decide) (by decide) rfl (Or.inl rfl) q819 hz4 dX0_task_61 ?_
      exact JR_iret (pc := 64) G hR dX0_task_64 rfl rfl
    · refine J_if (fun c7 => ?_) (fun c7 => ?_)
      · refine JR_tsIn (pc := 18) (k := 1) (tgt := 65) G dX0_task_18 c7 (by decide) (by decide) rfl (by decide) ?_
        refine JR_aload_n (pc := 65) (k := 3) (i := 3) (o := r3) G rfl rfl dX0_task_65 ?_
        refine J_bd (fun z6 hz6 => ?_)
        refine JR_gIN (pc := 66) (k := 1) G cl_X13 in_X13 (by decide) (by decide) rfl (Or.inl rfl) q822 hz6 dX0_task_66 ?_
        exact JR_iret (pc := 69) G hR dX0_task_69 rfl rfl
      · refine J_if (fun c9 => ?_) (fun c9 => ?_)
        · refine JR_tsIn (pc := 18) (k := 2) (tgt := 70) G dX0_task_18 c9 (by decide) (by decide) rfl (by decide) ?_
          refine JR_aload_n (pc := 70) (k := 3) (i := 3) (o := r3) G rfl rfl dX0_task_70 ?_
          refine J_bd (fun z8 hz8 => ?_)
          refine JR_gIN (pc := 71) (k := 2) G cl_X13 in_X13 (by decide) (by decide) rfl (Or.inl rfl) q824 hz8 dX0_task_71 ?_
          exact JR_iret (pc := 74) G hR dX0_task_74 rfl rfl
        · refine J_if (fun c11 => ?_) (fun c11 => ?_)
          · refine JR_tsIn (pc := 18) (k := 3) (tgt := 75) G dX0_task_18 c11 (by decide) (by decide) rfl (by decide) ?_
            refine JR_aload_n (pc := 75) (k := 3) (i := 3) (o := r3) G rfl rfl dX0_task_75 ?_
            refine J_bd (fun z10 hz10 => ?_)
            refine JR_gIN (pc := 76) (k := 3) G cl_X13 in_X13 (by decide) (by decide) rfl (Or.inl rfl) q826 hz10 dX0_task_76 ?_
            exact JR_iret (pc := 79) G hR dX0_task_79 rfl rfl
          · refine J_if (fun c13 => ?_) (fun c13 => ?_)
            · refine JR_tsIn (pc := 18) (k := 4) (tgt := 80) G dX0_task_18 c13 (by decide) (by decide) rfl (by decide) ?_
              refine JR_aload_n (pc := 80) (k := 3) (i := 3) (o := r3) G rfl rfl dX0_task_80 ?_
              refine J_bd (fun z12 hz12 => ?_)
              refine JR_gIN (pc := 81) (k := 4) G cl_X13 in_X13 (by decide) (by decide) rfl (Or.inl rfl) q828 hz12 dX0_task_81 ?_
              exact JR_iret (pc := 84) G hR dX0_task_84 rfl rfl
            · refine J_if (fun c15 => ?_) (fun c15 => ?_)
              · refine JR_tsIn (pc := 18) (k := 5) (tgt := 85) G dX0_task_18 c15 (by decide) (by decide) rfl (by decide) ?_
                refine JR_aload_n (pc := 85) (k := 3) (i := 3) (o := r3) G rfl rfl dX0_task_85 ?_
                refine J_bd (fun z14 hz14 => ?_)
                refine JR_gIN (pc := 86) (k := 5) G cl_X13 in_X13 (by decide) (by decide) rfl (Or.inl rfl) q830 hz14 dX0_task_86 ?_
                exact JR_iret (pc := 89) G hR dX0_task_89 rfl rfl
              · refine J_if (fun c17 => ?_) (fun c17 => ?_)
                · refine JR_tsIn (pc := 18) (k := 6) (tgt := 90) G dX0_task_18 c17 (by decide) (by decide) rfl (by decide) ?_
                  refine JR_aload_n (pc := 90) (k := 3) (i := 3) (o := r3) G rfl rfl dX0_task_90 ?_
                  refine J_bd (fun z16 hz16 => ?_)
                  refine JR_gIN (pc := 91) (k := 8) G cl_X13 in_X13 (by decide) (by decide) rfl (Or.inl rfl) q837 hz16 dX0_task_91 ?_
                  exact JR_iret (pc := 94) G hR dX0_task_94 rfl rfl
                · refine JR_tsOut (pc := 18) (tgt := 95) (n := 6) G dX0_task_18 rfl (by decide) (fun k9 hk9 => by rcases (show k9 = 0 ∨ k9 = 1 ∨ k9 = 2 ∨ k9 = 3 ∨ k9 = 4 ∨ k9 = 5 ∨ k9 = 6 by omega) with rfl | rfl | rfl | rfl | rfl | rfl | rfl <;> assumption) (by decide) ?_
                  refine JR_bipush (pc := 95) (v := (-2)) G (by decide) dX0_task_95 ?_
                  exact JR_iret (pc := 97) G hR dX0_task_97 rfl rfl
  · refine JR_bipush (pc := 8) (v := (-2)) G (by decide) dX0_task_8 ?_
    exact JR_iret (pc := 10) G hR dX0_task_10 rfl rfl

def Ws_node (this : Nat) (p1 : Int32) (p2 : Int32) (p3 : Int32) (S : Sp) (d : Dt) : Option Int32 :=
  (isK S 0 (some this)).bind fun z1 =>
  (Ws_isTask this p1 S d).bind fun r2 =>
  if r2 = 0 then
    some ((-2))
  else
    (Ws_taskOf this p1 S d).bind fun r3 =>
    (isK S 12 r3).bind fun z4 =>
    (Ws_in (Int32.toInt64 p2) 0 (Int32.toInt64 ((d.1 z4 8) - 1)) S d).bind fun r5 =>
    if r5 = 0 then
      some ((-2))
    else
      (Ws_in (Int32.toInt64 p3) 0 1 S d).bind fun r6 =>
      if ¬ r6 = 0 then
        if ¬ p3 = 0 then
          (Ws_taskOf this p1 S d).bind fun r7 =>
          (isK S 12 r7).bind fun z8 =>
          (aix S 50 (S.2.1 z8 7) p2).bind fun q9 =>
          some (d.1 q9.1 q9.2)
        else
          (Ws_taskOf this p1 S d).bind fun r10 =>
          (isK S 12 r10).bind fun z11 =>
          (aix S 50 (S.2.1 z11 6) p2).bind fun q12 =>
          some (d.1 q12.1 q12.2)
      else
        some ((-2))
set_option maxHeartbeats 4000000 in
theorem Ws_node_fn (this : Nat) (p1 : Int32) (p2 : Int32) (p3 : Int32) (S : Sp) (d : Dt) : Fn yX0_node (ws_ yX0_node cX0_node 4 (some .int)) 4 85 [va_rf (some this), .int p1, .int p2, .int p3] S d rvI Λp (Ws_node this p1 p2 p3 S d) := by
  refine Fn.ofJ (own := RX0) (lv := [(0, va_rf (some this)), (1, .int p1), (2, .int p2), (3, .int p3)]) (by decide +kernel) rfl (by simp [cat_i, cat_l, cat_f, cat_d, rf_cat]) (by simp [lv_args, cat_i, cat_l, cat_f, cat_d, rf_cat]) ?_
  intro X F G hRm hR hI
  unfold Ws_node
  refine JR_aload_n (pc := 0) (k := 0) (i := 0) (o := some this) G rfl rfl dX0_node_0 ?_
  refine JR_iload_n (pc := 1) (k := 1) (i := 1) G rfl rfl dX0_node_1 ?_
  refine J_bd (fun z1 hz1 => ?_)
  refine JPV_I (pc := 2) (as := [.int p1]) (st' := []) (o := some this) G (Ws_isTask_fn this p1 S d) (JC_V (n := 1) G hRm cl_X0 q985 q987 qs21 q137 q988 ⟨rfl, dd_X0_isTask⟩ ⟨by decide, by decide⟩ dX0_node_2 hz1 rfl (Nat.le_of_ble_eq_true rfl)) rfl (fun r2 hr2 => ?_)
  refine JR_if_eq (pc := 5) (tgt := 38) G dX0_node_5 (by decide) (fun c16 => ?_) (fun c16 => ?_)
  · refine JR_bipush (pc := 38) (v := (-2)) G (by decide) dX0_node_38 ?_
    exact JR_iret (pc := 40) G hR dX0_node_40 rfl rfl
  · refine JR_iload_n (pc := 8) (k := 2) (i := 2) G rfl rfl dX0_node_8 ?_
    refine JR_i2l (pc := 9) G dX0_node_9 ?_
    refine JR_lconst (pc := 10) G cl_0 dX0_node_10 ?_
    refine JR_aload_n (pc := 11) (k := 0) (i := 0) (o := some this) G rfl rfl dX0_node_11 ?_
    refine JR_iload_n (pc := 12) (k := 1) (i := 1) G rfl rfl dX0_node_12 ?_
    refine JPV_R (pc := 13) (as := [.int p1]) (st' := [.long 0, .long (Int32.toInt64 p2)]) (o := some this) G (Ws_taskOf_fn this p1 S d) (JC_V (n := 1) G hRm cl_X0 q431 q433 qs2 q137 q434 ⟨rfl, dd_X0_taskOf⟩ ⟨by decide, by decide⟩ dX0_node_13 hz1 rfl (Nat.le_of_ble_eq_true rfl)) rfl (fun r3 hr3 => ?_)
    refine J_bd (fun z4 hz4 => ?_)
    refine JR_gIN (pc := 16) (k := 8) G cl_X13 in_X13 (by decide) (by decide) rfl (Or.inl rfl) q837 hz4 dX0_node_16 ?_
    refine JR_iconst (pc := 19) G ci_1 dX0_node_19 ?_
    refine JR_isub (pc := 20) G dX0_node_20 ?_
    refine JR_i2l (pc := 21) G dX0_node_21 ?_
    refine JPS_I (pc := 22) (as := [.long (Int32.toInt64 p2), .long 0, .long (Int32.toInt64 ((d.1 z4 8) - 1))]) (st' := []) G (Ws_in_fn (Int32.toInt64 p2) 0 (Int32.toInt64 ((d.1 z4 8) - 1)) S d) (JC_S (n := 3) G hRm q575 q576 q137 q577 dd_X0_in ⟨by decide, by decide⟩ dX0_node_22 rfl (Nat.le_of_ble_eq_true rfl)) rfl (fun r5 hr5 => ?_)
    refine JR_if_eq (pc := 25) (tgt := 38) G dX0_node_25 (by decide) (fun c15 => ?_) (fun c15 => ?_)
    · refine JR_bipush (pc := 38) (v := (-2)) G (by decide) dX0_node_38 ?_
      exact JR_iret (pc := 40) G hR dX0_node_40 rfl rfl
    · refine JR_iload_n (pc := 28) (k := 3) (i := 3) G rfl rfl dX0_node_28 ?_
      refine JR_i2l (pc := 29) G dX0_node_29 ?_
      refine JR_lconst (pc := 30) G cl_0 dX0_node_30 ?_
      refine JR_lconst (pc := 31) G cl_1 dX0_node_31 ?_
      refine JPS_I (pc := 32) (as := [.long (Int32.toInt64 p3), .long 0, .long 1]) (st' := []) G (Ws_in_fn (Int32.toInt64 p3) 0 1 S d) (JC_S (n := 3) G hRm q575 q576 q137 q577 dd_X0_in ⟨by decide, by decide⟩ dX0_node_32 rfl (Nat.le_of_ble_eq_true rfl)) rfl (fun r6 hr6 => ?_)
      refine JR_if_ne (pc := 35) (tgt := 41) G dX0_node_35 (by decide) (fun c14 => ?_) (fun c14 => ?_)
      · refine JR_iload_n (pc := 41) (k := 3) (i := 3) G rfl rfl dX0_node_41 ?_
        refine JR_if_ne (pc := 42) (tgt := 58) G dX0_node_42 (by decide) (fun c13 => ?_) (fun c13 => ?_)
        · refine JR_aload_n (pc := 58) (k := 0) (i := 0) (o := some this) G rfl rfl dX0_node_58 ?_
          refine JR_iload_n (pc := 59) (k := 1) (i := 1) G rfl rfl dX0_node_59 ?_
          refine JPV_R (pc := 60) (as := [.int p1]) (st' := []) (o := some this) G (Ws_taskOf_fn this p1 S d) (JC_V (n := 1) G hRm cl_X0 q431 q433 qs2 q137 q434 ⟨rfl, dd_X0_taskOf⟩ ⟨by decide, by decide⟩ dX0_node_60 hz1 rfl (Nat.le_of_ble_eq_true rfl)) rfl (fun r7 hr7 => ?_)
          refine J_bd (fun z8 hz8 => ?_)
          refine JR_gRN (pc := 63) (k := 7) G cl_X13 in_X13 (by decide) (by decide) rfl (Or.inl rfl) q834 hz8 dX0_node_63 ?_
          refine JR_iload_n (pc := 66) (k := 2) (i := 2) G rfl rfl dX0_node_66 ?_
          refine J_bd (fun q9 hq9 => ?_)
          refine JR_iaload (pc := 67) G hq9 dX0_node_67 ?_
          exact JR_iret (pc := 68) G hR dX0_node_68 rfl rfl
        · refine JR_aload_n (pc := 45) (k := 0) (i := 0) (o := some this) G rfl rfl dX0_node_45 ?_
          refine JR_iload_n (pc := 46) (k := 1) (i := 1) G rfl rfl dX0_node_46 ?_
          refine JPV_R (pc := 47) (as := [.int p1]) (st' := []) (o := some this) G (Ws_taskOf_fn this p1 S d) (JC_V (n := 1) G hRm cl_X0 q431 q433 qs2 q137 q434 ⟨rfl, dd_X0_taskOf⟩ ⟨by decide, by decide⟩ dX0_node_47 hz1 rfl (Nat.le_of_ble_eq_true rfl)) rfl (fun r10 hr10 => ?_)
          refine J_bd (fun z11 hz11 => ?_)
          refine JR_gRN (pc := 50) (k := 6) G cl_X13 in_X13 (by decide) (by decide) rfl (Or.inl rfl) q832 hz11 dX0_node_50 ?_
          refine JR_iload_n (pc := 53) (k := 2) (i := 2) G rfl rfl dX0_node_53 ?_
          refine J_bd (fun q12 hq12 => ?_)
          refine JR_iaload (pc := 54) G hq12 dX0_node_54 ?_
          refine JR_goto (pc := 55) (tgt := 68) G dX0_node_55 (by decide) ?_
          exact JR_iret (pc := 68) G hR dX0_node_68 rfl rfl
      · refine JR_bipush (pc := 38) (v := (-2)) G (by decide) dX0_node_38 ?_
        exact JR_iret (pc := 40) G hR dX0_node_40 rfl rfl

def Ws_watcher (this : Nat) (p1 : Int32) (S : Sp) (d : Dt) : Option Int32 :=
  (isK S 0 (some this)).bind fun z1 =>
  (isK S 1 (S.2.1 z1 0)).bind fun z2 =>
  (Ws_in (Int32.toInt64 p1) 0 (Int32.toInt64 ((d.1 z2 6) - 1)) S d).bind fun r3 =>
  if r3 = 0 then
    some ((-2))
  else
    (aix S 50 (S.2.1 z2 2) p1).bind fun q4 =>
    some (d.1 q4.1 q4.2)
set_option maxHeartbeats 4000000 in
theorem Ws_watcher_fn (this : Nat) (p1 : Int32) (S : Sp) (d : Dt) : Fn yX0_watcher (ws_ yX0_watcher cX0_watcher 2 (some .int)) 1 25 [va_rf (some this), .int p1] S d rvI Λp (Ws_watcher this p1 S d) := by
  refine Fn.ofJ (own := RX0) (lv := [(0, va_rf (some this)), (1, .int p1)]) (by decide +kernel) rfl (by simp [cat_i, cat_l, cat_f, cat_d, rf_cat]) (by simp [lv_args, cat_i, cat_l, cat_f, cat_d, rf_cat]) ?_
  intro X F G hRm hR hI
  unfold Ws_watcher
  refine JR_iload_n (pc := 0) (k := 1) (i := 1) G rfl rfl dX0_watcher_0 ?_
  refine JR_i2l (pc := 1) G dX0_watcher_1 ?_
  refine JR_lconst (pc := 2) G cl_0 dX0_watcher_2 ?_
  refine JR_aload_n (pc := 3) (k := 0) (i := 0) (o := some this) G rfl rfl dX0_watcher_3 ?_
  refine J_bd (fun z1 hz1 => ?_)
  refine JR_gR (pc := 4) (k := 0) G cl_X0 in_X0 (by decide) (by decide) rfl (Or.inl rfl) q451 hz1 dX0_watcher_4 ?_
  refine J_bd (fun z2 hz2 => ?_)
  refine JR_gIN (pc := 7) (k := 6) G cl_X1 in_X1 (by decide) (by decide) rfl (Or.inl rfl) q237 hz2 dX0_watcher_7 ?_
  refine JR_iconst (pc := 10) G ci_1 dX0_watcher_10 ?_
  refine JR_isub (pc := 11) G dX0_watcher_11 ?_
  refine JR_i2l (pc := 12) G dX0_watcher_12 ?_
  refine JPS_I (pc := 13) (as := [.long (Int32.toInt64 p1), .long 0, .long (Int32.toInt64 ((d.1 z2 6) - 1))]) (st' := []) G (Ws_in_fn (Int32.toInt64 p1) 0 (Int32.toInt64 ((d.1 z2 6) - 1)) S d) (JC_S (n := 3) G hRm q575 q576 q137 q577 dd_X0_in ⟨by decide, by decide⟩ dX0_watcher_13 rfl (Nat.le_of_ble_eq_true rfl)) rfl (fun r3 hr3 => ?_)
  refine JR_if_eq (pc := 16) (tgt := 31) G dX0_watcher_16 (by decide) (fun c5 => ?_) (fun c5 => ?_)
  · refine JR_bipush (pc := 31) (v := (-2)) G (by decide) dX0_watcher_31 ?_
    exact JR_iret (pc := 33) G hR dX0_watcher_33 rfl rfl
  · refine JR_aload_n (pc := 19) (k := 0) (i := 0) (o := some this) G rfl rfl dX0_watcher_19 ?_
    refine JR_gR (pc := 20) (k := 0) G cl_X0 in_X0 (by decide) (by decide) rfl (Or.inl rfl) q451 hz1 dX0_watcher_20 ?_
    refine JR_gRN (pc := 23) (k := 2) G cl_X1 in_X1 (by decide) (by decide) rfl (Or.inl rfl) q224 hz2 dX0_watcher_23 ?_
    refine JR_iload_n (pc := 26) (k := 1) (i := 1) G rfl rfl dX0_watcher_26 ?_
    refine J_bd (fun q4 hq4 => ?_)
    refine JR_iaload (pc := 27) G hq4 dX0_watcher_27 ?_
    refine JR_goto (pc := 28) (tgt := 33) G dX0_watcher_28 (by decide) ?_
    exact JR_iret (pc := 33) G hR dX0_watcher_33 rfl rfl

def Ws_isInjection (this : Nat) (p1 : Int32) (S : Sp) (d : Dt) : Option Int32 :=
  (isK S 0 (some this)).bind fun z1 =>
  (isK S 1 (S.2.1 z1 0)).bind fun z2 =>
  (isK S 16 (S.2.1 z2 1)).bind fun z3 =>
  (Jl_size z3 S d).bind fun r4 =>
  (Ws_in (Int32.toInt64 p1) 0 (Int32.toInt64 (r4 - 1)) S d).bind fun r5 =>
  (gb r5).bind fun b6 =>
  some b6
set_option maxHeartbeats 4000000 in
theorem Ws_isInjection_fn (this : Nat) (p1 : Int32) (S : Sp) (d : Dt) : Fn yX0_isInjection (ws_ yX0_isInjection cX0_isInjection 2 (some .boolean)) 1 25 [va_rf (some this), .int p1] S d rvI Λp (Ws_isInjection this p1 S d) := by
  refine Fn.ofJ (own := RX0) (lv := [(0, va_rf (some this)), (1, .int p1)]) (by decide +kernel) rfl (by simp [cat_i, cat_l, cat_f, cat_d, rf_cat]) (by simp [lv_args, cat_i, cat_l, cat_f, cat_d, rf_cat]) ?_
  intro X F G hRm hR hI
  unfold Ws_isInjection
  refine JR_iload_n (pc := 0) (k := 1) (i := 1) G rfl rfl dX0_isInjection_0 ?_
  refine JR_i2l (pc := 1) G dX0_isInjection_1 ?_
  refine JR_lconst (pc := 2) G cl_0 dX0_isInjection_2 ?_
  refine JR_aload_n (pc := 3) (k := 0) (i := 0) (o := some this) G rfl rfl dX0_isInjection_3 ?_
  refine J_bd (fun z1 hz1 => ?_)
  refine JR_gR (pc := 4) (k := 0) G cl_X0 in_X0 (by decide) (by decide) rfl (Or.inl rfl) q451 hz1 dX0_isInjection_4 ?_
  refine J_bd (fun z2 hz2 => ?_)
  refine JR_gRN (pc := 7) (k := 1) G cl_X1 in_X1 (by decide) (by decide) rfl (Or.inl rfl) q220 hz2 dX0_isInjection_7 ?_
  refine J_bd (fun z3 hz3 => ?_)
  refine J_stk (st' := [va_rf (some z3), .long 0, .long (Int32.toInt64 p1)]) (by rw [(isK_at hz3).1]) ?_
  refine JPV_I (pc := 10) (as := []) (st' := [.long 0, .long (Int32.toInt64 p1)]) (o := some z3) G (Jl_size_fn z3 S d) (JC_V (n := 0) G hRm cl_J2 q427 q428 q429 q141 q430 ⟨rfl, dd_J2_size⟩ ⟨by decide, by decide⟩ dX0_isInjection_10 (isK_s hz3) rfl (Nat.le_of_ble_eq_true rfl)) rfl (fun r4 hr4 => ?_)
  refine JR_iconst (pc := 13) G ci_1 dX0_isInjection_13 ?_
  refine JR_isub (pc := 14) G dX0_isInjection_14 ?_
  refine JR_i2l (pc := 15) G dX0_isInjection_15 ?_
  refine JPS_I (pc := 16) (as := [.long (Int32.toInt64 p1), .long 0, .long (Int32.toInt64 (r4 - 1))]) (st' := []) G (Ws_in_fn (Int32.toInt64 p1) 0 (Int32.toInt64 (r4 - 1)) S d) (JC_S (n := 3) G hRm q575 q576 q137 q577 dd_X0_in ⟨by decide, by decide⟩ dX0_isInjection_16 rfl (Nat.le_of_ble_eq_true rfl)) rfl (fun r5 hr5 => ?_)
  refine J_bd (fun b6 hb6 => ?_)
  refine J_stk (st' := [.int b6]) (by rw [(gb_at hb6).1]) ?_
  exact JR_zret (pc := 19) G hR dX0_isInjection_19 (by have h9 := gb_at hb6; rw [h9.1]; exact h9.2) rfl rfl

def Ws_injection (this : Nat) (p1 : Int32) (p2 : Int32) (S : Sp) (d : Dt) : Option Int32 :=
  (isK S 0 (some this)).bind fun z1 =>
  (Ws_isInjection this p1 S d).bind fun r2 =>
  if ¬ r2 = 0 then
    (isK S 1 (S.2.1 z1 0)).bind fun z3 =>
    (isK S 16 (S.2.1 z3 1)).bind fun z4 =>
    (Jl_get z4 p1 S d).bind fun r5 =>
    (isK S 13 r5).bind fun z6 =>
    if p2 = nI 0 then
      some (d.1 z6 0)
    else
      if p2 = nI 1 then
        some (d.1 z6 1)
      else
        if p2 = nI 2 then
          some (d.1 z6 2)
        else
          if p2 = nI 3 then
            some (d.1 z6 3)
          else
            if p2 = nI 4 then
              some (d.1 z6 4)
            else
              some ((-2))
  else
    some ((-2))
set_option maxHeartbeats 4000000 in
theorem Ws_injection_fn (this : Nat) (p1 : Int32) (p2 : Int32) (S : Sp) (d : Dt) : Fn yX0_injection (ws_ yX0_injection cX0_injection 4 (some .int)) 3 64 [va_rf (some this), .int p1, .int p2] S d rvI Λp (Ws_injection this p1 p2 S d) := by
  refine Fn.ofJ (own := RX0) (lv := [(0, va_rf (some this)), (1, .int p1), (2, .int p2)]) (by decide +kernel) rfl (by simp [cat_i, cat_l, cat_f, cat_d, rf_cat]) (by simp [lv_args, cat_i, cat_l, cat_f, cat_d, rf_cat]) ?_
  intro X F G hRm hR hI
  unfold Ws_injection
  refine JR_aload_n (pc := 0) (k := 0) (i := 0) (o := some this) G rfl rfl dX0_injection_0 ?_
  refine JR_iload_n (pc := 1) (k := 1) (i := 1) G rfl rfl dX0_injection_1 ?_
  refine J_bd (fun z1 hz1 => ?_)
  refine JPV_I (pc := 2) (as := [.int p1]) (st' := []) (o := some this) G (Ws_isInjection_fn this p1 S d) (JC_V (n := 1) G hRm cl_X0 q1001 q1003 qs22 q137 q1004 ⟨rfl, dd_X0_isInjection⟩ ⟨by decide, by decide⟩ dX0_injection_2 hz1 rfl (Nat.le_of_ble_eq_true rfl)) rfl (fun r2 hr2 => ?_)
  refine JR_if_ne (pc := 5) (tgt := 11) G dX0_injection_5 (by decide) (fun c12 => ?_) (fun c12 => ?_)
  · refine JR_aload_n (pc := 11) (k := 0) (i := 0) (o := some this) G rfl rfl dX0_injection_11 ?_
    refine JR_gR (pc := 12) (k := 0) G cl_X0 in_X0 (by decide) (by decide) rfl (Or.inl rfl) q451 hz1 dX0_injection_12 ?_
    refine J_bd (fun z3 hz3 => ?_)
    refine JR_gRN (pc := 15) (k := 1) G cl_X1 in_X1 (by decide) (by decide) rfl (Or.inl rfl) q220 hz3 dX0_injection_15 ?_
    refine JR_iload_n (pc := 18) (k := 1) (i := 1) G rfl rfl dX0_injection_18 ?_
    refine J_bd (fun z4 hz4 => ?_)
    refine J_stk (st' := [.int p1, va_rf (some z4)]) (by rw [(isK_at hz4).1]) ?_
    refine JPV_R (pc := 19) (as := [.int p1]) (st' := []) (o := some z4) G (Jl_get_fn z4 p1 S d) (JC_V (n := 1) G hRm cl_J2 q435 q436 q437 q141 q438 ⟨rfl, dd_J2_get⟩ ⟨by decide, by decide⟩ dX0_injection_19 (isK_s hz4) rfl (Nat.le_of_ble_eq_true rfl)) rfl (fun r5 hr5 => ?_)
    refine J_bd (fun z6 hz6 => ?_)
    refine JR_castE (pc := 22) G cl_X14 q1005 hz6 dX0_injection_22 ?_
    refine JR_astore_n (pc := 25) (k := 3) (i := 3) (lv' := [(3, va_rf (some z6)), (0, va_rf (some this)), (1, .int p1), (2, .int p2)]) G rfl (by decide) rfl dX0_injection_25 ?_
    refine JR_iload_n (pc := 26) (k := 2) (i := 2) G rfl rfl dX0_injection_26 ?_
    refine J_if (fun c7 => ?_) (fun c7 => ?_)
    · refine JR_tsIn (pc := 27) (k := 0) (tgt := 60) G dX0_injection_27 c7 (by decide) (by decide) rfl (by decide) ?_
      refine JR_aload_n (pc := 60) (k := 3) (i := 3) (o := some z6) G rfl rfl dX0_injection_60 ?_
      refine JR_gIN (pc := 61) (k := 0) G cl_X14 in_X14 (by decide) (by decide) rfl (Or.inl rfl) q955 (isK_s hz6) dX0_injection_61 ?_
      exact JR_iret (pc := 64) G hR dX0_injection_64 rfl rfl
    · refine J_if (fun c8 => ?_) (fun c8 => ?_)
      · refine JR_tsIn (pc := 27) (k := 1) (tgt := 65) G dX0_injection_27 c8 (by decide) (by decide) rfl (by decide) ?_
        refine JR_aload_n (pc := 65) (k := 3) (i := 3) (o := some z6) G rfl rfl dX0_injection_65 ?_
        refine JR_gIN (pc := 66) (k := 1) G cl_X14 in_X14 (by decide) (by decide) rfl (Or.inl rfl) q957 (isK_s hz6) dX0_injection_66 ?_
        exact JR_iret (pc := 69) G hR dX0_injection_69 rfl rfl
      · refine J_if (fun c9 => ?_) (fun c9 => ?_)
        · refine JR_tsIn (pc := 27) (k := 2) (tgt := 70) G dX0_injection_27 c9 (by decide) (by decide) rfl (by decide) ?_
          refine JR_aload_n (pc := 70) (k := 3) (i := 3) (o := some z6) G rfl rfl dX0_injection_70 ?_
          refine JR_gIN (pc := 71) (k := 2) G cl_X14 in_X14 (by decide) (by decide) rfl (Or.inl rfl) q959 (isK_s hz6) dX0_injection_71 ?_
          exact JR_iret (pc := 74) G hR dX0_injection_74 rfl rfl
        · refine J_if (fun c10 => ?_) (fun c10 => ?_)
          · refine JR_tsIn (pc := 27) (k := 3) (tgt := 75) G dX0_injection_27 c10 (by decide) (by decide) rfl (by decide) ?_
            refine JR_aload_n (pc := 75) (k := 3) (i := 3) (o := some z6) G rfl rfl dX0_injection_75 ?_
            refine JR_gIN (pc := 76) (k := 3) G cl_X14 in_X14 (by decide) (by decide) rfl (Or.inl rfl) q961 (isK_s hz6) dX0_injection_76 ?_
            exact JR_iret (pc := 79) G hR dX0_injection_79 rfl rfl
          · refine J_if (fun c11 => ?_) (fun c11 => ?_)
            · refine JR_tsIn (pc := 27) (k := 4) (tgt := 80) G dX0_injection_27 c11 (by decide) (by decide) rfl (by decide) ?_
              refine JR_aload_n (pc := 80) (k := 3) (i := 3) (o := some z6) G rfl rfl dX0_injection_80 ?_
              refine JR_gIN (pc := 81) (k := 4) G cl_X14 in_X14 (by decide) (by decide) rfl (Or.inl rfl) q963 (isK_s hz6) dX0_injection_81 ?_
              exact JR_iret (pc := 84) G hR dX0_injection_84 rfl rfl
            · refine JR_tsOut (pc := 27) (tgt := 85) (n := 4) G dX0_injection_27 rfl (by decide) (fun k9 hk9 => by rcases (show k9 = 0 ∨ k9 = 1 ∨ k9 = 2 ∨ k9 = 3 ∨ k9 = 4 by omega) with rfl | rfl | rfl | rfl | rfl <;> assumption) (by decide) ?_
              refine JR_bipush (pc := 85) (v := (-2)) G (by decide) dX0_injection_85 ?_
              exact JR_iret (pc := 87) G hR dX0_injection_87 rfl rfl
  · refine JR_bipush (pc := 8) (v := (-2)) G (by decide) dX0_injection_8 ?_
    exact JR_iret (pc := 10) G hR dX0_injection_10 rfl rfl

def Ta_cost_b66 (this : Nat) (p1 : Int32) (p2 : Int32) (rec : Nat → Int32 → Int32 → Sp → Dt → Option Int32) (S : Sp) (d : Dt) (k7 : Int32 → Int32 → Option (Int32)) (v4 : Int32) (v5 : Int32) : Option Int32 :=
  k7 v5 (v4 + 1)
def Ta_cost_h7 (this : Nat) (p1 : Int32) (p2 : Int32) (rec : Nat → Int32 → Int32 → Sp → Dt → Option Int32) (S : Sp) (d : Dt) : Nat → Int32 → Int32 → Option Int32
  | 0, _, _ => none
  | f + 1, v3, v4 =>
    (isK S 12 (some this)).bind fun z2 =>
    if (d.1 z2 8) ≤ v4 then
      (aix S 50 (S.2.1 z2 6) p1).bind fun q3 =>
      some ((d.1 q3.1 q3.2) + (imax 0 v3))
    else
      (aix S 50 (S.2.1 z2 7) p1).bind fun q4 =>
      (Ws_isOn (d.1 q4.1 q4.2) v4 S d).bind fun r5 =>
      if ¬ r5 = 0 then
        (rec this v4 p2 S d).bind fun r6 =>
        if v3 = ((-1)) then
          Ta_cost_b66 this p1 p2 rec S d (Ta_cost_h7 this p1 p2 rec S d f) v4 r6
        else
          if p2 = 0 then
            if v3 ≤ r6 then
              Ta_cost_h7 this p1 p2 rec S d f v3 (v4 + 1)
            else
              Ta_cost_b66 this p1 p2 rec S d (Ta_cost_h7 this p1 p2 rec S d f) v4 r6
          else
            if r6 ≤ v3 then
              Ta_cost_h7 this p1 p2 rec S d f v3 (v4 + 1)
            else
              Ta_cost_b66 this p1 p2 rec S d (Ta_cost_h7 this p1 p2 rec S d f) v4 r6
      else
        Ta_cost_h7 this p1 p2 rec S d f v3 (v4 + 1)
def Ta_cost : Nat → Nat → Int32 → Int32 → Sp → Dt → Option Int32
  | 0, _, _, _, _, _ => none
  | k + 1, this, p1, p2, S, d =>
    (some (p1 + 1)).bind fun x1 =>
    Ta_cost_h7 this p1 p2 (Ta_cost k) S d FU ((-1)) x1
set_option maxHeartbeats 4000000 in
theorem Ta_cost_fn : ∀ (k : Nat) (this : Nat) (p1 : Int32) (p2 : Int32) (S : Sp) (d : Dt), Fn yX13_cost (ws_ yX13_cost cX13_cost 6 (some .int)) (k + 1) (25 * k + 23) [va_rf (some this), .int p1, .int p2] S d rvI Λp (Ta_cost k this p1 p2 S d) := by
  intro k
  induction k with
  | zero => intros; exact Fn_none
  | succ k ihk =>
    intro this p1 p2 S d
    refine Fn.ofJ (own := RX13) (lv := [(0, va_rf (some this)), (1, .int p1), (2, .int p2)]) (by decide +kernel) rfl (by simp [cat_i, cat_l, cat_f, cat_d, rf_cat]) (by simp [lv_args, cat_i, cat_l, cat_f, cat_d, rf_cat]) ?_
    intro X F G hRm hR hI
    have hTa_cost_b66 : ∀ (k7 : Int32 → Int32 → Option (Int32)) (hk7 : ∀ (v3 : Int32) (v4 : Int32), J X F Λp S d 7 [(0, va_rf (some this)), (1, .int p1), (2, .int p2), (3, .int v3), (4, .int v4)] [] (k7 v3 v4)) (v4 : Int32) (v5 : Int32), J X F Λp S d 66 [(0, va_rf (some this)), (1, .int p1), (2, .int p2), (4, .int v4), (5, .int v5)] [] (Ta_cost_b66 this p1 p2 (Ta_cost k) S d k7 v4 v5) := by
      intro k7 hk7 v4 v5
      unfold Ta_cost_b66
      refine JR_iload (pc := 66) (i := 5) G rfl dX13_cost_66 ?_
      refine JR_istore_n (pc := 68) (k := 3) (i := 3) (lv' := [(3, .int v5), (0, va_rf (some this)), (1, .int p1), (2, .int p2), (4, .int v4), (5, .int v5)]) G rfl (by decide) rfl dX13_cost_68 ?_
      refine JR_iinc (pc := 69) (i := 4) (v := v4 + 1) (lv' := [(4, .int (v4 + 1)), (3, .int v5), (0, va_rf (some this)), (1, .int p1), (2, .int p2), (5, .int v5)]) G rfl (congrArg (fun z => v4 + z) (by decide)) (by decide) rfl dX13_cost_69 ?_
      refine JR_goto (pc := 72) (tgt := 7) G dX13_cost_72 (by decide) ?_
      refine J_sub [2, 3, 4, 1, 0] rfl ?_
      exact hk7 v5 (v4 + 1)
    have hTa_cost_h7 : ∀ (f : Nat) (v3 : Int32) (v4 : Int32), J X F Λp S d 7 [(0, va_rf (some this)), (1, .int p1), (2, .int p2), (3, .int v3), (4, .int v4)] [] (Ta_cost_h7 this p1 p2 (Ta_cost k) S d f v3 v4) := by
      intro  f
      induction f with
      | zero => intro v3 v4; exact J_no
      | succ f ih =>
        intro v3 v4
        unfold Ta_cost_h7
        refine JR_iload (pc := 7) (i := 4) G rfl dX13_cost_7 ?_
        refine JR_aload_n (pc := 9) (k := 0) (i := 0) (o := some this) G rfl rfl dX13_cost_9 ?_
        refine J_bd (fun z2 hz2 => ?_)
        refine JR_gI (pc := 10) (k := 8) G cl_X13 in_X13 (by decide) (by decide) rfl (Or.inl rfl) q835 hz2 dX13_cost_10 ?_
        refine JR_icmp_ge (pc := 13) (tgt := 75) G dX13_cost_13 (by decide) (fun c12 => ?_) (fun c12 => ?_)
        · refine JR_aload_n (pc := 75) (k := 0) (i := 0) (o := some this) G rfl rfl dX13_cost_75 ?_
          refine JR_gR (pc := 76) (k := 6) G cl_X13 in_X13 (by decide) (by decide) rfl (Or.inl rfl) q831 hz2 dX13_cost_76 ?_
          refine JR_iload_n (pc := 79) (k := 1) (i := 1) G rfl rfl dX13_cost_79 ?_
          refine J_bd (fun q3 hq3 => ?_)
          refine JR_iaload (pc := 80) G hq3 dX13_cost_80 ?_
          refine JR_iconst (pc := 81) G ci_0 dX13_cost_81 ?_
          refine JR_iload_n (pc := 82) (k := 3) (i := 3) G rfl rfl dX13_cost_82 ?_
          refine JR_max (pc := 83) G hRm q1015 q879 q154 q880 ⟨by omega, by omega⟩ (Nat.le_of_ble_eq_true rfl) dX13_cost_83 ?_
          refine JR_iadd (pc := 86) G dX13_cost_86 ?_
          exact JR_iret (pc := 87) G hR dX13_cost_87 rfl rfl
        · refine JR_aload_n (pc := 16) (k := 0) (i := 0) (o := some this) G rfl rfl dX13_cost_16 ?_
          refine JR_gR (pc := 17) (k := 7) G cl_X13 in_X13 (by decide) (by decide) rfl (Or.inl rfl) q833 hz2 dX13_cost_17 ?_
          refine JR_iload_n (pc := 20) (k := 1) (i := 1) G rfl rfl dX13_cost_20 ?_
          refine J_bd (fun q4 hq4 => ?_)
          refine JR_iaload (pc := 21) G hq4 dX13_cost_21 ?_
          refine JR_iload (pc := 22) (i := 4) G rfl dX13_cost_22 ?_
          refine JPS_I (pc := 24) (as := [.int (d.1 q4.1 q4.2), .int v4]) (st' := []) G (Ws_isOn_fn (d.1 q4.1 q4.2) v4 S d) (JC_SN (n := 2) G hRm q938 q932 q137 q933 dd_X0_isOn ⟨by omega, by omega⟩ dX13_cost_24 rfl (Nat.le_of_ble_eq_true rfl)) rfl (fun r5 hr5 => ?_)
          refine JR_if_ne (pc := 27) (tgt := 33) G dX13_cost_27 (by decide) (fun c11 => ?_) (fun c11 => ?_)
          · refine JR_aload_n (pc := 33) (k := 0) (i := 0) (o := some this) G rfl rfl dX13_cost_33 ?_
            refine JR_iload (pc := 34) (i := 4) G rfl dX13_cost_34 ?_
            refine JR_iload_n (pc := 36) (k := 2) (i := 2) G rfl rfl dX13_cost_36 ?_
            refine JPV_I (pc := 37) (as := [.int v4, .int p2]) (st' := []) (o := some this) G (ihk this v4 p2 S d) (JC_V (n := 2) G hRm cl_X13 q1014 q1011 q1012 q162 q1013 ⟨rfl, dd_X13_cost⟩ ⟨by omega, by omega⟩ dX13_cost_37 hz2 rfl (Nat.le_of_ble_eq_true rfl)) rfl (fun r6 hr6 => ?_)
            refine JR_istore (pc := 40) (i := 5) (lv' := [(5, .int r6), (0, va_rf (some this)), (1, .int p1), (2, .int p2), (3, .int v3), (4, .int v4)]) G (by decide) rfl dX13_cost_40 ?_
            refine JR_iload_n (pc := 42) (k := 3) (i := 3) G rfl rfl dX13_cost_42 ?_
            refine JR_iconst (pc := 43) G ci_m1 dX13_cost_43 ?_
            refine JR_icmp_eq (pc := 44) (tgt := 66) G dX13_cost_44 (by decide) (fun c10 => ?_) (fun c10 => ?_)
            · refine J_sub [1, 2, 3, 5, 0] rfl ?_
              exact hTa_cost_b66 (Ta_cost_h7 this p1 p2 (Ta_cost k) S d f) ih v4 r6
            · refine JR_iload_n (pc := 47) (k := 2) (i := 2) G rfl rfl dX13_cost_47 ?_
              refine JR_if_eq (pc := 48) (tgt := 60) G dX13_cost_48 (by decide) (fun c9 => ?_) (fun c9 => ?_)
              · refine JR_iload (pc := 60) (i := 5) G rfl dX13_cost_60 ?_
                refine JR_iload_n (pc := 62) (k := 3) (i := 3) G rfl rfl dX13_cost_62 ?_
                refine JR_icmp_ge (pc := 63) (tgt := 69) G dX13_cost_63 (by decide) (fun c7 => ?_) (fun c7 => ?_)
                · refine JR_iinc (pc := 69) (i := 4) (v := v4 + 1) (lv' := [(4, .int (v4 + 1)), (5, .int r6), (0, va_rf (some this)), (1, .int p1), (2, .int p2), (3, .int v3)]) G rfl (congrArg (fun z => v4 + z) (by decide)) (by decide) rfl dX13_cost_69 ?_
                  refine JR_goto (pc := 72) (tgt := 7) G dX13_cost_72 (by decide) ?_
                  refine J_sub [2, 3, 4, 5, 0] rfl ?_
                  exact ih v3 (v4 + 1)
                · refine J_sub [1, 2, 3, 5, 0] rfl ?_
                  exact hTa_cost_b66 (Ta_cost_h7 this p1 p2 (Ta_cost k) S d f) ih v4 r6
              · refine JR_iload (pc := 51) (i := 5) G rfl dX13_cost_51 ?_
                refine JR_iload_n (pc := 53) (k := 3) (i := 3) G rfl rfl dX13_cost_53 ?_
                refine JR_icmp_le (pc := 54) (tgt := 69) G dX13_cost_54 (by decide) (fun c8 => ?_) (fun c8 => ?_)
                · refine JR_iinc (pc := 69) (i := 4) (v := v4 + 1) (lv' := [(4, .int (v4 + 1)), (5, .int r6), (0, va_rf (some this)), (1, .int p1), (2, .int p2), (3, .int v3)]) G rfl (congrArg (fun z => v4 + z) (by decide)) (by decide) rfl dX13_cost_69 ?_
                  refine JR_goto (pc := 72) (tgt := 7) G dX13_cost_72 (by decide) ?_
                  refine J_sub [2, 3, 4, 5, 0] rfl ?_
                  exact ih v3 (v4 + 1)
                · refine JR_goto (pc := 57) (tgt := 66) G dX13_cost_57 (by decide) ?_
                  refine J_sub [1, 2, 3, 5, 0] rfl ?_
                  exact hTa_cost_b66 (Ta_cost_h7 this p1 p2 (Ta_cost k) S d f) ih v4 r6
          · refine JR_goto (pc := 30) (tgt := 69) G dX13_cost_30 (by decide) ?_
            refine JR_iinc (pc := 69) (i := 4) (v := v4 + 1) (lv' := [(4, .int (v4 + 1)), (0, va_rf (some this)), (1, .int p1), (2, .int p2), (3, .int v3)]) G rfl (congrArg (fun z => v4 + z) (by decide)) (by decide) rfl dX13_cost_69 ?_
            refine JR_goto (pc := 72) (tgt := 7) G dX13_cost_72 (by decide) ?_
            refine J_sub [1, 2, 3, 4, 0] rfl ?_
            exact ih v3 (v4 + 1)
    unfold Ta_cost
    refine JR_iconst (pc := 0) G ci_m1 dX13_cost_0 ?_
    refine JR_istore_n (pc := 1) (k := 3) (i := 3) (lv' := [(3, .int ((-1))), (0, va_rf (some this)), (1, .int p1), (2, .int p2)]) G rfl (by decide) rfl dX13_cost_1 ?_
    refine JR_iload_n (pc := 2) (k := 1) (i := 1) G rfl rfl dX13_cost_2 ?_
    refine JR_iconst (pc := 3) G ci_1 dX13_cost_3 ?_
    refine JR_iadd (pc := 4) G dX13_cost_4 ?_
    refine J_nm (fun x1 hx1 => ?_)
    refine JR_istore (pc := 5) (i := 4) (lv' := [(4, .int x1), (3, .int ((-1))), (0, va_rf (some this)), (1, .int p1), (2, .int p2)]) G (by decide) rfl dX13_cost_5 ?_
    refine J_sub [2, 3, 4, 1, 0] rfl ?_
    exact hTa_cost_h7 FU ((-1)) x1

def Ws_cost_b34 (this : Nat) (p1 : Int32) (p2 : Int32) (S : Sp) (d : Dt) (s0 : Int32) (s1 : Int32) (s2 : Option Nat) : Option Int32 :=
  (isK S 12 s2).bind fun z8 =>
  (Ta_cost 8 z8 s1 s0 S d).bind fun r9 =>
  some r9
def Ws_cost (this : Nat) (p1 : Int32) (p2 : Int32) (S : Sp) (d : Dt) : Option Int32 :=
  (isK S 0 (some this)).bind fun z1 =>
  (Ws_isTask this p1 S d).bind fun r2 =>
  if r2 = 0 then
    some ((-2))
  else
    (Ws_in (Int32.toInt64 p2) 0 1 S d).bind fun r3 =>
    if r3 = 0 then
      some ((-2))
    else
      (Ws_taskOf this p1 S d).bind fun r4 =>
      Ws_cost_b34 this p1 p2 S d (if ¬ p2 = 1 then 0 else 1) 0 r4
set_option maxHeartbeats 4000000 in
theorem Ws_cost_fn (this : Nat) (p1 : Int32) (p2 : Int32) (S : Sp) (d : Dt) : Fn yX0_cost (ws_ yX0_cost cX0_cost 3 (some .int)) 10 248 [va_rf (some this), .int p1, .int p2] S d rvI Λp (Ws_cost this p1 p2 S d) := by
  refine Fn.ofJ (own := RX0) (lv := [(0, va_rf (some this)), (1, .int p1), (2, .int p2)]) (by decide +kernel) rfl (by simp [cat_i, cat_l, cat_f, cat_d, rf_cat]) (by simp [lv_args, cat_i, cat_l, cat_f, cat_d, rf_cat]) ?_
  intro X F G hRm hR hI
  have hWs_cost_b34 : ∀ (s0 : Int32) (s1 : Int32) (s2 : Option Nat), J X F Λp S d 34 [(0, va_rf (some this)), (1, .int p1), (2, .int p2)] [.int s0, .int s1, va_rf s2] (Ws_cost_b34 this p1 p2 S d s0 s1 s2) := by
    intro s0 s1 s2
    unfold Ws_cost_b34
    refine J_bd (fun z8 hz8 => ?_)
    refine J_stk (st' := [.int s0, .int s1, va_rf (some z8)]) (by rw [(isK_at hz8).1]) ?_
    refine JPV_I (pc := 34) (as := [.int s1, .int s0]) (st' := []) (o := some z8) G (Ta_cost_fn 8 z8 s1 s0 S d) (JC_V (n := 2) G hRm cl_X13 q1010 q1011 q1012 q162 q1013 ⟨rfl, dd_X13_cost⟩ ⟨by decide, by decide⟩ dX0_cost_34 (isK_s hz8) rfl (Nat.le_of_ble_eq_true rfl)) rfl (fun r9 hr9 => ?_)
    refine JR_goto (pc := 37) (tgt := 42) G dX0_cost_37 (by decide) ?_
    exact JR_iret (pc := 42) G hR dX0_cost_42 rfl rfl
  unfold Ws_cost
  refine JR_aload_n (pc := 0) (k := 0) (i := 0) (o := some this) G rfl rfl dX0_cost_0 ?_
  refine JR_iload_n (pc := 1) (k := 1) (i := 1) G rfl rfl dX0_cost_1 ?_
  refine J_bd (fun z1 hz1 => ?_)
  refine JPV_I (pc := 2) (as := [.int p1]) (st' := []) (o := some this) G (Ws_isTask_fn this p1 S d) (JC_V (n := 1) G hRm cl_X0 q985 q987 qs21 q137 q988 ⟨rfl, dd_X0_isTask⟩ ⟨by decide, by decide⟩ dX0_cost_2 hz1 rfl (Nat.le_of_ble_eq_true rfl)) rfl (fun r2 hr2 => ?_)
  refine JR_if_eq (pc := 5) (tgt := 40) G dX0_cost_5 (by decide) (fun c7 => ?_) (fun c7 => ?_)
  · refine JR_bipush (pc := 40) (v := (-2)) G (by decide) dX0_cost_40 ?_
    exact JR_iret (pc := 42) G hR dX0_cost_42 rfl rfl
  · refine JR_iload_n (pc := 8) (k := 2) (i := 2) G rfl rfl dX0_cost_8 ?_
    refine JR_i2l (pc := 9) G dX0_cost_9 ?_
    refine JR_lconst (pc := 10) G cl_0 dX0_cost_10 ?_
    refine JR_lconst (pc := 11) G cl_1 dX0_cost_11 ?_
    refine JPS_I (pc := 12) (as := [.long (Int32.toInt64 p2), .long 0, .long 1]) (st' := []) G (Ws_in_fn (Int32.toInt64 p2) 0 1 S d) (JC_S (n := 3) G hRm q575 q576 q137 q577 dd_X0_in ⟨by decide, by decide⟩ dX0_cost_12 rfl (Nat.le_of_ble_eq_true rfl)) rfl (fun r3 hr3 => ?_)
    refine JR_if_eq (pc := 15) (tgt := 40) G dX0_cost_15 (by decide) (fun c6 => ?_) (fun c6 => ?_)
    · refine JR_bipush (pc := 40) (v := (-2)) G (by decide) dX0_cost_40 ?_
      exact JR_iret (pc := 42) G hR dX0_cost_42 rfl rfl
    · refine JR_aload_n (pc := 18) (k := 0) (i := 0) (o := some this) G rfl rfl dX0_cost_18 ?_
      refine JR_iload_n (pc := 19) (k := 1) (i := 1) G rfl rfl dX0_cost_19 ?_
      refine JPV_R (pc := 20) (as := [.int p1]) (st' := []) (o := some this) G (Ws_taskOf_fn this p1 S d) (JC_V (n := 1) G hRm cl_X0 q431 q433 qs2 q137 q434 ⟨rfl, dd_X0_taskOf⟩ ⟨by decide, by decide⟩ dX0_cost_20 hz1 rfl (Nat.le_of_ble_eq_true rfl)) rfl (fun r4 hr4 => ?_)
      refine JR_iconst (pc := 23) G ci_0 dX0_cost_23 ?_
      refine JR_iload_n (pc := 24) (k := 2) (i := 2) G rfl rfl dX0_cost_24 ?_
      refine JR_iconst (pc := 25) G ci_1 dX0_cost_25 ?_
      refine J_eq (r' := if ¬ p2 = 1 then Ws_cost_b34 this p1 p2 S d 0 0 r4 else Ws_cost_b34 this p1 p2 S d 1 0 r4) (by split <;> rfl) ?_
      refine JR_icmp_ne (pc := 26) (tgt := 33) G dX0_cost_26 (by decide) (fun c5 => ?_) (fun c5 => ?_)
      · refine JR_iconst (pc := 33) G ci_0 dX0_cost_33 ?_
        exact hWs_cost_b34 0 0 r4
      · refine JR_iconst (pc := 29) G ci_1 dX0_cost_29 ?_
        refine JR_goto (pc := 30) (tgt := 34) G dX0_cost_30 (by decide) ?_
        exact hWs_cost_b34 1 0 r4

def Ta_ways_b48 (this : Nat) (p1 : Int32) (rec : Nat → Int32 → Sp → Dt → Option Int32) (S : Sp) (d : Dt) (k17 : Int32 → Int32 → Option (Int32)) (v3 : Int32) (s0 : Int32) (s1 : Int32) : Option Int32 :=
  (some (s1 + s0)).bind fun x11 =>
  k17 x11 (v3 + 1)
def Ta_ways_h17 (this : Nat) (p1 : Int32) (rec : Nat → Int32 → Sp → Dt → Option Int32) (S : Sp) (d : Dt) : Nat → Int32 → Int32 → Option Int32
  | 0, _, _ => none
  | f + 1, v2, v3 =>
    (isK S 12 (some this)).bind fun z5 =>
    if (d.1 z5 8) ≤ v3 then
      some v2
    else
      (aix S 50 (S.2.1 z5 7) p1).bind fun q6 =>
      (Ws_isOn (d.1 q6.1 q6.2) v3 S d).bind fun r7 =>
      if r7 = 0 then
        Ta_ways_b48 this p1 rec S d (Ta_ways_h17 this p1 rec S d f) v3 0 v2
      else
        (rec this v3 S d).bind fun r8 =>
        Ta_ways_b48 this p1 rec S d (Ta_ways_h17 this p1 rec S d f) v3 r8 v2
def Ta_ways : Nat → Nat → Int32 → Sp → Dt → Option Int32
  | 0, _, _, _, _ => none
  | k + 1, this, p1, S, d =>
    (isK S 12 (some this)).bind fun z1 =>
    (aix S 50 (S.2.1 z1 7) p1).bind fun q2 =>
    if ¬ (d.1 q2.1 q2.2) = 0 then
      (some (p1 + 1)).bind fun x3 =>
      Ta_ways_h17 this p1 (Ta_ways k) S d FU 0 x3
    else
      some 1
set_option maxHeartbeats 4000000 in
theorem Ta_ways_fn : ∀ (k : Nat) (this : Nat) (p1 : Int32) (S : Sp) (d : Dt), Fn yX13_ways (ws_ yX13_ways cX13_ways 4 (some .int)) (k + 1) (23 * k + 21) [va_rf (some this), .int p1] S d rvI Λp (Ta_ways k this p1 S d) := by
  intro k
  induction k with
  | zero => intros; exact Fn_none
  | succ k ihk =>
    intro this p1 S d
    refine Fn.ofJ (own := RX13) (lv := [(0, va_rf (some this)), (1, .int p1)]) (by decide +kernel) rfl (by simp [cat_i, cat_l, cat_f, cat_d, rf_cat]) (by simp [lv_args, cat_i, cat_l, cat_f, cat_d, rf_cat]) ?_
    intro X F G hRm hR hI
    have hTa_ways_b48 : ∀ (k17 : Int32 → Int32 → Option (Int32)) (hk17 : ∀ (v2 : Int32) (v3 : Int32), J X F Λp S d 17 [(0, va_rf (some this)), (1, .int p1), (2, .int v2), (3, .int v3)] [] (k17 v2 v3)) (v3 : Int32) (s0 : Int32) (s1 : Int32), J X F Λp S d 48 [(0, va_rf (some this)), (1, .int p1), (3, .int v3)] [.int s0, .int s1] (Ta_ways_b48 this p1 (Ta_ways k) S d k17 v3 s0 s1) := by
      intro k17 hk17 v3 s0 s1
      unfold Ta_ways_b48
      refine JR_iadd (pc := 48) G dX13_ways_48 ?_
      refine J_nm (fun x11 hx11 => ?_)
      refine JR_istore_n (pc := 49) (k := 2) (i := 2) (lv' := [(2, .int x11), (0, va_rf (some this)), (1, .int p1), (3, .int v3)]) G rfl (by decide) rfl dX13_ways_49 ?_
      refine JR_iinc (pc := 50) (i := 3) (v := v3 + 1) (lv' := [(3, .int (v3 + 1)), (2, .int x11), (0, va_rf (some this)), (1, .int p1)]) G rfl (congrArg (fun z => v3 + z) (by decide)) (by decide) rfl dX13_ways_50 ?_
      refine JR_goto (pc := 53) (tgt := 17) G dX13_ways_53 (by decide) ?_
      refine J_sub [2, 3, 1, 0] rfl ?_
      exact hk17 x11 (v3 + 1)
    have hTa_ways_h17 : ∀ (f : Nat) (v2 : Int32) (v3 : Int32), J X F Λp S d 17 [(0, va_rf (some this)), (1, .int p1), (2, .int v2), (3, .int v3)] [] (Ta_ways_h17 this p1 (Ta_ways k) S d f v2 v3) := by
      intro  f
      induction f with
      | zero => intro v2 v3; exact J_no
      | succ f ih =>
        intro v2 v3
        unfold Ta_ways_h17
        refine JR_iload_n (pc := 17) (k := 3) (i := 3) G rfl rfl dX13_ways_17 ?_
        refine JR_aload_n (pc := 18) (k := 0) (i := 0) (o := some this) G rfl rfl dX13_ways_18 ?_
        refine J_bd (fun z5 hz5 => ?_)
        refine JR_gI (pc := 19) (k := 8) G cl_X13 in_X13 (by decide) (by decide) rfl (Or.inl rfl) q835 hz5 dX13_ways_19 ?_
        refine JR_icmp_ge (pc := 22) (tgt := 56) G dX13_ways_22 (by decide) (fun c10 => ?_) (fun c10 => ?_)
        · refine JR_iload_n (pc := 56) (k := 2) (i := 2) G rfl rfl dX13_ways_56 ?_
          exact JR_iret (pc := 57) G hR dX13_ways_57 rfl rfl
        · refine JR_iload_n (pc := 25) (k := 2) (i := 2) G rfl rfl dX13_ways_25 ?_
          refine JR_aload_n (pc := 26) (k := 0) (i := 0) (o := some this) G rfl rfl dX13_ways_26 ?_
          refine JR_gR (pc := 27) (k := 7) G cl_X13 in_X13 (by decide) (by decide) rfl (Or.inl rfl) q833 hz5 dX13_ways_27 ?_
          refine JR_iload_n (pc := 30) (k := 1) (i := 1) G rfl rfl dX13_ways_30 ?_
          refine J_bd (fun q6 hq6 => ?_)
          refine JR_iaload (pc := 31) G hq6 dX13_ways_31 ?_
          refine JR_iload_n (pc := 32) (k := 3) (i := 3) G rfl rfl dX13_ways_32 ?_
          refine JPS_I (pc := 33) (as := [.int (d.1 q6.1 q6.2), .int v3]) (st' := [.int v2]) G (Ws_isOn_fn (d.1 q6.1 q6.2) v3 S d) (JC_SN (n := 2) G hRm q938 q932 q137 q933 dd_X0_isOn ⟨by omega, by omega⟩ dX13_ways_33 rfl (Nat.le_of_ble_eq_true rfl)) rfl (fun r7 hr7 => ?_)
          refine JR_if_eq (pc := 36) (tgt := 47) G dX13_ways_36 (by decide) (fun c9 => ?_) (fun c9 => ?_)
          · refine JR_iconst (pc := 47) G ci_0 dX13_ways_47 ?_
            refine J_sub [0, 1, 3] rfl ?_
            exact hTa_ways_b48 (Ta_ways_h17 this p1 (Ta_ways k) S d f) ih v3 0 v2
          · refine JR_aload_n (pc := 39) (k := 0) (i := 0) (o := some this) G rfl rfl dX13_ways_39 ?_
            refine JR_iload_n (pc := 40) (k := 3) (i := 3) G rfl rfl dX13_ways_40 ?_
            refine JPV_I (pc := 41) (as := [.int v3]) (st' := [.int v2]) (o := some this) G (ihk this v3 S d) (JC_V (n := 1) G hRm cl_X13 q1024 q1021 q1022 q162 q1023 ⟨rfl, dd_X13_ways⟩ ⟨by omega, by omega⟩ dX13_ways_41 hz5 rfl (Nat.le_of_ble_eq_true rfl)) rfl (fun r8 hr8 => ?_)
            refine JR_goto (pc := 44) (tgt := 48) G dX13_ways_44 (by decide) ?_
            refine J_sub [0, 1, 3] rfl ?_
            exact hTa_ways_b48 (Ta_ways_h17 this p1 (Ta_ways k) S d f) ih v3 r8 v2
    unfold Ta_ways
    refine JR_aload_n (pc := 0) (k := 0) (i := 0) (o := some this) G rfl rfl dX13_ways_0 ?_
    refine J_bd (fun z1 hz1 => ?_)
    refine JR_gR (pc := 1) (k := 7) G cl_X13 in_X13 (by decide) (by decide) rfl (Or.inl rfl) q833 hz1 dX13_ways_1 ?_
    refine JR_iload_n (pc := 4) (k := 1) (i := 1) G rfl rfl dX13_ways_4 ?_
    refine J_bd (fun q2 hq2 => ?_)
    refine JR_iaload (pc := 5) G hq2 dX13_ways_5 ?_
    refine JR_if_ne (pc := 6) (tgt := 11) G dX13_ways_6 (by decide) (fun c4 => ?_) (fun c4 => ?_)
    · refine JR_iconst (pc := 11) G ci_0 dX13_ways_11 ?_
      refine JR_istore_n (pc := 12) (k := 2) (i := 2) (lv' := [(2, .int 0), (0, va_rf (some this)), (1, .int p1)]) G rfl (by decide) rfl dX13_ways_12 ?_
      refine JR_iload_n (pc := 13) (k := 1) (i := 1) G rfl rfl dX13_ways_13 ?_
      refine JR_iconst (pc := 14) G ci_1 dX13_ways_14 ?_
      refine JR_iadd (pc := 15) G dX13_ways_15 ?_
      refine J_nm (fun x3 hx3 => ?_)
      refine JR_istore_n (pc := 16) (k := 3) (i := 3) (lv' := [(3, .int x3), (2, .int 0), (0, va_rf (some this)), (1, .int p1)]) G rfl (by decide) rfl dX13_ways_16 ?_
      refine J_sub [2, 3, 1, 0] rfl ?_
      exact hTa_ways_h17 FU 0 x3
    · refine JR_iconst (pc := 9) G ci_1 dX13_ways_9 ?_
      exact JR_iret (pc := 10) G hR dX13_ways_10 rfl rfl

def Ws_ways (this : Nat) (p1 : Int32) (S : Sp) (d : Dt) : Option Int32 :=
  (isK S 0 (some this)).bind fun z1 =>
  (Ws_isTask this p1 S d).bind fun r2 =>
  if r2 = 0 then
    some ((-2))
  else
    (Ws_taskOf this p1 S d).bind fun r3 =>
    (isK S 12 r3).bind fun z4 =>
    (Ta_ways 8 z4 0 S d).bind fun r5 =>
    some r5
set_option maxHeartbeats 4000000 in
theorem Ws_ways_fn (this : Nat) (p1 : Int32) (S : Sp) (d : Dt) : Fn yX0_ways (ws_ yX0_ways cX0_ways 2 (some .int)) 10 228 [va_rf (some this), .int p1] S d rvI Λp (Ws_ways this p1 S d) := by
  refine Fn.ofJ (own := RX0) (lv := [(0, va_rf (some this)), (1, .int p1)]) (by decide +kernel) rfl (by simp [cat_i, cat_l, cat_f, cat_d, rf_cat]) (by simp [lv_args, cat_i, cat_l, cat_f, cat_d, rf_cat]) ?_
  intro X F G hRm hR hI
  unfold Ws_ways
  refine JR_aload_n (pc := 0) (k := 0) (i := 0) (o := some this) G rfl rfl dX0_ways_0 ?_
  refine JR_iload_n (pc := 1) (k := 1) (i := 1) G rfl rfl dX0_ways_1 ?_
  refine J_bd (fun z1 hz1 => ?_)
  refine JPV_I (pc := 2) (as := [.int p1]) (st' := []) (o := some this) G (Ws_isTask_fn this p1 S d) (JC_V (n := 1) G hRm cl_X0 q985 q987 qs21 q137 q988 ⟨rfl, dd_X0_isTask⟩ ⟨by decide, by decide⟩ dX0_ways_2 hz1 rfl (Nat.le_of_ble_eq_true rfl)) rfl (fun r2 hr2 => ?_)
  refine JR_if_eq (pc := 5) (tgt := 20) G dX0_ways_5 (by decide) (fun c6 => ?_) (fun c6 => ?_)
  · refine JR_bipush (pc := 20) (v := (-2)) G (by decide) dX0_ways_20 ?_
    exact JR_iret (pc := 22) G hR dX0_ways_22 rfl rfl
  · refine JR_aload_n (pc := 8) (k := 0) (i := 0) (o := some this) G rfl rfl dX0_ways_8 ?_
    refine JR_iload_n (pc := 9) (k := 1) (i := 1) G rfl rfl dX0_ways_9 ?_
    refine JPV_R (pc := 10) (as := [.int p1]) (st' := []) (o := some this) G (Ws_taskOf_fn this p1 S d) (JC_V (n := 1) G hRm cl_X0 q431 q433 qs2 q137 q434 ⟨rfl, dd_X0_taskOf⟩ ⟨by decide, by decide⟩ dX0_ways_10 hz1 rfl (Nat.le_of_ble_eq_true rfl)) rfl (fun r3 hr3 => ?_)
    refine JR_iconst (pc := 13) G ci_0 dX0_ways_13 ?_
    refine J_bd (fun z4 hz4 => ?_)
    refine J_stk (st' := [.int 0, va_rf (some z4)]) (by rw [(isK_at hz4).1]) ?_
    refine JPV_I (pc := 14) (as := [.int 0]) (st' := []) (o := some z4) G (Ta_ways_fn 8 z4 0 S d) (JC_V (n := 1) G hRm cl_X13 q1020 q1021 q1022 q162 q1023 ⟨rfl, dd_X13_ways⟩ ⟨by decide, by decide⟩ dX0_ways_14 (isK_s hz4) rfl (Nat.le_of_ble_eq_true rfl)) rfl (fun r5 hr5 => ?_)
    refine JR_goto (pc := 17) (tgt := 22) G dX0_ways_17 (by decide) ?_
    exact JR_iret (pc := 22) G hR dX0_ways_22 rfl rfl

def Ws_lesser (p0 : Int32) (S : Sp) (d : Dt) : Option Int32 :=
  some ((1 <<< (p0 &&& 31)) - 1)
set_option maxHeartbeats 4000000 in
theorem Ws_lesser_fn (p0 : Int32) (S : Sp) (d : Dt) : Fn yX0_lesser (ws_ yX0_lesser cX0_lesser 1 (some .int)) 0 0 [.int p0] S d rvI Λp (Ws_lesser p0 S d) := by
  refine Fn.ofJ (own := RX0) (lv := [(0, .int p0)]) (by decide +kernel) rfl (by simp [cat_i, cat_l, cat_f, cat_d, rf_cat]) (by simp [lv_args, cat_i, cat_l, cat_f, cat_d, rf_cat]) ?_
  intro X F G hRm hR hI
  unfold Ws_lesser
  refine JR_iconst (pc := 0) G ci_1 dX0_lesser_0 ?_
  refine JR_iload_n (pc := 1) (k := 0) (i := 0) G rfl rfl dX0_lesser_1 ?_
  refine JR_ishl (pc := 2) G dX0_lesser_2 ?_
  refine JR_iconst (pc := 3) G ci_1 dX0_lesser_3 ?_
  refine JR_isub (pc := 4) G dX0_lesser_4 ?_
  exact JR_iret (pc := 5) G hR dX0_lesser_5 rfl rfl

def Ta_longest (this : Nat) (S : Sp) (d : Dt) : Option Int32 :=
  (isK S 12 (some this)).bind fun z1 =>
  (Ta_cost 8 this 0 1 S d).bind fun r2 =>
  some r2
set_option maxHeartbeats 4000000 in
theorem Ta_longest_fn (this : Nat) (S : Sp) (d : Dt) : Fn yX13_longest (ws_ yX13_longest cX13_longest 1 (some .int)) 10 248 [va_rf (some this)] S d rvI Λp (Ta_longest this S d) := by
  refine Fn.ofJ (own := RX13) (lv := [(0, va_rf (some this))]) (by decide +kernel) rfl (by simp [cat_i, cat_l, cat_f, cat_d, rf_cat]) (by simp [lv_args, cat_i, cat_l, cat_f, cat_d, rf_cat]) ?_
  intro X F G hRm hR hI
  unfold Ta_longest
  refine JR_aload_n (pc := 0) (k := 0) (i := 0) (o := some this) G rfl rfl dX13_longest_0 ?_
  refine JR_iconst (pc := 1) G ci_0 dX13_longest_1 ?_
  refine JR_iconst (pc := 2) G ci_1 dX13_longest_2 ?_
  refine J_bd (fun z1 hz1 => ?_)
  refine JPV_I (pc := 3) (as := [.int 0, .int 1]) (st' := []) (o := some this) G (Ta_cost_fn 8 this 0 1 S d) (JC_V (n := 2) G hRm cl_X13 q1014 q1011 q1012 q162 q1013 ⟨rfl, dd_X13_cost⟩ ⟨by decide, by decide⟩ dX13_longest_3 hz1 rfl (Nat.le_of_ble_eq_true rfl)) rfl (fun r2 hr2 => ?_)
  exact JR_iret (pc := 6) G hR dX13_longest_6 rfl rfl

def Ws_longer_b24 (this : Nat) (p1 : Int32) (S : Sp) (d : Dt) (s0 : Int32) (s1 : Int32) : Option Int32 :=
  some (s1 + s0)
def Ws_longer (this : Nat) (p1 : Int32) (S : Sp) (d : Dt) : Option Int32 :=
  (isK S 0 (some this)).bind fun z1 =>
  (Ws_taskOf this p1 S d).bind fun r2 =>
  (isK S 12 r2).bind fun z3 =>
  (Ta_longest z3 S d).bind fun r4 =>
  Ws_longer_b24 this p1 S d (if ¬ p1 = (d.1 z1 6) then 0 else d.1 z1 7) r4
set_option maxHeartbeats 4000000 in
theorem Ws_longer_fn (this : Nat) (p1 : Int32) (S : Sp) (d : Dt) : Fn yX0_longer (ws_ yX0_longer cX0_longer 2 (some .int)) 11 268 [va_rf (some this), .int p1] S d rvI Λp (Ws_longer this p1 S d) := by
  refine Fn.ofJ (own := RX0) (lv := [(0, va_rf (some this)), (1, .int p1)]) (by decide +kernel) rfl (by simp [cat_i, cat_l, cat_f, cat_d, rf_cat]) (by simp [lv_args, cat_i, cat_l, cat_f, cat_d, rf_cat]) ?_
  intro X F G hRm hR hI
  have hWs_longer_b24 : ∀ (s0 : Int32) (s1 : Int32), J X F Λp S d 24 [(0, va_rf (some this)), (1, .int p1)] [.int s0, .int s1] (Ws_longer_b24 this p1 S d s0 s1) := by
    intro s0 s1
    unfold Ws_longer_b24
    refine JR_iadd (pc := 24) G dX0_longer_24 ?_
    exact JR_iret (pc := 25) G hR dX0_longer_25 rfl rfl
  unfold Ws_longer
  refine JR_aload_n (pc := 0) (k := 0) (i := 0) (o := some this) G rfl rfl dX0_longer_0 ?_
  refine JR_iload_n (pc := 1) (k := 1) (i := 1) G rfl rfl dX0_longer_1 ?_
  refine J_bd (fun z1 hz1 => ?_)
  refine JPV_R (pc := 2) (as := [.int p1]) (st' := []) (o := some this) G (Ws_taskOf_fn this p1 S d) (JC_V (n := 1) G hRm cl_X0 q431 q433 qs2 q137 q434 ⟨rfl, dd_X0_taskOf⟩ ⟨by decide, by decide⟩ dX0_longer_2 hz1 rfl (Nat.le_of_ble_eq_true rfl)) rfl (fun r2 hr2 => ?_)
  refine J_bd (fun z3 hz3 => ?_)
  refine J_stk (st' := [va_rf (some z3)]) (by rw [(isK_at hz3).1]) ?_
  refine JPV_I (pc := 5) (as := []) (st' := []) (o := some z3) G (Ta_longest_fn z3 S d) (JC_V (n := 0) G hRm cl_X13 q1040 q1041 q1042 q162 q1043 ⟨rfl, dd_X13_longest⟩ ⟨by decide, by decide⟩ dX0_longer_5 (isK_s hz3) rfl (Nat.le_of_ble_eq_true rfl)) rfl (fun r4 hr4 => ?_)
  refine JR_iload_n (pc := 8) (k := 1) (i := 1) G rfl rfl dX0_longer_8 ?_
  refine JR_aload_n (pc := 9) (k := 0) (i := 0) (o := some this) G rfl rfl dX0_longer_9 ?_
  refine JR_gI (pc := 10) (k := 6) G cl_X0 in_X0 (by decide) (by decide) rfl (Or.inl rfl) q457 hz1 dX0_longer_10 ?_
  refine J_eq (r' := if ¬ p1 = (d.1 z1 6) then Ws_longer_b24 this p1 S d 0 r4 else Ws_longer_b24 this p1 S d (d.1 z1 7) r4) (by split <;> rfl) ?_
  refine JR_icmp_ne (pc := 13) (tgt := 23) G dX0_longer_13 (by decide) (fun c5 => ?_) (fun c5 => ?_)
  · refine JR_iconst (pc := 23) G ci_0 dX0_longer_23 ?_
    exact hWs_longer_b24 0 r4
  · refine JR_aload_n (pc := 16) (k := 0) (i := 0) (o := some this) G rfl rfl dX0_longer_16 ?_
    refine JR_gI (pc := 17) (k := 7) G cl_X0 in_X0 (by decide) (by decide) rfl (Or.inl rfl) q458 hz1 dX0_longer_17 ?_
    refine JR_goto (pc := 20) (tgt := 24) G dX0_longer_20 (by decide) ?_
    exact hWs_longer_b24 (d.1 z1 7) r4

def Ws_up (p0 : Int32) (p1 : Int32) (S : Sp) (d : Dt) : Option Int32 :=
  (gz p1).bind fun u1 =>
  some (((p0 + p1) - 1) / p1)
set_option maxHeartbeats 4000000 in
theorem Ws_up_fn (p0 : Int32) (p1 : Int32) (S : Sp) (d : Dt) : Fn yX0_up (ws_ yX0_up cX0_up 2 (some .int)) 0 0 [.int p0, .int p1] S d rvI Λp (Ws_up p0 p1 S d) := by
  refine Fn.ofJ (own := RX0) (lv := [(0, .int p0), (1, .int p1)]) (by decide +kernel) rfl (by simp [cat_i, cat_l, cat_f, cat_d, rf_cat]) (by simp [lv_args, cat_i, cat_l, cat_f, cat_d, rf_cat]) ?_
  intro X F G hRm hR hI
  unfold Ws_up
  refine JR_iload_n (pc := 0) (k := 0) (i := 0) G rfl rfl dX0_up_0 ?_
  refine JR_iload_n (pc := 1) (k := 1) (i := 1) G rfl rfl dX0_up_1 ?_
  refine JR_iadd (pc := 2) G dX0_up_2 ?_
  refine JR_iconst (pc := 3) G ci_1 dX0_up_3 ?_
  refine JR_isub (pc := 4) G dX0_up_4 ?_
  refine JR_iload_n (pc := 5) (k := 1) (i := 1) G rfl rfl dX0_up_5 ?_
  refine J_bd (fun u1 hu1 => ?_)
  refine JR_idiv (pc := 6) G (gz_at hu1) dX0_up_6 ?_
  exact JR_iret (pc := 7) G hR dX0_up_7 rfl rfl

def Ws_responseOf_b91 (this : Nat) (p1 : Int32) (p2 : Int32) (S : Sp) (d : Dt) (k19 : Int32 → Int32 → Int32 → Option (Int32)) (k46 : Int32 → Int32 → Int32 → Int32 → Option (Int32)) (v3 : Int32) (v5 : Int32) (v6 : Int32) (s0 : Int32) (s1 : Int32) : Option Int32 :=
  (some (s1 + s0)).bind fun x20 =>
  k46 v3 x20 v5 (v6 + 1)
def Ws_responseOf_h46 (this : Nat) (p1 : Int32) (p2 : Int32) (S : Sp) (d : Dt) (k19 : Int32 → Int32 → Int32 → Option (Int32)) : Nat → Int32 → Int32 → Int32 → Int32 → Option Int32
  | 0, _, _, _, _ => none
  | f + 1, v3, v4, v5, v6 =>
    (isK S 0 (some this)).bind fun z11 =>
    (Ws_tasks this S d).bind fun r12 =>
    if r12 ≤ v6 then
      k19 v3 v4 v5
    else
      (Ws_isOn p2 v6 S d).bind fun r13 =>
      if r13 = 0 then
        Ws_responseOf_b91 this p1 p2 S d k19 (Ws_responseOf_h46 this p1 p2 S d k19 f) v3 v5 v6 0 v4
      else
        (Ws_taskOf this v6 S d).bind fun r14 =>
        (isK S 12 r14).bind fun z15 =>
        (Ws_up v5 (d.1 z15 1) S d).bind fun r16 =>
        (Ws_longer this v6 S d).bind fun r17 =>
        Ws_responseOf_b91 this p1 p2 S d k19 (Ws_responseOf_h46 this p1 p2 S d k19 f) v3 v5 v6 (r16 * r17) v4
def Ws_responseOf_b103 (this : Nat) (p1 : Int32) (p2 : Int32) (S : Sp) (d : Dt) (v3 : Int32) (v4 : Int32) : Option Int32 :=
  if v3 < v4 then
    some ((-1))
  else
    some v4
def Ws_responseOf_h19 (this : Nat) (p1 : Int32) (p2 : Int32) (S : Sp) (d : Dt) : Nat → Int32 → Int32 → Int32 → Option Int32
  | 0, _, _, _ => none
  | f + 1, v3, v4, v5 =>
    if v4 = v5 then
      Ws_responseOf_b103 this p1 p2 S d v3 v4
    else
      if v3 < v4 then
        Ws_responseOf_b103 this p1 p2 S d v3 v4
      else
        (isK S 0 (some this)).bind fun z6 =>
        (Ws_longer this p1 S d).bind fun r7 =>
        Ws_responseOf_h46 this p1 p2 S d (Ws_responseOf_h19 this p1 p2 S d f) FU v3 r7 v4 0
def Ws_responseOf (this : Nat) (p1 : Int32) (p2 : Int32) (S : Sp) (d : Dt) : Option Int32 :=
  (isK S 0 (some this)).bind fun z1 =>
  (Ws_taskOf this p1 S d).bind fun r2 =>
  (isK S 12 r2).bind fun z3 =>
  (some (d.1 z3 1)).bind fun x4 =>
  (Ws_longer this p1 S d).bind fun r5 =>
  Ws_responseOf_h19 this p1 p2 S d FU x4 r5 0
set_option maxHeartbeats 4000000 in
theorem Ws_responseOf_fn (this : Nat) (p1 : Int32) (p2 : Int32) (S : Sp) (d : Dt) : Fn yX0_responseOf (ws_ yX0_responseOf cX0_responseOf 7 (some .int)) 12 289 [va_rf (some this), .int p1, .int p2] S d rvI Λp (Ws_responseOf this p1 p2 S d) := by
  refine Fn.ofJ (own := RX0) (lv := [(0, va_rf (some this)), (1, .int p1), (2, .int p2)]) (by decide +kernel) rfl (by simp [cat_i, cat_l, cat_f, cat_d, rf_cat]) (by simp [lv_args, cat_i, cat_l, cat_f, cat_d, rf_cat]) ?_
  intro X F G hRm hR hI
  have hWs_responseOf_b91 : ∀ (k19 : Int32 → Int32 → Int32 → Option (Int32)) (hk19 : ∀ (v3 : Int32) (v4 : Int32) (v5 : Int32), J X F Λp S d 19 [(0, va_rf (some this)), (1, .int p1), (2, .int p2), (3, .int v3), (4, .int v4), (5, .int v5)] [] (k19 v3 v4 v5)) (k46 : Int32 → Int32 → Int32 → Int32 → Option (Int32)) (hk46 : ∀ (v3 : Int32) (v4 : Int32) (v5 : Int32) (v6 : Int32), J X F Λp S d 46 [(0, va_rf (some this)), (1, .int p1), (2, .int p2), (3, .int v3), (4, .int v4), (5, .int v5), (6, .int v6)] [] (k46 v3 v4 v5 v6)) (v3 : Int32) (v5 : Int32) (v6 : Int32) (s0 : Int32) (s1 : Int32), J X F Λp S d 91 [(0, va_rf (some this)), (1, .int p1), (2, .int p2), (3, .int v3), (5, .int v5), (6, .int v6)] [.int s0, .int s1] (Ws_responseOf_b91 this p1 p2 S d k19 k46 v3 v5 v6 s0 s1) := by
    intro k19 hk19 k46 hk46 v3 v5 v6 s0 s1
    unfold Ws_responseOf_b91
    refine JR_iadd (pc := 91) G dX0_responseOf_91 ?_
    refine J_nm (fun x20 hx20 => ?_)
    refine JR_istore (pc := 92) (i := 4) (lv' := [(4, .int x20), (0, va_rf (some this)), (1, .int p1), (2, .int p2), (3, .int v3), (5, .int v5), (6, .int v6)]) G (by decide) rfl dX0_responseOf_92 ?_
    refine JR_iinc (pc := 94) (i := 6) (v := v6 + 1) (lv' := [(6, .int (v6 + 1)), (4, .int x20), (0, va_rf (some this)), (1, .int p1), (2, .int p2), (3, .int v3), (5, .int v5)]) G rfl (congrArg (fun z => v6 + z) (by decide)) (by decide) rfl dX0_responseOf_94 ?_
    refine JR_goto (pc := 97) (tgt := 46) G dX0_responseOf_97 (by decide) ?_
    refine J_sub [2, 3, 4, 5, 1, 6, 0] rfl ?_
    exact hk46 v3 x20 v5 (v6 + 1)
  have hWs_responseOf_h46 : ∀ (k19 : Int32 → Int32 → Int32 → Option (Int32)) (hk19 : ∀ (v3 : Int32) (v4 : Int32) (v5 : Int32), J X F Λp S d 19 [(0, va_rf (some this)), (1, .int p1), (2, .int p2), (3, .int v3), (4, .int v4), (5, .int v5)] [] (k19 v3 v4 v5)) (f : Nat) (v3 : Int32) (v4 : Int32) (v5 : Int32) (v6 : Int32), J X F Λp S d 46 [(0, va_rf (some this)), (1, .int p1), (2, .int p2), (3, .int v3), (4, .int v4), (5, .int v5), (6, .int v6)] [] (Ws_responseOf_h46 this p1 p2 S d k19 f v3 v4 v5 v6) := by
    intro k19 hk19 f
    induction f with
    | zero => intro v3 v4 v5 v6; exact J_no
    | succ f ih =>
      intro v3 v4 v5 v6
      unfold Ws_responseOf_h46
      refine JR_iload (pc := 46) (i := 6) G rfl dX0_responseOf_46 ?_
      refine JR_aload_n (pc := 48) (k := 0) (i := 0) (o := some this) G rfl rfl dX0_responseOf_48 ?_
      refine J_bd (fun z11 hz11 => ?_)
      refine JPV_I (pc := 49) (as := []) (st' := [.int v6]) (o := some this) G (Ws_tasks_fn this S d) (JC_V (n := 0) G hRm cl_X0 q423 q425 qs1 q137 q426 ⟨rfl, dd_X0_tasks⟩ ⟨by decide, by decide⟩ dX0_responseOf_49 hz11 rfl (Nat.le_of_ble_eq_true rfl)) rfl (fun r12 hr12 => ?_)
      refine JR_icmp_ge (pc := 52) (tgt := 100) G dX0_responseOf_52 (by decide) (fun c19 => ?_) (fun c19 => ?_)
      · refine JR_goto (pc := 100) (tgt := 19) G dX0_responseOf_100 (by decide) ?_
        refine J_sub [0, 1, 2, 3, 4, 5] rfl ?_
        exact hk19 v3 v4 v5
      · refine JR_iload (pc := 55) (i := 4) G rfl dX0_responseOf_55 ?_
        refine JR_iload_n (pc := 57) (k := 2) (i := 2) G rfl rfl dX0_responseOf_57 ?_
        refine JR_iload (pc := 58) (i := 6) G rfl dX0_responseOf_58 ?_
        refine JPS_I (pc := 60) (as := [.int p2, .int v6]) (st' := [.int v4]) G (Ws_isOn_fn p2 v6 S d) (JC_S (n := 2) G hRm q1044 q932 q137 q933 dd_X0_isOn ⟨by decide, by decide⟩ dX0_responseOf_60 rfl (Nat.le_of_ble_eq_true rfl)) rfl (fun r13 hr13 => ?_)
        refine JR_if_eq (pc := 63) (tgt := 90) G dX0_responseOf_63 (by decide) (fun c18 => ?_) (fun c18 => ?_)
        · refine JR_iconst (pc := 90) G ci_0 dX0_responseOf_90 ?_
          refine J_sub [0, 1, 2, 3, 5, 6] rfl ?_
          exact hWs_responseOf_b91 k19 hk19 (Ws_responseOf_h46 this p1 p2 S d k19 f) ih v3 v5 v6 0 v4
        · refine JR_iload (pc := 66) (i := 5) G rfl dX0_responseOf_66 ?_
          refine JR_aload_n (pc := 68) (k := 0) (i := 0) (o := some this) G rfl rfl dX0_responseOf_68 ?_
          refine JR_iload (pc := 69) (i := 6) G rfl dX0_responseOf_69 ?_
          refine JPV_R (pc := 71) (as := [.int v6]) (st' := [.int v5, .int v4]) (o := some this) G (Ws_taskOf_fn this v6 S d) (JC_V (n := 1) G hRm cl_X0 q431 q433 qs2 q137 q434 ⟨rfl, dd_X0_taskOf⟩ ⟨by decide, by decide⟩ dX0_responseOf_71 hz11 rfl (Nat.le_of_ble_eq_true rfl)) rfl (fun r14 hr14 => ?_)
          refine J_bd (fun z15 hz15 => ?_)
          refine JR_gIN (pc := 74) (k := 1) G cl_X13 in_X13 (by decide) (by decide) rfl (Or.inl rfl) q822 hz15 dX0_responseOf_74 ?_
          refine JPS_I (pc := 77) (as := [.int v5, .int (d.1 z15 1)]) (st' := [.int v4]) G (Ws_up_fn v5 (d.1 z15 1) S d) (JC_S (n := 2) G hRm q1045 q1046 q137 q1047 dd_X0_up ⟨by decide, by decide⟩ dX0_responseOf_77 rfl (Nat.le_of_ble_eq_true rfl)) rfl (fun r16 hr16 => ?_)
          refine JR_aload_n (pc := 80) (k := 0) (i := 0) (o := some this) G rfl rfl dX0_responseOf_80 ?_
          refine JR_iload (pc := 81) (i := 6) G rfl dX0_responseOf_81 ?_
          refine JPV_I (pc := 83) (as := [.int v6]) (st' := [.int r16, .int v4]) (o := some this) G (Ws_longer_fn this v6 S d) (JC_V (n := 1) G hRm cl_X0 q1036 q1038 qs24 q137 q1039 ⟨rfl, dd_X0_longer⟩ ⟨by decide, by decide⟩ dX0_responseOf_83 hz11 rfl (Nat.le_of_ble_eq_true rfl)) rfl (fun r17 hr17 => ?_)
          refine JR_imul (pc := 86) G dX0_responseOf_86 ?_
          refine JR_goto (pc := 87) (tgt := 91) G dX0_responseOf_87 (by decide) ?_
          refine J_sub [0, 1, 2, 3, 5, 6] rfl ?_
          exact hWs_responseOf_b91 k19 hk19 (Ws_responseOf_h46 this p1 p2 S d k19 f) ih v3 v5 v6 (r16 * r17) v4
  have hWs_responseOf_b103 : ∀ (v3 : Int32) (v4 : Int32), J X F Λp S d 103 [(0, va_rf (some this)), (1, .int p1), (2, .int p2), (3, .int v3), (4, .int v4)] [] (Ws_responseOf_b103 this p1 p2 S d v3 v4) := by
    intro v3 v4
    unfold Ws_responseOf_b103
    refine JR_iload (pc := 103) (i := 4) G rfl dX0_responseOf_103 ?_
    refine JR_iload_n (pc := 105) (k := 3) (i := 3) G rfl rfl dX0_responseOf_105 ?_
    refine JR_icmp_gt (pc := 106) (tgt := 114) G dX0_responseOf_106 (by decide) (fun c10 => ?_) (fun c10 => ?_)
    · refine JR_iconst (pc := 114) G ci_m1 dX0_responseOf_114 ?_
      exact JR_iret (pc := 115) G hR dX0_responseOf_115 rfl rfl
    · refine JR_iload (pc := 109) (i := 4) G rfl dX0_responseOf_109 ?_
      refine JR_goto (pc := 111) (tgt := 115) G dX0_responseOf_111 (by decide) ?_
      exact JR_iret (pc := 115) G hR dX0_responseOf_115 rfl rfl
  have hWs_responseOf_h19 : ∀ (f : Nat) (v3 : Int32) (v4 : Int32) (v5 : Int32), J X F Λp S d 19 [(0, va_rf (some this)), (1, .int p1), (2, .int p2), (3, .int v3), (4, .int v4), (5, .int v5)] [] (Ws_responseOf_h19 this p1 p2 S d f v3 v4 v5) := by
    intro  f
    induction f with
    | zero => intro v3 v4 v5; exact J_no
    | succ f ih =>
      intro v3 v4 v5
      unfold Ws_responseOf_h19
      refine JR_iload (pc := 19) (i := 4) G rfl dX0_responseOf_19 ?_
      refine JR_iload (pc := 21) (i := 5) G rfl dX0_responseOf_21 ?_
      refine JR_icmp_eq (pc := 23) (tgt := 103) G dX0_responseOf_23 (by decide) (fun c9 => ?_) (fun c9 => ?_)
      · refine J_sub [0, 1, 2, 3, 4] rfl ?_
        exact hWs_responseOf_b103 v3 v4
      · refine JR_iload (pc := 26) (i := 4) G rfl dX0_responseOf_26 ?_
        refine JR_iload_n (pc := 28) (k := 3) (i := 3) G rfl rfl dX0_responseOf_28 ?_
        refine JR_icmp_gt (pc := 29) (tgt := 103) G dX0_responseOf_29 (by decide) (fun c8 => ?_) (fun c8 => ?_)
        · refine J_sub [0, 1, 2, 3, 4] rfl ?_
          exact hWs_responseOf_b103 v3 v4
        · refine JR_iload (pc := 32) (i := 4) G rfl dX0_responseOf_32 ?_
          refine JR_istore (pc := 34) (i := 5) (lv' := [(5, .int v4), (0, va_rf (some this)), (1, .int p1), (2, .int p2), (3, .int v3), (4, .int v4)]) G (by decide) rfl dX0_responseOf_34 ?_
          refine JR_aload_n (pc := 36) (k := 0) (i := 0) (o := some this) G rfl rfl dX0_responseOf_36 ?_
          refine JR_iload_n (pc := 37) (k := 1) (i := 1) G rfl rfl dX0_responseOf_37 ?_
          refine J_bd (fun z6 hz6 => ?_)
          refine JPV_I (pc := 38) (as := [.int p1]) (st' := []) (o := some this) G (Ws_longer_fn this p1 S d) (JC_V (n := 1) G hRm cl_X0 q1036 q1038 qs24 q137 q1039 ⟨rfl, dd_X0_longer⟩ ⟨by decide, by decide⟩ dX0_responseOf_38 hz6 rfl (Nat.le_of_ble_eq_true rfl)) rfl (fun r7 hr7 => ?_)
          refine JR_istore (pc := 41) (i := 4) (lv' := [(4, .int r7), (5, .int v4), (0, va_rf (some this)), (1, .int p1), (2, .int p2), (3, .int v3)]) G (by decide) rfl dX0_responseOf_41 ?_
          refine JR_iconst (pc := 43) G ci_0 dX0_responseOf_43 ?_
          refine JR_istore (pc := 44) (i := 6) (lv' := [(6, .int 0), (4, .int r7), (5, .int v4), (0, va_rf (some this)), (1, .int p1), (2, .int p2), (3, .int v3)]) G (by decide) rfl dX0_responseOf_44 ?_
          refine J_sub [3, 4, 5, 6, 1, 2, 0] rfl ?_
          exact hWs_responseOf_h46 (Ws_responseOf_h19 this p1 p2 S d f) ih FU v3 r7 v4 0
  unfold Ws_responseOf
  refine JR_aload_n (pc := 0) (k := 0) (i := 0) (o := some this) G rfl rfl dX0_responseOf_0 ?_
  refine JR_iload_n (pc := 1) (k := 1) (i := 1) G rfl rfl dX0_responseOf_1 ?_
  refine J_bd (fun z1 hz1 => ?_)
  refine JPV_R (pc := 2) (as := [.int p1]) (st' := []) (o := some this) G (Ws_taskOf_fn this p1 S d) (JC_V (n := 1) G hRm cl_X0 q431 q433 qs2 q137 q434 ⟨rfl, dd_X0_taskOf⟩ ⟨by decide, by decide⟩ dX0_responseOf_2 hz1 rfl (Nat.le_of_ble_eq_true rfl)) rfl (fun r2 hr2 => ?_)
  refine J_bd (fun z3 hz3 => ?_)
  refine JR_gIN (pc := 5) (k := 1) G cl_X13 in_X13 (by decide) (by decide) rfl (Or.inl rfl) q822 hz3 dX0_responseOf_5 ?_
  refine J_nm (fun x4 hx4 => ?_)
  refine JR_istore_n (pc := 8) (k := 3) (i := 3) (lv' := [(3, .int x4), (0, va_rf (some this)), (1, .int p1), (2, .int p2)]) G rfl (by decide) rfl dX0_responseOf_8 ?_
  refine JR_aload_n (pc := 9) (k := 0) (i := 0) (o := some this) G rfl rfl dX0_responseOf_9 ?_
  refine JR_iload_n (pc := 10) (k := 1) (i := 1) G rfl rfl dX0_responseOf_10 ?_
  refine JPV_I (pc := 11) (as := [.int p1]) (st' := []) (o := some this) G (Ws_longer_fn this p1 S d) (JC_V (n := 1) G hRm cl_X0 q1036 q1038 qs24 q137 q1039 ⟨rfl, dd_X0_longer⟩ ⟨by decide, by decide⟩ dX0_responseOf_11 hz1 rfl (Nat.le_of_ble_eq_true rfl)) rfl (fun r5 hr5 => ?_)
  refine JR_istore (pc := 14) (i := 4) (lv' := [(4, .int r5), (3, .int x4), (0, va_rf (some this)), (1, .int p1), (2, .int p2)]) G (by decide) rfl dX0_responseOf_14 ?_
  refine JR_iconst (pc := 16) G ci_0 dX0_responseOf_16 ?_
  refine JR_istore (pc := 17) (i := 5) (lv' := [(5, .int 0), (4, .int r5), (3, .int x4), (0, va_rf (some this)), (1, .int p1), (2, .int p2)]) G (by decide) rfl dX0_responseOf_17 ?_
  refine J_sub [3, 4, 5, 2, 1, 0] rfl ?_
  exact hWs_responseOf_h19 FU x4 r5 0

def Ws_response (this : Nat) (p1 : Int32) (S : Sp) (d : Dt) : Option Int32 :=
  (isK S 0 (some this)).bind fun z1 =>
  (Ws_isTask this p1 S d).bind fun r2 =>
  if r2 = 0 then
    some ((-2))
  else
    (Ws_lesser p1 S d).bind fun r3 =>
    (Ws_responseOf this p1 r3 S d).bind fun r4 =>
    some r4
set_option maxHeartbeats 4000000 in
theorem Ws_response_fn (this : Nat) (p1 : Int32) (S : Sp) (d : Dt) : Fn yX0_response (ws_ yX0_response cX0_response 2 (some .int)) 13 315 [va_rf (some this), .int p1] S d rvI Λp (Ws_response this p1 S d) := by
  refine Fn.ofJ (own := RX0) (lv := [(0, va_rf (some this)), (1, .int p1)]) (by decide +kernel) rfl (by simp [cat_i, cat_l, cat_f, cat_d, rf_cat]) (by simp [lv_args, cat_i, cat_l, cat_f, cat_d, rf_cat]) ?_
  intro X F G hRm hR hI
  unfold Ws_response
  refine JR_aload_n (pc := 0) (k := 0) (i := 0) (o := some this) G rfl rfl dX0_response_0 ?_
  refine JR_iload_n (pc := 1) (k := 1) (i := 1) G rfl rfl dX0_response_1 ?_
  refine J_bd (fun z1 hz1 => ?_)
  refine JPV_I (pc := 2) (as := [.int p1]) (st' := []) (o := some this) G (Ws_isTask_fn this p1 S d) (JC_V (n := 1) G hRm cl_X0 q985 q987 qs21 q137 q988 ⟨rfl, dd_X0_isTask⟩ ⟨by decide, by decide⟩ dX0_response_2 hz1 rfl (Nat.le_of_ble_eq_true rfl)) rfl (fun r2 hr2 => ?_)
  refine JR_if_eq (pc := 5) (tgt := 20) G dX0_response_5 (by decide) (fun c5 => ?_) (fun c5 => ?_)
  · refine JR_bipush (pc := 20) (v := (-2)) G (by decide) dX0_response_20 ?_
    exact JR_iret (pc := 22) G hR dX0_response_22 rfl rfl
  · refine JR_aload_n (pc := 8) (k := 0) (i := 0) (o := some this) G rfl rfl dX0_response_8 ?_
    refine JR_iload_n (pc := 9) (k := 1) (i := 1) G rfl rfl dX0_response_9 ?_
    refine JR_iload_n (pc := 10) (k := 1) (i := 1) G rfl rfl dX0_response_10 ?_
    refine JPS_I (pc := 11) (as := [.int p1]) (st' := [.int p1, va_rf (some this)]) G (Ws_lesser_fn p1 S d) (JC_S (n := 1) G hRm q1029 q1030 q137 q1031 dd_X0_lesser ⟨by decide, by decide⟩ dX0_response_11 rfl (Nat.le_of_ble_eq_true rfl)) rfl (fun r3 hr3 => ?_)
    refine JPV_I (pc := 14) (as := [.int p1, .int r3]) (st' := []) (o := some this) G (Ws_responseOf_fn this p1 r3 S d) (JC_V (n := 2) G hRm cl_X0 q1032 q1034 qs23 q137 q1035 ⟨rfl, dd_X0_responseOf⟩ ⟨by decide, by decide⟩ dX0_response_14 hz1 rfl (Nat.le_of_ble_eq_true rfl)) rfl (fun r4 hr4 => ?_)
    refine JR_goto (pc := 17) (tgt := 22) G dX0_response_17 (by decide) ?_
    exact JR_iret (pc := 22) G hR dX0_response_22 rfl rfl

def Ta_shortest (this : Nat) (S : Sp) (d : Dt) : Option Int32 :=
  (isK S 12 (some this)).bind fun z1 =>
  (Ta_cost 8 this 0 0 S d).bind fun r2 =>
  some r2
set_option maxHeartbeats 4000000 in
theorem Ta_shortest_fn (this : Nat) (S : Sp) (d : Dt) : Fn yX13_shortest (ws_ yX13_shortest cX13_shortest 1 (some .int)) 10 248 [va_rf (some this)] S d rvI Λp (Ta_shortest this S d) := by
  refine Fn.ofJ (own := RX13) (lv := [(0, va_rf (some this))]) (by decide +kernel) rfl (by simp [cat_i, cat_l, cat_f, cat_d, rf_cat]) (by simp [lv_args, cat_i, cat_l, cat_f, cat_d, rf_cat]) ?_
  intro X F G hRm hR hI
  unfold Ta_shortest
  refine JR_aload_n (pc := 0) (k := 0) (i := 0) (o := some this) G rfl rfl dX13_shortest_0 ?_
  refine JR_iconst (pc := 1) G ci_0 dX13_shortest_1 ?_
  refine JR_iconst (pc := 2) G ci_0 dX13_shortest_2 ?_
  refine J_bd (fun z1 hz1 => ?_)
  refine JPV_I (pc := 3) (as := [.int 0, .int 0]) (st' := []) (o := some this) G (Ta_cost_fn 8 this 0 0 S d) (JC_V (n := 2) G hRm cl_X13 q1014 q1011 q1012 q162 q1013 ⟨rfl, dd_X13_cost⟩ ⟨by decide, by decide⟩ dX13_shortest_3 hz1 rfl (Nat.le_of_ble_eq_true rfl)) rfl (fun r2 hr2 => ?_)
  exact JR_iret (pc := 6) G hR dX13_shortest_6 rfl rfl

def Ws_leastOf_b30 (this : Nat) (p1 : Int32) (p2 : Int32) (p3 : Int32) (S : Sp) (d : Dt) (v4 : Option Nat) (s0 : Int32) (s1 : Int32) : Option Int32 :=
  (some (s1 - s0)).bind fun x6 =>
  if p2 = nI 0 then
    (isK S 12 v4).bind fun z7 =>
    some ((d.1 z7 1) - x6)
  else
    if p2 = nI 1 then
      (isK S 12 v4).bind fun z9 =>
      some ((d.1 z9 1) + x6)
    else
      if p2 = nI 2 then
        (isK S 0 (some this)).bind fun z11 =>
        (isK S 1 (S.2.1 z11 0)).bind fun z12 =>
        (isK S 12 v4).bind fun z13 =>
        (gz (d.1 z13 1)).bind fun u14 =>
        some ((imax 0 ((d.1 z12 4) - x6)) / (d.1 z13 1))
      else
        (isK S 0 (some this)).bind fun z16 =>
        (isK S 1 (S.2.1 z16 0)).bind fun z17 =>
        (isK S 12 v4).bind fun z18 =>
        (Ws_up ((d.1 z17 4) + x6) (d.1 z18 1) S d).bind fun r19 =>
        some r19
def Ws_leastOf (this : Nat) (p1 : Int32) (p2 : Int32) (p3 : Int32) (S : Sp) (d : Dt) : Option Int32 :=
  (isK S 0 (some this)).bind fun z1 =>
  (Ws_taskOf this p1 S d).bind fun r2 =>
  (isK S 12 r2).bind fun z3 =>
  (Ta_shortest z3 S d).bind fun r4 =>
  Ws_leastOf_b30 this p1 p2 p3 S d r2 (if ¬ p1 = (d.1 z1 6) then 0 else d.1 z1 7) (p3 - r4)
set_option maxHeartbeats 4000000 in
theorem Ws_leastOf_fn (this : Nat) (p1 : Int32) (p2 : Int32) (p3 : Int32) (S : Sp) (d : Dt) : Fn yX0_leastOf (ws_ yX0_leastOf cX0_leastOf 6 (some .int)) 11 268 [va_rf (some this), .int p1, .int p2, .int p3] S d rvI Λp (Ws_leastOf this p1 p2 p3 S d) := by
  refine Fn.ofJ (own := RX0) (lv := [(0, va_rf (some this)), (1, .int p1), (2, .int p2), (3, .int p3)]) (by decide +kernel) rfl (by simp [cat_i, cat_l, cat_f, cat_d, rf_cat]) (by simp [lv_args, cat_i, cat_l, cat_f, cat_d, rf_cat]) ?_
  intro X F G hRm hR hI
  have hWs_leastOf_b30 : ∀ (v4 : Option Nat) (s0 : Int32) (s1 : Int32), J X F Λp S d 30 [(0, va_rf (some this)), (1, .int p1), (2, .int p2), (3, .int p3), (4, va_rf v4)] [.int s0, .int s1] (Ws_leastOf_b30 this p1 p2 p3 S d v4 s0 s1) := by
    intro v4 s0 s1
    unfold Ws_leastOf_b30
    refine JR_isub (pc := 30) G dX0_leastOf_30 ?_
    refine J_nm (fun x6 hx6 => ?_)
    refine JR_istore (pc := 31) (i := 5) (lv' := [(5, .int x6), (0, va_rf (some this)), (1, .int p1), (2, .int p2), (3, .int p3), (4, va_rf v4)]) G (by decide) (by simp [lvS, rf_cat]) dX0_leastOf_31 ?_
    refine JR_iload_n (pc := 33) (k := 2) (i := 2) G rfl rfl dX0_leastOf_33 ?_
    refine J_if (fun c8 => ?_) (fun c8 => ?_)
    · refine JR_tsIn (pc := 34) (k := 0) (tgt := 60) G dX0_leastOf_34 c8 (by decide) (by decide) rfl (by decide) ?_
      refine JR_aload (pc := 60) (i := 4) (o := v4) G rfl dX0_leastOf_60 ?_
      refine J_bd (fun z7 hz7 => ?_)
      refine JR_gIN (pc := 62) (k := 1) G cl_X13 in_X13 (by decide) (by decide) rfl (Or.inl rfl) q822 hz7 dX0_leastOf_62 ?_
      refine JR_iload (pc := 65) (i := 5) G rfl dX0_leastOf_65 ?_
      refine JR_isub (pc := 67) G dX0_leastOf_67 ?_
      exact JR_iret (pc := 68) G hR dX0_leastOf_68 rfl rfl
    · refine J_if (fun c10 => ?_) (fun c10 => ?_)
      · refine JR_tsIn (pc := 34) (k := 1) (tgt := 69) G dX0_leastOf_34 c10 (by decide) (by decide) rfl (by decide) ?_
        refine JR_aload (pc := 69) (i := 4) (o := v4) G rfl dX0_leastOf_69 ?_
        refine J_bd (fun z9 hz9 => ?_)
        refine JR_gIN (pc := 71) (k := 1) G cl_X13 in_X13 (by decide) (by decide) rfl (Or.inl rfl) q822 hz9 dX0_leastOf_71 ?_
        refine JR_iload (pc := 74) (i := 5) G rfl dX0_leastOf_74 ?_
        refine JR_iadd (pc := 76) G dX0_leastOf_76 ?_
        exact JR_iret (pc := 77) G hR dX0_leastOf_77 rfl rfl
      · refine J_if (fun c15 => ?_) (fun c15 => ?_)
        · refine JR_tsIn (pc := 34) (k := 2) (tgt := 78) G dX0_leastOf_34 c15 (by decide) (by decide) rfl (by decide) ?_
          refine JR_iconst (pc := 78) G ci_0 dX0_leastOf_78 ?_
          refine JR_aload_n (pc := 79) (k := 0) (i := 0) (o := some this) G rfl rfl dX0_leastOf_79 ?_
          refine J_bd (fun z11 hz11 => ?_)
          refine JR_gR (pc := 80) (k := 0) G cl_X0 in_X0 (by decide) (by decide) rfl (Or.inl rfl) q451 hz11 dX0_leastOf_80 ?_
          refine J_bd (fun z12 hz12 => ?_)
          refine JR_gIN (pc := 83) (k := 4) G cl_X1 in_X1 (by decide) (by decide) rfl (Or.inl rfl) q230 hz12 dX0_leastOf_83 ?_
          refine JR_iload (pc := 86) (i := 5) G rfl dX0_leastOf_86 ?_
          refine JR_isub (pc := 88) G dX0_leastOf_88 ?_
          refine JR_max (pc := 89) G hRm q1061 q879 q154 q880 ⟨by decide, by decide⟩ (Nat.le_of_ble_eq_true rfl) dX0_leastOf_89 ?_
          refine JR_aload (pc := 92) (i := 4) (o := v4) G rfl dX0_leastOf_92 ?_
          refine J_bd (fun z13 hz13 => ?_)
          refine JR_gIN (pc := 94) (k := 1) G cl_X13 in_X13 (by decide) (by decide) rfl (Or.inl rfl) q822 hz13 dX0_leastOf_94 ?_
          refine J_bd (fun u14 hu14 => ?_)
          refine JR_idiv (pc := 97) G (gz_at hu14) dX0_leastOf_97 ?_
          exact JR_iret (pc := 98) G hR dX0_leastOf_98 rfl rfl
        · refine JR_tsOut (pc := 34) (tgt := 99) (n := 2) G dX0_leastOf_34 rfl (by decide) (fun k9 hk9 => by rcases (show k9 = 0 ∨ k9 = 1 ∨ k9 = 2 by omega) with rfl | rfl | rfl <;> assumption) (by decide) ?_
          refine JR_aload_n (pc := 99) (k := 0) (i := 0) (o := some this) G rfl rfl dX0_leastOf_99 ?_
          refine J_bd (fun z16 hz16 => ?_)
          refine JR_gR (pc := 100) (k := 0) G cl_X0 in_X0 (by decide) (by decide) rfl (Or.inl rfl) q451 hz16 dX0_leastOf_100 ?_
          refine J_bd (fun z17 hz17 => ?_)
          refine JR_gIN (pc := 103) (k := 4) G cl_X1 in_X1 (by decide) (by decide) rfl (Or.inl rfl) q230 hz17 dX0_leastOf_103 ?_
          refine JR_iload (pc := 106) (i := 5) G rfl dX0_leastOf_106 ?_
          refine JR_iadd (pc := 108) G dX0_leastOf_108 ?_
          refine JR_aload (pc := 109) (i := 4) (o := v4) G rfl dX0_leastOf_109 ?_
          refine J_bd (fun z18 hz18 => ?_)
          refine JR_gIN (pc := 111) (k := 1) G cl_X13 in_X13 (by decide) (by decide) rfl (Or.inl rfl) q822 hz18 dX0_leastOf_111 ?_
          refine JPS_I (pc := 114) (as := [.int ((d.1 z17 4) + x6), .int (d.1 z18 1)]) (st' := []) G (Ws_up_fn ((d.1 z17 4) + x6) (d.1 z18 1) S d) (JC_S (n := 2) G hRm q1045 q1046 q137 q1047 dd_X0_up ⟨by decide, by decide⟩ dX0_leastOf_114 rfl (Nat.le_of_ble_eq_true rfl)) rfl (fun r19 hr19 => ?_)
          exact JR_iret (pc := 117) G hR dX0_leastOf_117 rfl rfl
  unfold Ws_leastOf
  refine JR_aload_n (pc := 0) (k := 0) (i := 0) (o := some this) G rfl rfl dX0_leastOf_0 ?_
  refine JR_iload_n (pc := 1) (k := 1) (i := 1) G rfl rfl dX0_leastOf_1 ?_
  refine J_bd (fun z1 hz1 => ?_)
  refine JPV_R (pc := 2) (as := [.int p1]) (st' := []) (o := some this) G (Ws_taskOf_fn this p1 S d) (JC_V (n := 1) G hRm cl_X0 q431 q433 qs2 q137 q434 ⟨rfl, dd_X0_taskOf⟩ ⟨by decide, by decide⟩ dX0_leastOf_2 hz1 rfl (Nat.le_of_ble_eq_true rfl)) rfl (fun r2 hr2 => ?_)
  refine JR_astore (pc := 5) (i := 4) (lv' := [(4, va_rf r2), (0, va_rf (some this)), (1, .int p1), (2, .int p2), (3, .int p3)]) G (by decide) rfl dX0_leastOf_5 ?_
  refine JR_iload_n (pc := 7) (k := 3) (i := 3) G rfl rfl dX0_leastOf_7 ?_
  refine JR_aload (pc := 8) (i := 4) (o := r2) G rfl dX0_leastOf_8 ?_
  refine J_bd (fun z3 hz3 => ?_)
  refine J_stk (st' := [va_rf (some z3), .int p3]) (by rw [(isK_at hz3).1]) ?_
  refine JPV_I (pc := 10) (as := []) (st' := [.int p3]) (o := some z3) G (Ta_shortest_fn z3 S d) (JC_V (n := 0) G hRm cl_X13 q1057 q1058 q1059 q162 q1060 ⟨rfl, dd_X13_shortest⟩ ⟨by decide, by decide⟩ dX0_leastOf_10 (isK_s hz3) rfl (Nat.le_of_ble_eq_true rfl)) rfl (fun r4 hr4 => ?_)
  refine JR_isub (pc := 13) G dX0_leastOf_13 ?_
  refine JR_iload_n (pc := 14) (k := 1) (i := 1) G rfl rfl dX0_leastOf_14 ?_
  refine JR_aload_n (pc := 15) (k := 0) (i := 0) (o := some this) G rfl rfl dX0_leastOf_15 ?_
  refine JR_gI (pc := 16) (k := 6) G cl_X0 in_X0 (by decide) (by decide) rfl (Or.inl rfl) q457 hz1 dX0_leastOf_16 ?_
  refine J_eq (r' := if ¬ p1 = (d.1 z1 6) then Ws_leastOf_b30 this p1 p2 p3 S d r2 0 (p3 - r4) else Ws_leastOf_b30 this p1 p2 p3 S d r2 (d.1 z1 7) (p3 - r4)) (by split <;> rfl) ?_
  refine JR_icmp_ne (pc := 19) (tgt := 29) G dX0_leastOf_19 (by decide) (fun c5 => ?_) (fun c5 => ?_)
  · refine JR_iconst (pc := 29) G ci_0 dX0_leastOf_29 ?_
    refine J_sub [1, 2, 3, 4, 0] rfl ?_
    exact hWs_leastOf_b30 r2 0 (p3 - r4)
  · refine JR_aload_n (pc := 22) (k := 0) (i := 0) (o := some this) G rfl rfl dX0_leastOf_22 ?_
    refine JR_gI (pc := 23) (k := 7) G cl_X0 in_X0 (by decide) (by decide) rfl (Or.inl rfl) q458 hz1 dX0_leastOf_23 ?_
    refine JR_goto (pc := 26) (tgt := 30) G dX0_leastOf_26 (by decide) ?_
    refine J_sub [1, 2, 3, 4, 0] rfl ?_
    exact hWs_leastOf_b30 r2 (d.1 z1 7) (p3 - r4)

def Ws_least (this : Nat) (p1 : Int32) (p2 : Int32) (S : Sp) (d : Dt) : Option Int32 :=
  (isK S 0 (some this)).bind fun z1 =>
  (Ws_isTask this p1 S d).bind fun r2 =>
  if r2 = 0 then
    some ((-2))
  else
    (Ws_in (Int32.toInt64 p2) 0 3 S d).bind fun r3 =>
    if ¬ r3 = 0 then
      (Ws_lesser p1 S d).bind fun r4 =>
      (Ws_responseOf this p1 r4 S d).bind fun r5 =>
      if ¬ r5 = ((-1)) then
        (Ws_leastOf this p1 p2 r5 S d).bind fun r6 =>
        some r6
      else
        some ((-1))
    else
      some ((-2))
set_option maxHeartbeats 4000000 in
theorem Ws_least_fn (this : Nat) (p1 : Int32) (p2 : Int32) (S : Sp) (d : Dt) : Fn yX0_least (ws_ yX0_least cX0_least 4 (some .int)) 13 315 [va_rf (some this), .int p1, .int p2] S d rvI Λp (Ws_least this p1 p2 S d) := by
  refine Fn.ofJ (own := RX0) (lv := [(0, va_rf (some this)), (1, .int p1), (2, .int p2)]) (by decide +kernel) rfl (by simp [cat_i, cat_l, cat_f, cat_d, rf_cat]) (by simp [lv_args, cat_i, cat_l, cat_f, cat_d, rf_cat]) ?_
  intro X F G hRm hR hI
  unfold Ws_least
  refine JR_aload_n (pc := 0) (k := 0) (i := 0) (o := some this) G rfl rfl dX0_least_0 ?_
  refine JR_iload_n (pc := 1) (k := 1) (i := 1) G rfl rfl dX0_least_1 ?_
  refine J_bd (fun z1 hz1 => ?_)
  refine JPV_I (pc := 2) (as := [.int p1]) (st' := []) (o := some this) G (Ws_isTask_fn this p1 S d) (JC_V (n := 1) G hRm cl_X0 q985 q987 qs21 q137 q988 ⟨rfl, dd_X0_isTask⟩ ⟨by decide, by decide⟩ dX0_least_2 hz1 rfl (Nat.le_of_ble_eq_true rfl)) rfl (fun r2 hr2 => ?_)
  refine JR_if_eq (pc := 5) (tgt := 20) G dX0_least_5 (by decide) (fun c9 => ?_) (fun c9 => ?_)
  · refine JR_bipush (pc := 20) (v := (-2)) G (by decide) dX0_least_20 ?_
    exact JR_iret (pc := 22) G hR dX0_least_22 rfl rfl
  · refine JR_iload_n (pc := 8) (k := 2) (i := 2) G rfl rfl dX0_least_8 ?_
    refine JR_i2l (pc := 9) G dX0_least_9 ?_
    refine JR_lconst (pc := 10) G cl_0 dX0_least_10 ?_
    refine JR_ldc2 (pc := 11) G q1052 dX0_least_11 ?_
    refine JPS_I (pc := 14) (as := [.long (Int32.toInt64 p2), .long 0, .long 3]) (st' := []) G (Ws_in_fn (Int32.toInt64 p2) 0 3 S d) (JC_S (n := 3) G hRm q575 q576 q137 q577 dd_X0_in ⟨by decide, by decide⟩ dX0_least_14 rfl (Nat.le_of_ble_eq_true rfl)) rfl (fun r3 hr3 => ?_)
    refine JR_if_ne (pc := 17) (tgt := 23) G dX0_least_17 (by decide) (fun c8 => ?_) (fun c8 => ?_)
    · refine JR_aload_n (pc := 23) (k := 0) (i := 0) (o := some this) G rfl rfl dX0_least_23 ?_
      refine JR_iload_n (pc := 24) (k := 1) (i := 1) G rfl rfl dX0_least_24 ?_
      refine JR_iload_n (pc := 25) (k := 1) (i := 1) G rfl rfl dX0_least_25 ?_
      refine JPS_I (pc := 26) (as := [.int p1]) (st' := [.int p1, va_rf (some this)]) G (Ws_lesser_fn p1 S d) (JC_S (n := 1) G hRm q1029 q1030 q137 q1031 dd_X0_lesser ⟨by decide, by decide⟩ dX0_least_26 rfl (Nat.le_of_ble_eq_true rfl)) rfl (fun r4 hr4 => ?_)
      refine JPV_I (pc := 29) (as := [.int p1, .int r4]) (st' := []) (o := some this) G (Ws_responseOf_fn this p1 r4 S d) (JC_V (n := 2) G hRm cl_X0 q1032 q1034 qs23 q137 q1035 ⟨rfl, dd_X0_responseOf⟩ ⟨by decide, by decide⟩ dX0_least_29 hz1 rfl (Nat.le_of_ble_eq_true rfl)) rfl (fun r5 hr5 => ?_)
      refine JR_istore_n (pc := 32) (k := 3) (i := 3) (lv' := [(3, .int r5), (0, va_rf (some this)), (1, .int p1), (2, .int p2)]) G rfl (by decide) rfl dX0_least_32 ?_
      refine JR_iload_n (pc := 33) (k := 3) (i := 3) G rfl rfl dX0_least_33 ?_
      refine JR_iconst (pc := 34) G ci_m1 dX0_least_34 ?_
      refine JR_icmp_ne (pc := 35) (tgt := 42) G dX0_least_35 (by decide) (fun c7 => ?_) (fun c7 => ?_)
      · refine JR_aload_n (pc := 42) (k := 0) (i := 0) (o := some this) G rfl rfl dX0_least_42 ?_
        refine JR_iload_n (pc := 43) (k := 1) (i := 1) G rfl rfl dX0_least_43 ?_
        refine JR_iload_n (pc := 44) (k := 2) (i := 2) G rfl rfl dX0_least_44 ?_
        refine JR_iload_n (pc := 45) (k := 3) (i := 3) G rfl rfl dX0_least_45 ?_
        refine JPV_I (pc := 46) (as := [.int p1, .int p2, .int r5]) (st' := []) (o := some this) G (Ws_leastOf_fn this p1 p2 r5 S d) (JC_V (n := 3) G hRm cl_X0 q1053 q1055 qs25 q137 q1056 ⟨rfl, dd_X0_leastOf⟩ ⟨by decide, by decide⟩ dX0_least_46 hz1 rfl (Nat.le_of_ble_eq_true rfl)) rfl (fun r6 hr6 => ?_)
        exact JR_iret (pc := 49) G hR dX0_least_49 rfl rfl
      · refine JR_iconst (pc := 38) G ci_m1 dX0_least_38 ?_
        refine JR_goto (pc := 39) (tgt := 49) G dX0_least_39 (by decide) ?_
        exact JR_iret (pc := 49) G hR dX0_least_49 rfl rfl
    · refine JR_bipush (pc := 20) (v := (-2)) G (by decide) dX0_least_20 ?_
      exact JR_iret (pc := 22) G hR dX0_least_22 rfl rfl

def Ws_isLawful (this : Nat) (p1 : Int32) (p2 : Int32) (S : Sp) (d : Dt) : Option Int32 :=
  (isK S 0 (some this)).bind fun z1 =>
  (Ws_taskOf this p1 S d).bind fun r2 =>
  (Ws_responseOf this p1 p2 S d).bind fun r3 =>
  if ¬ r3 = ((-1)) then
    (isK S 12 r2).bind fun z4 =>
    (Ws_leastOf this p1 0 r3 S d).bind fun r5 =>
    if r5 < (d.1 z4 2) then
      some 0
    else
      (Ws_leastOf this p1 1 r3 S d).bind fun r6 =>
      if (d.1 z4 3) < r6 then
        some 0
      else
        (Ws_leastOf this p1 2 r3 S d).bind fun r7 =>
        if r7 < (d.1 z4 4) then
          some 0
        else
          (Ws_leastOf this p1 3 r3 S d).bind fun r8 =>
          if (d.1 z4 5) < r8 then
            some 0
          else
            some 1
  else
    some 0
set_option maxHeartbeats 4000000 in
theorem Ws_isLawful_fn (this : Nat) (p1 : Int32) (p2 : Int32) (S : Sp) (d : Dt) : Fn yX0_isLawful (ws_ yX0_isLawful cX0_isLawful 5 (some .boolean)) 13 315 [va_rf (some this), .int p1, .int p2] S d rvI Λp (Ws_isLawful this p1 p2 S d) := by
  refine Fn.ofJ (own := RX0) (lv := [(0, va_rf (some this)), (1, .int p1), (2, .int p2)]) (by decide +kernel) rfl (by simp [cat_i, cat_l, cat_f, cat_d, rf_cat]) (by simp [lv_args, cat_i, cat_l, cat_f, cat_d, rf_cat]) ?_
  intro X F G hRm hR hI
  unfold Ws_isLawful
  refine JR_aload_n (pc := 0) (k := 0) (i := 0) (o := some this) G rfl rfl dX0_isLawful_0 ?_
  refine JR_iload_n (pc := 1) (k := 1) (i := 1) G rfl rfl dX0_isLawful_1 ?_
  refine J_bd (fun z1 hz1 => ?_)
  refine JPV_R (pc := 2) (as := [.int p1]) (st' := []) (o := some this) G (Ws_taskOf_fn this p1 S d) (JC_V (n := 1) G hRm cl_X0 q431 q433 qs2 q137 q434 ⟨rfl, dd_X0_taskOf⟩ ⟨by decide, by decide⟩ dX0_isLawful_2 hz1 rfl (Nat.le_of_ble_eq_true rfl)) rfl (fun r2 hr2 => ?_)
  refine JR_astore_n (pc := 5) (k := 3) (i := 3) (lv' := [(3, va_rf r2), (0, va_rf (some this)), (1, .int p1), (2, .int p2)]) G rfl (by decide) rfl dX0_isLawful_5 ?_
  refine JR_aload_n (pc := 6) (k := 0) (i := 0) (o := some this) G rfl rfl dX0_isLawful_6 ?_
  refine JR_iload_n (pc := 7) (k := 1) (i := 1) G rfl rfl dX0_isLawful_7 ?_
  refine JR_iload_n (pc := 8) (k := 2) (i := 2) G rfl rfl dX0_isLawful_8 ?_
  refine JPV_I (pc := 9) (as := [.int p1, .int p2]) (st' := []) (o := some this) G (Ws_responseOf_fn this p1 p2 S d) (JC_V (n := 2) G hRm cl_X0 q1032 q1034 qs23 q137 q1035 ⟨rfl, dd_X0_responseOf⟩ ⟨by decide, by decide⟩ dX0_isLawful_9 hz1 rfl (Nat.le_of_ble_eq_true rfl)) rfl (fun r3 hr3 => ?_)
  refine JR_istore (pc := 12) (i := 4) (lv' := [(4, .int r3), (3, va_rf r2), (0, va_rf (some this)), (1, .int p1), (2, .int p2)]) G (by decide) (by simp [lvS, rf_cat]) dX0_isLawful_12 ?_
  refine JR_iload (pc := 14) (i := 4) G rfl dX0_isLawful_14 ?_
  refine JR_iconst (pc := 16) G ci_m1 dX0_isLawful_16 ?_
  refine JR_icmp_ne (pc := 17) (tgt := 22) G dX0_isLawful_17 (by decide) (fun c13 => ?_) (fun c13 => ?_)
  · refine JR_aload_n (pc := 22) (k := 3) (i := 3) (o := r2) G rfl rfl dX0_isLawful_22 ?_
    refine J_bd (fun z4 hz4 => ?_)
    refine JR_gIN (pc := 23) (k := 2) G cl_X13 in_X13 (by decide) (by decide) rfl (Or.inl rfl) q824 hz4 dX0_isLawful_23 ?_
    refine JR_aload_n (pc := 26) (k := 0) (i := 0) (o := some this) G rfl rfl dX0_isLawful_26 ?_
    refine JR_iload_n (pc := 27) (k := 1) (i := 1) G rfl rfl dX0_isLawful_27 ?_
    refine JR_iconst (pc := 28) G ci_0 dX0_isLawful_28 ?_
    refine JR_iload (pc := 29) (i := 4) G rfl dX0_isLawful_29 ?_
    refine JPV_I (pc := 31) (as := [.int p1, .int 0, .int r3]) (st' := [.int (d.1 z4 2)]) (o := some this) G (Ws_leastOf_fn this p1 0 r3 S d) (JC_V (n := 3) G hRm cl_X0 q1053 q1055 qs25 q137 q1056 ⟨rfl, dd_X0_leastOf⟩ ⟨by decide, by decide⟩ dX0_isLawful_31 hz1 rfl (Nat.le_of_ble_eq_true rfl)) rfl (fun r5 hr5 => ?_)
    refine JR_icmp_gt (pc := 34) (tgt := 86) G dX0_isLawful_34 (by decide) (fun c12 => ?_) (fun c12 => ?_)
    · refine JR_iconst (pc := 86) G ci_0 dX0_isLawful_86 ?_
      exact JR_zret (pc := 87) G hR dX0_isLawful_87 (Or.inl rfl) rfl rfl
    · refine JR_aload_n (pc := 37) (k := 3) (i := 3) (o := r2) G rfl rfl dX0_isLawful_37 ?_
      refine JR_gIN (pc := 38) (k := 3) G cl_X13 in_X13 (by decide) (by decide) rfl (Or.inl rfl) q826 hz4 dX0_isLawful_38 ?_
      refine JR_aload_n (pc := 41) (k := 0) (i := 0) (o := some this) G rfl rfl dX0_isLawful_41 ?_
      refine JR_iload_n (pc := 42) (k := 1) (i := 1) G rfl rfl dX0_isLawful_42 ?_
      refine JR_iconst (pc := 43) G ci_1 dX0_isLawful_43 ?_
      refine JR_iload (pc := 44) (i := 4) G rfl dX0_isLawful_44 ?_
      refine JPV_I (pc := 46) (as := [.int p1, .int 1, .int r3]) (st' := [.int (d.1 z4 3)]) (o := some this) G (Ws_leastOf_fn this p1 1 r3 S d) (JC_V (n := 3) G hRm cl_X0 q1053 q1055 qs25 q137 q1056 ⟨rfl, dd_X0_leastOf⟩ ⟨by decide, by decide⟩ dX0_isLawful_46 hz1 rfl (Nat.le_of_ble_eq_true rfl)) rfl (fun r6 hr6 => ?_)
      refine JR_icmp_lt (pc := 49) (tgt := 86) G dX0_isLawful_49 (by decide) (fun c11 => ?_) (fun c11 => ?_)
      · refine JR_iconst (pc := 86) G ci_0 dX0_isLawful_86 ?_
        exact JR_zret (pc := 87) G hR dX0_isLawful_87 (Or.inl rfl) rfl rfl
      · refine JR_aload_n (pc := 52) (k := 3) (i := 3) (o := r2) G rfl rfl dX0_isLawful_52 ?_
        refine JR_gIN (pc := 53) (k := 4) G cl_X13 in_X13 (by decide) (by decide) rfl (Or.inl rfl) q828 hz4 dX0_isLawful_53 ?_
        refine JR_aload_n (pc := 56) (k := 0) (i := 0) (o := some this) G rfl rfl dX0_isLawful_56 ?_
        refine JR_iload_n (pc := 57) (k := 1) (i := 1) G rfl rfl dX0_isLawful_57 ?_
        refine JR_iconst (pc := 58) G ci_2 dX0_isLawful_58 ?_
        refine JR_iload (pc := 59) (i := 4) G rfl dX0_isLawful_59 ?_
        refine JPV_I (pc := 61) (as := [.int p1, .int 2, .int r3]) (st' := [.int (d.1 z4 4)]) (o := some this) G (Ws_leastOf_fn this p1 2 r3 S d) (JC_V (n := 3) G hRm cl_X0 q1053 q1055 qs25 q137 q1056 ⟨rfl, dd_X0_leastOf⟩ ⟨by decide, by decide⟩ dX0_isLawful_61 hz1 rfl (Nat.le_of_ble_eq_true rfl)) rfl (fun r7 hr7 => ?_)
        refine JR_icmp_gt (pc := 64) (tgt := 86) G dX0_isLawful_64 (by decide) (fun c10 => ?_) (fun c10 => ?_)
        · refine JR_iconst (pc := 86) G ci_0 dX0_isLawful_86 ?_
          exact JR_zret (pc := 87) G hR dX0_isLawful_87 (Or.inl rfl) rfl rfl
        · refine JR_aload_n (pc := 67) (k := 3) (i := 3) (o := r2) G rfl rfl dX0_isLawful_67 ?_
          refine JR_gIN (pc := 68) (k := 5) G cl_X13 in_X13 (by decide) (by decide) rfl (Or.inl rfl) q830 hz4 dX0_isLawful_68 ?_
          refine JR_aload_n (pc := 71) (k := 0) (i := 0) (o := some this) G rfl rfl dX0_isLawful_71 ?_
          refine JR_iload_n (pc := 72) (k := 1) (i := 1) G rfl rfl dX0_isLawful_72 ?_
          refine JR_iconst (pc := 73) G ci_3 dX0_isLawful_73 ?_
          refine JR_iload (pc := 74) (i := 4) G rfl dX0_isLawful_74 ?_
          refine JPV_I (pc := 76) (as := [.int p1, .int 3, .int r3]) (st' := [.int (d.1 z4 5)]) (o := some this) G (Ws_leastOf_fn this p1 3 r3 S d) (JC_V (n := 3) G hRm cl_X0 q1053 q1055 qs25 q137 q1056 ⟨rfl, dd_X0_leastOf⟩ ⟨by decide, by decide⟩ dX0_isLawful_76 hz1 rfl (Nat.le_of_ble_eq_true rfl)) rfl (fun r8 hr8 => ?_)
          refine JR_icmp_lt (pc := 79) (tgt := 86) G dX0_isLawful_79 (by decide) (fun c9 => ?_) (fun c9 => ?_)
          · refine JR_iconst (pc := 86) G ci_0 dX0_isLawful_86 ?_
            exact JR_zret (pc := 87) G hR dX0_isLawful_87 (Or.inl rfl) rfl rfl
          · refine JR_iconst (pc := 82) G ci_1 dX0_isLawful_82 ?_
            refine JR_goto (pc := 83) (tgt := 87) G dX0_isLawful_83 (by decide) ?_
            exact JR_zret (pc := 87) G hR dX0_isLawful_87 (Or.inr rfl) rfl rfl
  · refine JR_iconst (pc := 20) G ci_0 dX0_isLawful_20 ?_
    exact JR_zret (pc := 21) G hR dX0_isLawful_21 (Or.inl rfl) rfl rfl

def Ws_lawfulNow_b32 (this : Nat) (S : Sp) (d : Dt) (k4 : Int32 → Int32 → Option (Int32)) (v2 : Int32) (s0 : Int32) (s1 : Int32) : Option Int32 :=
  (some (s1 ||| s0)).bind fun x7 =>
  k4 x7 (v2 + 1)
def Ws_lawfulNow_h4 (this : Nat) (S : Sp) (d : Dt) : Nat → Int32 → Int32 → Option Int32
  | 0, _, _ => none
  | f + 1, v1, v2 =>
    (isK S 0 (some this)).bind fun z1 =>
    (Ws_tasks this S d).bind fun r2 =>
    if r2 ≤ v2 then
      some v1
    else
      (Ws_lesser v2 S d).bind fun r3 =>
      (Ws_isLawful this v2 r3 S d).bind fun r4 =>
      Ws_lawfulNow_b32 this S d (Ws_lawfulNow_h4 this S d f) v2 (if r4 = 0 then 0 else 1 <<< (v2 &&& 31)) v1
def Ws_lawfulNow (this : Nat) (S : Sp) (d : Dt) : Option Int32 :=
  Ws_lawfulNow_h4 this S d FU 0 0
set_option maxHeartbeats 4000000 in
theorem Ws_lawfulNow_fn (this : Nat) (S : Sp) (d : Dt) : Fn yX0_lawfulNow (ws_ yX0_lawfulNow cX0_lawfulNow 3 (some .int)) 14 339 [va_rf (some this)] S d rvI Λp (Ws_lawfulNow this S d) := by
  refine Fn.ofJ (own := RX0) (lv := [(0, va_rf (some this))]) (by decide +kernel) rfl (by simp [cat_i, cat_l, cat_f, cat_d, rf_cat]) (by simp [lv_args, cat_i, cat_l, cat_f, cat_d, rf_cat]) ?_
  intro X F G hRm hR hI
  have hWs_lawfulNow_b32 : ∀ (k4 : Int32 → Int32 → Option (Int32)) (hk4 : ∀ (v1 : Int32) (v2 : Int32), J X F Λp S d 4 [(0, va_rf (some this)), (1, .int v1), (2, .int v2)] [] (k4 v1 v2)) (v2 : Int32) (s0 : Int32) (s1 : Int32), J X F Λp S d 32 [(0, va_rf (some this)), (2, .int v2)] [.int s0, .int s1] (Ws_lawfulNow_b32 this S d k4 v2 s0 s1) := by
    intro k4 hk4 v2 s0 s1
    unfold Ws_lawfulNow_b32
    refine JR_ior (pc := 32) G dX0_lawfulNow_32 ?_
    refine J_nm (fun x7 hx7 => ?_)
    refine JR_istore_n (pc := 33) (k := 1) (i := 1) (lv' := [(1, .int x7), (0, va_rf (some this)), (2, .int v2)]) G rfl (by decide) rfl dX0_lawfulNow_33 ?_
    refine JR_iinc (pc := 34) (i := 2) (v := v2 + 1) (lv' := [(2, .int (v2 + 1)), (1, .int x7), (0, va_rf (some this))]) G rfl (congrArg (fun z => v2 + z) (by decide)) (by decide) rfl dX0_lawfulNow_34 ?_
    refine JR_goto (pc := 37) (tgt := 4) G dX0_lawfulNow_37 (by decide) ?_
    refine J_sub [2, 1, 0] rfl ?_
    exact hk4 x7 (v2 + 1)
  have hWs_lawfulNow_h4 : ∀ (f : Nat) (v1 : Int32) (v2 : Int32), J X F Λp S d 4 [(0, va_rf (some this)), (1, .int v1), (2, .int v2)] [] (Ws_lawfulNow_h4 this S d f v1 v2) := by
    intro  f
    induction f with
    | zero => intro v1 v2; exact J_no
    | succ f ih =>
      intro v1 v2
      unfold Ws_lawfulNow_h4
      refine JR_iload_n (pc := 4) (k := 2) (i := 2) G rfl rfl dX0_lawfulNow_4 ?_
      refine JR_aload_n (pc := 5) (k := 0) (i := 0) (o := some this) G rfl rfl dX0_lawfulNow_5 ?_
      refine J_bd (fun z1 hz1 => ?_)
      refine JPV_I (pc := 6) (as := []) (st' := [.int v2]) (o := some this) G (Ws_tasks_fn this S d) (JC_V (n := 0) G hRm cl_X0 q423 q425 qs1 q137 q426 ⟨rfl, dd_X0_tasks⟩ ⟨by decide, by decide⟩ dX0_lawfulNow_6 hz1 rfl (Nat.le_of_ble_eq_true rfl)) rfl (fun r2 hr2 => ?_)
      refine JR_icmp_ge (pc := 9) (tgt := 40) G dX0_lawfulNow_9 (by decide) (fun c6 => ?_) (fun c6 => ?_)
      · refine JR_iload_n (pc := 40) (k := 1) (i := 1) G rfl rfl dX0_lawfulNow_40 ?_
        exact JR_iret (pc := 41) G hR dX0_lawfulNow_41 rfl rfl
      · refine JR_iload_n (pc := 12) (k := 1) (i := 1) G rfl rfl dX0_lawfulNow_12 ?_
        refine JR_aload_n (pc := 13) (k := 0) (i := 0) (o := some this) G rfl rfl dX0_lawfulNow_13 ?_
        refine JR_iload_n (pc := 14) (k := 2) (i := 2) G rfl rfl dX0_lawfulNow_14 ?_
        refine JR_iload_n (pc := 15) (k := 2) (i := 2) G rfl rfl dX0_lawfulNow_15 ?_
        refine JPS_I (pc := 16) (as := [.int v2]) (st' := [.int v2, va_rf (some this), .int v1]) G (Ws_lesser_fn v2 S d) (JC_S (n := 1) G hRm q1029 q1030 q137 q1031 dd_X0_lesser ⟨by decide, by decide⟩ dX0_lawfulNow_16 rfl (Nat.le_of_ble_eq_true rfl)) rfl (fun r3 hr3 => ?_)
        refine JPV_I (pc := 19) (as := [.int v2, .int r3]) (st' := [.int v1]) (o := some this) G (Ws_isLawful_fn this v2 r3 S d) (JC_V (n := 2) G hRm cl_X0 q1070 q1072 qs27 q137 q1073 ⟨rfl, dd_X0_isLawful⟩ ⟨by decide, by decide⟩ dX0_lawfulNow_19 hz1 rfl (Nat.le_of_ble_eq_true rfl)) rfl (fun r4 hr4 => ?_)
        refine J_eq (r' := if r4 = 0 then Ws_lawfulNow_b32 this S d (Ws_lawfulNow_h4 this S d f) v2 0 v1 else Ws_lawfulNow_b32 this S d (Ws_lawfulNow_h4 this S d f) v2 (1 <<< (v2 &&& 31)) v1) (by split <;> rfl) ?_
        refine JR_if_eq (pc := 22) (tgt := 31) G dX0_lawfulNow_22 (by decide) (fun c5 => ?_) (fun c5 => ?_)
        · refine JR_iconst (pc := 31) G ci_0 dX0_lawfulNow_31 ?_
          refine J_sub [0, 2] rfl ?_
          exact hWs_lawfulNow_b32 (Ws_lawfulNow_h4 this S d f) ih v2 0 v1
        · refine JR_iconst (pc := 25) G ci_1 dX0_lawfulNow_25 ?_
          refine JR_iload_n (pc := 26) (k := 2) (i := 2) G rfl rfl dX0_lawfulNow_26 ?_
          refine JR_ishl (pc := 27) G dX0_lawfulNow_27 ?_
          refine JR_goto (pc := 28) (tgt := 32) G dX0_lawfulNow_28 (by decide) ?_
          refine J_sub [0, 2] rfl ?_
          exact hWs_lawfulNow_b32 (Ws_lawfulNow_h4 this S d f) ih v2 (1 <<< (v2 &&& 31)) v1
  unfold Ws_lawfulNow
  refine JR_iconst (pc := 0) G ci_0 dX0_lawfulNow_0 ?_
  refine JR_istore_n (pc := 1) (k := 1) (i := 1) (lv' := [(1, .int 0), (0, va_rf (some this))]) G rfl (by decide) rfl dX0_lawfulNow_1 ?_
  refine JR_iconst (pc := 2) G ci_0 dX0_lawfulNow_2 ?_
  refine JR_istore_n (pc := 3) (k := 2) (i := 2) (lv' := [(2, .int 0), (1, .int 0), (0, va_rf (some this))]) G rfl (by decide) rfl dX0_lawfulNow_3 ?_
  refine J_sub [2, 1, 0] rfl ?_
  exact hWs_lawfulNow_h4 FU 0 0

def Ws_room_h27 (this : Nat) (p1 : Int32) (S : Sp) : Nat → Int32 → Dt → Option (Int32 × Dt)
  | 0, _, _ => none
  | f + 1, v2, d =>
    (isK S 0 (some this)).bind fun z7 =>
    if (d.1 z7 7) ≤ 0 then
      (some (dI d z7 6 ((-1)))).bind fun d8 =>
      some (0, d8)
    else
      (Ws_lawfulNow this S d).bind fun r9 =>
      if ¬ (r9 &&& v2) = v2 then
        (some (dI d z7 7 ((d.1 z7 7) - 1))).bind fun d10 =>
        Ws_room_h27 this p1 S f v2 d10
      else
        (some (d.1 z7 7)).bind fun x11 =>
        (some (dI d z7 6 ((-1)))).bind fun d12 =>
        some (x11, d12)
def Ws_room (this : Nat) (p1 : Int32) (S : Sp) (d : Dt) : Option (Int32 × Dt) :=
  (isK S 0 (some this)).bind fun z1 =>
  (Ws_isTask this p1 S d).bind fun r2 =>
  if ¬ r2 = 0 then
    (Ws_lawfulNow this S d).bind fun r3 =>
    (some (dI d z1 6 p1)).bind fun d4 =>
    (some (dI d4 z1 7 50)).bind fun d5 =>
    Ws_room_h27 this p1 S FU r3 d5
  else
    some ((-2), d)
set_option maxHeartbeats 4000000 in
theorem Ws_room_fn (this : Nat) (p1 : Int32) (S : Sp) (d : Dt) : Fn yX0_room (wsW_ yX0_room cX0_room 5 (some .int) [((16), (49), (78), (0)), ((56), (71), (78), (0)), ((78), (80), (78), (0))]) 15 361 [va_rf (some this), .int p1] S d rvI Λw (Ws_room this p1 S d) := by
  refine Fn.ofJH (own := RX0) (lv := [(0, va_rf (some this)), (1, .int p1)]) (by decide +kernel) rfl (by simp [cat_i, cat_l, cat_f, cat_d, rf_cat]) (by simp [lv_args, cat_i, cat_l, cat_f, cat_d, rf_cat]) ?_
  intro X F G hRm hR hE
  have hWs_room_h27 : ∀ (f : Nat) (v2 : Int32) (d : Dt), J X F Λw S d 27 [(0, va_rf (some this)), (1, .int p1), (2, .int v2)] [] (Ws_room_h27 this p1 S f v2 d) := by
    intro  f
    induction f with
    | zero => intro v2 d; exact J_no
    | succ f ih =>
      intro v2 d
      unfold Ws_room_h27
      refine JR_aload_n (pc := 27) (k := 0) (i := 0) (o := some this) G rfl rfl dX0_room_27 ?_
      refine J_bd (fun z7 hz7 => ?_)
      refine JR_gI (pc := 28) (k := 7) G cl_X0 in_X0 (by decide) (by decide) rfl (Or.inl rfl) q458 hz7 dX0_room_28 ?_
      refine JR_if_le (pc := 31) (tgt := 69) G dX0_room_31 (by decide) (fun c14 => ?_) (fun c14 => ?_)
      · refine JR_iconst (pc := 69) G ci_0 dX0_room_69 ?_
        refine JR_istore_n (pc := 70) (k := 3) (i := 3) (lv' := [(3, .int 0), (0, va_rf (some this)), (1, .int p1), (2, .int v2)]) G rfl (by decide) rfl dX0_room_70 ?_
        refine JR_aload_n (pc := 71) (k := 0) (i := 0) (o := some this) G rfl rfl dX0_room_71 ?_
        refine JR_iconst (pc := 72) G ci_m1 dX0_room_72 ?_
        refine JW_pI (pc := 73) (k := 6) G cl_X0 in_X0 tyX0_ok nmX0 (by decide) (by decide) rfl (Or.inl rfl) rfl q457 rfl rfl hz7 (fun _ => rfl) dX0_room_73 ?_
        refine J_nmD (fun d8 hd8 => ?_)
        refine JR_iload_n (pc := 76) (k := 3) (i := 3) G rfl rfl dX0_room_76 ?_
        exact JR_iret (pc := 77) G hR dX0_room_77 rfl rfl
      · refine JR_aload_n (pc := 34) (k := 0) (i := 0) (o := some this) G rfl rfl dX0_room_34 ?_
        refine JPV_I (pc := 35) (as := []) (st' := []) (o := some this) G (Ws_lawfulNow_fn this S d) (JC_V (n := 0) G hRm cl_X0 q1066 q1068 qs26 q137 q1069 ⟨rfl, dd_X0_lawfulNow⟩ ⟨by decide, by decide⟩ dX0_room_35 hz7 rfl (Nat.le_of_ble_eq_true rfl)) rfl (fun r9 hr9 => ?_)
        refine JR_iload_n (pc := 38) (k := 2) (i := 2) G rfl rfl dX0_room_38 ?_
        refine JR_iand (pc := 39) G dX0_room_39 ?_
        refine JR_iload_n (pc := 40) (k := 2) (i := 2) G rfl rfl dX0_room_40 ?_
        refine JR_icmp_ne (pc := 41) (tgt := 56) G dX0_room_41 (by decide) (fun c13 => ?_) (fun c13 => ?_)
        · refine JR_aload_n (pc := 56) (k := 0) (i := 0) (o := some this) G rfl rfl dX0_room_56 ?_
          refine JR_dup (pc := 57) G (rf_cat _) dX0_room_57 ?_
          refine JR_gI (pc := 58) (k := 7) G cl_X0 in_X0 (by decide) (by decide) rfl (Or.inl rfl) q458 hz7 dX0_room_58 ?_
          refine JR_iconst (pc := 61) G ci_1 dX0_room_61 ?_
          refine JR_isub (pc := 62) G dX0_room_62 ?_
          refine JW_pI (pc := 63) (k := 7) G cl_X0 in_X0 tyX0_ok nmX0 (by decide) (by decide) rfl (Or.inl rfl) rfl q458 rfl rfl hz7 (fun _ => rfl) dX0_room_63 ?_
          refine J_nmD (fun d10 hd10 => ?_)
          refine JR_goto (pc := 66) (tgt := 27) G dX0_room_66 (by decide) ?_
          exact ih v2 d10
        · refine JR_aload_n (pc := 44) (k := 0) (i := 0) (o := some this) G rfl rfl dX0_room_44 ?_
          refine JR_gI (pc := 45) (k := 7) G cl_X0 in_X0 (by decide) (by decide) rfl (Or.inl rfl) q458 hz7 dX0_room_45 ?_
          refine J_nm (fun x11 hx11 => ?_)
          refine JR_istore_n (pc := 48) (k := 3) (i := 3) (lv' := [(3, .int x11), (0, va_rf (some this)), (1, .int p1), (2, .int v2)]) G rfl (by decide) rfl dX0_room_48 ?_
          refine JR_aload_n (pc := 49) (k := 0) (i := 0) (o := some this) G rfl rfl dX0_room_49 ?_
          refine JR_iconst (pc := 50) G ci_m1 dX0_room_50 ?_
          refine JW_pI (pc := 51) (k := 6) G cl_X0 in_X0 tyX0_ok nmX0 (by decide) (by decide) rfl (Or.inl rfl) rfl q457 rfl rfl hz7 (fun _ => rfl) dX0_room_51 ?_
          refine J_nmD (fun d12 hd12 => ?_)
          refine JR_iload_n (pc := 54) (k := 3) (i := 3) G rfl rfl dX0_room_54 ?_
          exact JR_iret (pc := 55) G hR dX0_room_55 rfl rfl
  unfold Ws_room
  refine JR_aload_n (pc := 0) (k := 0) (i := 0) (o := some this) G rfl rfl dX0_room_0 ?_
  refine JR_iload_n (pc := 1) (k := 1) (i := 1) G rfl rfl dX0_room_1 ?_
  refine J_bd (fun z1 hz1 => ?_)
  refine JPV_I (pc := 2) (as := [.int p1]) (st' := []) (o := some this) G (Ws_isTask_fn this p1 S d) (JC_V (n := 1) G hRm cl_X0 q985 q987 qs21 q137 q988 ⟨rfl, dd_X0_isTask⟩ ⟨by decide, by decide⟩ dX0_room_2 hz1 rfl (Nat.le_of_ble_eq_true rfl)) rfl (fun r2 hr2 => ?_)
  refine JR_if_ne (pc := 5) (tgt := 11) G dX0_room_5 (by decide) (fun c6 => ?_) (fun c6 => ?_)
  · refine JR_aload_n (pc := 11) (k := 0) (i := 0) (o := some this) G rfl rfl dX0_room_11 ?_
    refine JPV_I (pc := 12) (as := []) (st' := []) (o := some this) G (Ws_lawfulNow_fn this S d) (JC_V (n := 0) G hRm cl_X0 q1066 q1068 qs26 q137 q1069 ⟨rfl, dd_X0_lawfulNow⟩ ⟨by decide, by decide⟩ dX0_room_12 hz1 rfl (Nat.le_of_ble_eq_true rfl)) rfl (fun r3 hr3 => ?_)
    refine JR_istore_n (pc := 15) (k := 2) (i := 2) (lv' := [(2, .int r3), (0, va_rf (some this)), (1, .int p1)]) G rfl (by decide) rfl dX0_room_15 ?_
    refine JR_aload_n (pc := 16) (k := 0) (i := 0) (o := some this) G rfl rfl dX0_room_16 ?_
    refine JR_iload_n (pc := 17) (k := 1) (i := 1) G rfl rfl dX0_room_17 ?_
    refine JW_pI (pc := 18) (k := 6) G cl_X0 in_X0 tyX0_ok nmX0 (by decide) (by decide) rfl (Or.inl rfl) rfl q457 rfl rfl hz1 (fun _ => rfl) dX0_room_18 ?_
    refine J_nmD (fun d4 hd4 => ?_)
    refine JR_aload_n (pc := 21) (k := 0) (i := 0) (o := some this) G rfl rfl dX0_room_21 ?_
    refine JR_bipush (pc := 22) (v := 50) G (by decide) dX0_room_22 ?_
    refine JW_pI (pc := 24) (k := 7) G cl_X0 in_X0 tyX0_ok nmX0 (by decide) (by decide) rfl (Or.inl rfl) rfl q458 rfl rfl hz1 (fun _ => rfl) dX0_room_24 ?_
    refine J_nmD (fun d5 hd5 => ?_)
    refine J_sub [1, 2, 0] rfl ?_
    exact hWs_room_h27 FU r3 d5
  · refine JR_bipush (pc := 8) (v := (-2)) G (by decide) dX0_room_8 ?_
    exact JR_iret (pc := 10) G hR dX0_room_10 rfl rfl

def Ws_follows (p0 : Int32) (p1 : Int32) (S : Sp) (d : Dt) : Option Int32 :=
  some (irm (((5 * p0) + p1) + 1) 64)
set_option maxHeartbeats 4000000 in
theorem Ws_follows_fn (p0 : Int32) (p1 : Int32) (S : Sp) (d : Dt) : Fn yX0_follows (ws_ yX0_follows cX0_follows 2 (some .int)) 0 0 [.int p0, .int p1] S d rvI Λp (Ws_follows p0 p1 S d) := by
  refine Fn.ofJ (own := RX0) (lv := [(0, .int p0), (1, .int p1)]) (by decide +kernel) rfl (by simp [cat_i, cat_l, cat_f, cat_d, rf_cat]) (by simp [lv_args, cat_i, cat_l, cat_f, cat_d, rf_cat]) ?_
  intro X F G hRm hR hI
  unfold Ws_follows
  refine JR_iconst (pc := 0) G ci_5 dX0_follows_0 ?_
  refine JR_iload_n (pc := 1) (k := 0) (i := 0) G rfl rfl dX0_follows_1 ?_
  refine JR_imul (pc := 2) G dX0_follows_2 ?_
  refine JR_iload_n (pc := 3) (k := 1) (i := 1) G rfl rfl dX0_follows_3 ?_
  refine JR_iadd (pc := 4) G dX0_follows_4 ?_
  refine JR_iconst (pc := 5) G ci_1 dX0_follows_5 ?_
  refine JR_iadd (pc := 6) G dX0_follows_6 ?_
  refine JR_bipush (pc := 7) (v := 64) G (by decide) dX0_follows_7 ?_
  refine JR_irem (pc := 9) G (by decide) dX0_follows_9 ?_
  exact JR_iret (pc := 10) G hR dX0_follows_10 rfl rfl

def Ta_next_h26 (this : Nat) (p1 : Int32) (p2 : Int32) (S : Sp) (d : Dt) : Nat → Int32 → Int32 → Option Int32
  | 0, _, _ => none
  | f + 1, v4, v5 =>
    (isK S 12 (some this)).bind fun z8 =>
    (aix S 50 (S.2.1 z8 7) p1).bind fun q9 =>
    (Ws_isOn (d.1 q9.1 q9.2) v5 S d).bind fun r10 =>
    if r10 = 0 then
      Ta_next_h26 this p1 p2 S d f v4 (v5 + 1)
    else
      if v4 ≤ 0 then
        some v5
      else
        Ta_next_h26 this p1 p2 S d f (v4 + (-1)) (v5 + 1)
def Ta_next (this : Nat) (p1 : Int32) (p2 : Int32) (S : Sp) (d : Dt) : Option Int32 :=
  (isK S 12 (some this)).bind fun z1 =>
  (aix S 50 (S.2.1 z1 7) p1).bind fun q2 =>
  (Ji_bitCount (d.1 q2.1 q2.2) S d).bind fun r3 =>
  if ¬ r3 = 0 then
    (gz r3).bind fun u4 =>
    (some (irm p2 r3)).bind fun x5 =>
    (some (p1 + 1)).bind fun x6 =>
    Ta_next_h26 this p1 p2 S d FU x5 x6
  else
    some ((-1))
set_option maxHeartbeats 4000000 in
theorem Ta_next_fn (this : Nat) (p1 : Int32) (p2 : Int32) (S : Sp) (d : Dt) : Fn yX13_next (ws_ yX13_next cX13_next 6 (some .int)) 1 21 [va_rf (some this), .int p1, .int p2] S d rvI Λp (Ta_next this p1 p2 S d) := by
  refine Fn.ofJ (own := RX13) (lv := [(0, va_rf (some this)), (1, .int p1), (2, .int p2)]) (by decide +kernel) rfl (by simp [cat_i, cat_l, cat_f, cat_d, rf_cat]) (by simp [lv_args, cat_i, cat_l, cat_f, cat_d, rf_cat]) ?_
  intro X F G hRm hR hI
  have hTa_next_h26 : ∀ (f : Nat) (v4 : Int32) (v5 : Int32), J X F Λp S d 26 [(0, va_rf (some this)), (1, .int p1), (2, .int p2), (4, .int v4), (5, .int v5)] [] (Ta_next_h26 this p1 p2 S d f v4 v5) := by
    intro  f
    induction f with
    | zero => intro v4 v5; exact J_no
    | succ f ih =>
      intro v4 v5
      unfold Ta_next_h26
      refine JR_aload_n (pc := 26) (k := 0) (i := 0) (o := some this) G rfl rfl dX13_next_26 ?_
      refine J_bd (fun z8 hz8 => ?_)
      refine JR_gR (pc := 27) (k := 7) G cl_X13 in_X13 (by decide) (by decide) rfl (Or.inl rfl) q833 hz8 dX13_next_27 ?_
      refine JR_iload_n (pc := 30) (k := 1) (i := 1) G rfl rfl dX13_next_30 ?_
      refine J_bd (fun q9 hq9 => ?_)
      refine JR_iaload (pc := 31) G hq9 dX13_next_31 ?_
      refine JR_iload (pc := 32) (i := 5) G rfl dX13_next_32 ?_
      refine JPS_I (pc := 34) (as := [.int (d.1 q9.1 q9.2), .int v5]) (st' := []) G (Ws_isOn_fn (d.1 q9.1 q9.2) v5 S d) (JC_SN (n := 2) G hRm q938 q932 q137 q933 dd_X0_isOn ⟨by decide, by decide⟩ dX13_next_34 rfl (Nat.le_of_ble_eq_true rfl)) rfl (fun r10 hr10 => ?_)
      refine JR_if_eq (pc := 37) (tgt := 48) G dX13_next_37 (by decide) (fun c12 => ?_) (fun c12 => ?_)
      · refine JR_iinc (pc := 48) (i := 5) (v := v5 + 1) (lv' := [(5, .int (v5 + 1)), (0, va_rf (some this)), (1, .int p1), (2, .int p2), (4, .int v4)]) G rfl (congrArg (fun z => v5 + z) (by decide)) (by decide) rfl dX13_next_48 ?_
        refine JR_goto (pc := 51) (tgt := 26) G dX13_next_51 (by decide) ?_
        refine J_sub [1, 2, 3, 4, 0] rfl ?_
        exact ih v4 (v5 + 1)
      · refine JR_iload (pc := 40) (i := 4) G rfl dX13_next_40 ?_
        refine JR_iinc (pc := 42) (i := 4) (v := v4 + (-1)) (lv' := [(4, .int (v4 + (-1))), (0, va_rf (some this)), (1, .int p1), (2, .int p2), (5, .int v5)]) G rfl (congrArg (fun z => v4 + z) (by decide)) (by decide) rfl dX13_next_42 ?_
        refine JR_if_le (pc := 45) (tgt := 54) G dX13_next_45 (by decide) (fun c11 => ?_) (fun c11 => ?_)
        · refine JR_iload (pc := 54) (i := 5) G rfl dX13_next_54 ?_
          exact JR_iret (pc := 56) G hR dX13_next_56 rfl rfl
        · refine JR_iinc (pc := 48) (i := 5) (v := v5 + 1) (lv' := [(5, .int (v5 + 1)), (4, .int (v4 + (-1))), (0, va_rf (some this)), (1, .int p1), (2, .int p2)]) G rfl (congrArg (fun z => v5 + z) (by decide)) (by decide) rfl dX13_next_48 ?_
          refine JR_goto (pc := 51) (tgt := 26) G dX13_next_51 (by decide) ?_
          refine J_sub [2, 3, 4, 1, 0] rfl ?_
          exact ih (v4 + (-1)) (v5 + 1)
  unfold Ta_next
  refine JR_aload_n (pc := 0) (k := 0) (i := 0) (o := some this) G rfl rfl dX13_next_0 ?_
  refine J_bd (fun z1 hz1 => ?_)
  refine JR_gR (pc := 1) (k := 7) G cl_X13 in_X13 (by decide) (by decide) rfl (Or.inl rfl) q833 hz1 dX13_next_1 ?_
  refine JR_iload_n (pc := 4) (k := 1) (i := 1) G rfl rfl dX13_next_4 ?_
  refine J_bd (fun q2 hq2 => ?_)
  refine JR_iaload (pc := 5) G hq2 dX13_next_5 ?_
  refine JPS_I (pc := 6) (as := [.int (d.1 q2.1 q2.2)]) (st' := []) G (Ji_bitCount_fn (d.1 q2.1 q2.2) S d) (JC_S (n := 1) G hRm q1087 q1088 q168 q1089 dd_J14_bitCount ⟨by decide, by decide⟩ dX13_next_6 rfl (Nat.le_of_ble_eq_true rfl)) rfl (fun r3 hr3 => ?_)
  refine JR_istore_n (pc := 9) (k := 3) (i := 3) (lv' := [(3, .int r3), (0, va_rf (some this)), (1, .int p1), (2, .int p2)]) G rfl (by decide) rfl dX13_next_9 ?_
  refine JR_iload_n (pc := 10) (k := 3) (i := 3) G rfl rfl dX13_next_10 ?_
  refine JR_if_ne (pc := 11) (tgt := 16) G dX13_next_11 (by decide) (fun c7 => ?_) (fun c7 => ?_)
  · refine JR_iload_n (pc := 16) (k := 2) (i := 2) G rfl rfl dX13_next_16 ?_
    refine JR_iload_n (pc := 17) (k := 3) (i := 3) G rfl rfl dX13_next_17 ?_
    refine J_bd (fun u4 hu4 => ?_)
    refine JR_irem (pc := 18) G (gz_at hu4) dX13_next_18 ?_
    refine J_nm (fun x5 hx5 => ?_)
    refine JR_istore (pc := 19) (i := 4) (lv' := [(4, .int x5), (3, .int r3), (0, va_rf (some this)), (1, .int p1), (2, .int p2)]) G (by decide) rfl dX13_next_19 ?_
    refine JR_iload_n (pc := 21) (k := 1) (i := 1) G rfl rfl dX13_next_21 ?_
    refine JR_iconst (pc := 22) G ci_1 dX13_next_22 ?_
    refine JR_iadd (pc := 23) G dX13_next_23 ?_
    refine J_nm (fun x6 hx6 => ?_)
    refine JR_istore (pc := 24) (i := 5) (lv' := [(5, .int x6), (4, .int x5), (3, .int r3), (0, va_rf (some this)), (1, .int p1), (2, .int p2)]) G (by decide) rfl dX13_next_24 ?_
    refine J_sub [3, 4, 5, 1, 0] rfl ?_
    exact hTa_next_h26 FU x5 x6
  · refine JR_iconst (pc := 14) G ci_m1 dX13_next_14 ?_
    exact JR_iret (pc := 15) G hR dX13_next_15 rfl rfl

def Ws_answer_h41 (this : Nat) (p1 : Int32) (p2 : Int32) (p3 : Int32) (S : Sp) (d : Dt) : Nat → Int32 → Int32 → Option Int32
  | 0, _, _ => none
  | f + 1, v4, v5 =>
    if v5 = ((-1)) then
      some v4
    else
      (Ws_follows v4 v5 S d).bind fun r8 =>
      (isK S 0 (some this)).bind fun z9 =>
      (Ws_taskOf this p1 S d).bind fun r10 =>
      (isK S 12 r10).bind fun z11 =>
      (Ta_next z11 v5 p2 S d).bind fun r12 =>
      Ws_answer_h41 this p1 p2 p3 S d f r8 r12
def Ws_answer (this : Nat) (p1 : Int32) (p2 : Int32) (p3 : Int32) (S : Sp) (d : Dt) : Option Int32 :=
  (isK S 0 (some this)).bind fun z1 =>
  (Ws_isTask this p1 S d).bind fun r2 =>
  if r2 = 0 then
    some ((-2))
  else
    (Ws_in (Int32.toInt64 p2) 0 50 S d).bind fun r3 =>
    if r3 = 0 then
      some ((-2))
    else
      (Ws_in (Int32.toInt64 p3) 0 63 S d).bind fun r4 =>
      if ¬ r4 = 0 then
        Ws_answer_h41 this p1 p2 p3 S d FU p3 0
      else
        some ((-2))
set_option maxHeartbeats 4000000 in
theorem Ws_answer_fn (this : Nat) (p1 : Int32) (p2 : Int32) (p3 : Int32) (S : Sp) (d : Dt) : Fn yX0_answer (ws_ yX0_answer cX0_answer 6 (some .int)) 4 85 [va_rf (some this), .int p1, .int p2, .int p3] S d rvI Λp (Ws_answer this p1 p2 p3 S d) := by
  refine Fn.ofJ (own := RX0) (lv := [(0, va_rf (some this)), (1, .int p1), (2, .int p2), (3, .int p3)]) (by decide +kernel) rfl (by simp [cat_i, cat_l, cat_f, cat_d, rf_cat]) (by simp [lv_args, cat_i, cat_l, cat_f, cat_d, rf_cat]) ?_
  intro X F G hRm hR hI
  have hWs_answer_h41 : ∀ (f : Nat) (v4 : Int32) (v5 : Int32), J X F Λp S d 41 [(0, va_rf (some this)), (1, .int p1), (2, .int p2), (3, .int p3), (4, .int v4), (5, .int v5)] [] (Ws_answer_h41 this p1 p2 p3 S d f v4 v5) := by
    intro  f
    induction f with
    | zero => intro v4 v5; exact J_no
    | succ f ih =>
      intro v4 v5
      unfold Ws_answer_h41
      refine JR_iload (pc := 41) (i := 5) G rfl dX0_answer_41 ?_
      refine JR_iconst (pc := 43) G ci_m1 dX0_answer_43 ?_
      refine JR_icmp_eq (pc := 44) (tgt := 72) G dX0_answer_44 (by decide) (fun c13 => ?_) (fun c13 => ?_)
      · refine JR_iload (pc := 72) (i := 4) G rfl dX0_answer_72 ?_
        exact JR_iret (pc := 74) G hR dX0_answer_74 rfl rfl
      · refine JR_iload (pc := 47) (i := 4) G rfl dX0_answer_47 ?_
        refine JR_iload (pc := 49) (i := 5) G rfl dX0_answer_49 ?_
        refine JPS_I (pc := 51) (as := [.int v4, .int v5]) (st' := []) G (Ws_follows_fn v4 v5 S d) (JC_S (n := 2) G hRm q1080 q1081 q137 q1082 dd_X0_follows ⟨by decide, by decide⟩ dX0_answer_51 rfl (Nat.le_of_ble_eq_true rfl)) rfl (fun r8 hr8 => ?_)
        refine JR_istore (pc := 54) (i := 4) (lv' := [(4, .int r8), (0, va_rf (some this)), (1, .int p1), (2, .int p2), (3, .int p3), (5, .int v5)]) G (by decide) rfl dX0_answer_54 ?_
        refine JR_aload_n (pc := 56) (k := 0) (i := 0) (o := some this) G rfl rfl dX0_answer_56 ?_
        refine JR_iload_n (pc := 57) (k := 1) (i := 1) G rfl rfl dX0_answer_57 ?_
        refine J_bd (fun z9 hz9 => ?_)
        refine JPV_R (pc := 58) (as := [.int p1]) (st' := []) (o := some this) G (Ws_taskOf_fn this p1 S d) (JC_V (n := 1) G hRm cl_X0 q431 q433 qs2 q137 q434 ⟨rfl, dd_X0_taskOf⟩ ⟨by decide, by decide⟩ dX0_answer_58 hz9 rfl (Nat.le_of_ble_eq_true rfl)) rfl (fun r10 hr10 => ?_)
        refine JR_iload (pc := 61) (i := 5) G rfl dX0_answer_61 ?_
        refine JR_iload_n (pc := 63) (k := 2) (i := 2) G rfl rfl dX0_answer_63 ?_
        refine J_bd (fun z11 hz11 => ?_)
        refine J_stk (st' := [.int p2, .int v5, va_rf (some z11)]) (by rw [(isK_at hz11).1]) ?_
        refine JPV_I (pc := 64) (as := [.int v5, .int p2]) (st' := []) (o := some z11) G (Ta_next_fn z11 v5 p2 S d) (JC_V (n := 2) G hRm cl_X13 q1083 q1084 q1085 q162 q1086 ⟨rfl, dd_X13_next⟩ ⟨by decide, by decide⟩ dX0_answer_64 (isK_s hz11) rfl (Nat.le_of_ble_eq_true rfl)) rfl (fun r12 hr12 => ?_)
        refine JR_istore (pc := 67) (i := 5) (lv' := [(5, .int r12), (4, .int r8), (0, va_rf (some this)), (1, .int p1), (2, .int p2), (3, .int p3)]) G (by decide) rfl dX0_answer_67 ?_
        refine JR_goto (pc := 69) (tgt := 41) G dX0_answer_69 (by decide) ?_
        refine J_sub [2, 3, 4, 5, 1, 0] rfl ?_
        exact ih r8 r12
  unfold Ws_answer
  refine JR_aload_n (pc := 0) (k := 0) (i := 0) (o := some this) G rfl rfl dX0_answer_0 ?_
  refine JR_iload_n (pc := 1) (k := 1) (i := 1) G rfl rfl dX0_answer_1 ?_
  refine J_bd (fun z1 hz1 => ?_)
  refine JPV_I (pc := 2) (as := [.int p1]) (st' := []) (o := some this) G (Ws_isTask_fn this p1 S d) (JC_V (n := 1) G hRm cl_X0 q985 q987 qs21 q137 q988 ⟨rfl, dd_X0_isTask⟩ ⟨by decide, by decide⟩ dX0_answer_2 hz1 rfl (Nat.le_of_ble_eq_true rfl)) rfl (fun r2 hr2 => ?_)
  refine JR_if_eq (pc := 5) (tgt := 32) G dX0_answer_5 (by decide) (fun c7 => ?_) (fun c7 => ?_)
  · refine JR_bipush (pc := 32) (v := (-2)) G (by decide) dX0_answer_32 ?_
    exact JR_iret (pc := 34) G hR dX0_answer_34 rfl rfl
  · refine JR_iload_n (pc := 8) (k := 2) (i := 2) G rfl rfl dX0_answer_8 ?_
    refine JR_i2l (pc := 9) G dX0_answer_9 ?_
    refine JR_lconst (pc := 10) G cl_0 dX0_answer_10 ?_
    refine JR_ldc2 (pc := 11) G q1078 dX0_answer_11 ?_
    refine JPS_I (pc := 14) (as := [.long (Int32.toInt64 p2), .long 0, .long 50]) (st' := []) G (Ws_in_fn (Int32.toInt64 p2) 0 50 S d) (JC_S (n := 3) G hRm q575 q576 q137 q577 dd_X0_in ⟨by decide, by decide⟩ dX0_answer_14 rfl (Nat.le_of_ble_eq_true rfl)) rfl (fun r3 hr3 => ?_)
    refine JR_if_eq (pc := 17) (tgt := 32) G dX0_answer_17 (by decide) (fun c6 => ?_) (fun c6 => ?_)
    · refine JR_bipush (pc := 32) (v := (-2)) G (by decide) dX0_answer_32 ?_
      exact JR_iret (pc := 34) G hR dX0_answer_34 rfl rfl
    · refine JR_iload_n (pc := 20) (k := 3) (i := 3) G rfl rfl dX0_answer_20 ?_
      refine JR_i2l (pc := 21) G dX0_answer_21 ?_
      refine JR_lconst (pc := 22) G cl_0 dX0_answer_22 ?_
      refine JR_ldc2 (pc := 23) G q1079 dX0_answer_23 ?_
      refine JPS_I (pc := 26) (as := [.long (Int32.toInt64 p3), .long 0, .long 63]) (st' := []) G (Ws_in_fn (Int32.toInt64 p3) 0 63 S d) (JC_S (n := 3) G hRm q575 q576 q137 q577 dd_X0_in ⟨by decide, by decide⟩ dX0_answer_26 rfl (Nat.le_of_ble_eq_true rfl)) rfl (fun r4 hr4 => ?_)
      refine JR_if_ne (pc := 29) (tgt := 35) G dX0_answer_29 (by decide) (fun c5 => ?_) (fun c5 => ?_)
      · refine JR_iload_n (pc := 35) (k := 3) (i := 3) G rfl rfl dX0_answer_35 ?_
        refine JR_istore (pc := 36) (i := 4) (lv' := [(4, .int p3), (0, va_rf (some this)), (1, .int p1), (2, .int p2), (3, .int p3)]) G (by decide) rfl dX0_answer_36 ?_
        refine JR_iconst (pc := 38) G ci_0 dX0_answer_38 ?_
        refine JR_istore (pc := 39) (i := 5) (lv' := [(5, .int 0), (4, .int p3), (0, va_rf (some this)), (1, .int p1), (2, .int p2), (3, .int p3)]) G (by decide) rfl dX0_answer_39 ?_
        refine J_sub [2, 3, 4, 5, 1, 0] rfl ?_
        exact hWs_answer_h41 FU p3 0
      · refine JR_bipush (pc := 32) (v := (-2)) G (by decide) dX0_answer_32 ?_
        exact JR_iret (pc := 34) G hR dX0_answer_34 rfl rfl

def Ws_answersFrom_h32 (this : Nat) (p1 : Option Nat) (p2 : Int32) (p3 : Int32) (rec : Nat → (Option Nat) → Int32 → Int32 → Sp → Dt → Option (Unit × Dt)) (S : Sp) : Nat → Int32 → Int32 → Dt → Option (Unit × Dt)
  | 0, _, _, _ => none
  | f + 1, v4, v5, d =>
    (isK S 12 p1).bind fun z9 =>
    if (d.1 z9 8) ≤ v5 then
      some ((), d)
    else
      (aix S 50 (S.2.1 z9 7) p2).bind fun q10 =>
      (Ws_isOn (d.1 q10.1 q10.2) v5 S d).bind fun r11 =>
      if r11 = 0 then
        Ws_answersFrom_h32 this p1 p2 p3 rec S f v4 (v5 + 1) d
      else
        (isK S 0 (some this)).bind fun z12 =>
        bind2 (rec this p1 v5 v4 S d) fun _ d13 =>
        Ws_answersFrom_h32 this p1 p2 p3 rec S f v4 (v5 + 1) d13
def Ws_answersFrom_b27 (this : Nat) (p1 : Option Nat) (p2 : Int32) (p3 : Int32) (rec : Nat → (Option Nat) → Int32 → Int32 → Sp → Dt → Option (Unit × Dt)) (S : Sp) (v4 : Int32) (d : Dt) : Option (Unit × Dt) :=
  (some (p2 + 1)).bind fun x8 =>
  Ws_answersFrom_h32 this p1 p2 p3 rec S FU v4 x8 d
def Ws_answersFrom : Nat → Nat → (Option Nat) → Int32 → Int32 → Sp → Dt → Option (Unit × Dt)
  | 0, _, _, _, _, _, _ => none
  | k + 1, this, p1, p2, p3, S, d =>
    (Ws_follows p3 p2 S d).bind fun r1 =>
    (isK S 12 p1).bind fun z2 =>
    (aix S 50 (S.2.1 z2 7) p2).bind fun q3 =>
    if ¬ (d.1 q3.1 q3.2) = 0 then
      Ws_answersFrom_b27 this p1 p2 p3 (Ws_answersFrom k) S r1 d
    else
      (isK S 0 (some this)).bind fun z4 =>
      (aix S 50 (S.2.1 z4 8) r1).bind fun q5 =>
      (some (dI d q5.1 q5.2 ((d.1 q5.1 q5.2) + 1))).bind fun d6 =>
      Ws_answersFrom_b27 this p1 p2 p3 (Ws_answersFrom k) S r1 d6
set_option maxHeartbeats 4000000 in
theorem Ws_answersFrom_fn : ∀ (k : Nat) (this : Nat) (p1 : Option Nat) (p2 : Int32) (p3 : Int32) (S : Sp) (d : Dt), Fn yX0_answersFrom (ws_ yX0_answersFrom cX0_answersFrom 6 none) (k + 1) (25 * k + 21) [va_rf (some this), va_rf p1, .int p2, .int p3] S d rvU Λw (Ws_answersFrom k this p1 p2 p3 S d) := by
  intro k
  induction k with
  | zero => intros; exact Fn_none
  | succ k ihk =>
    intro this p1 p2 p3 S d
    refine Fn.ofJ (own := RX0) (lv := [(0, va_rf (some this)), (1, va_rf p1), (2, .int p2), (3, .int p3)]) (by decide +kernel) rfl (by simp [cat_i, cat_l, cat_f, cat_d, rf_cat]) (by simp [lv_args, cat_i, cat_l, cat_f, cat_d, rf_cat]) ?_
    intro X F G hRm hR hI
    have hWs_answersFrom_h32 : ∀ (f : Nat) (v4 : Int32) (v5 : Int32) (d : Dt), J X F Λw S d 32 [(0, va_rf (some this)), (1, va_rf p1), (2, .int p2), (3, .int p3), (4, .int v4), (5, .int v5)] [] (Ws_answersFrom_h32 this p1 p2 p3 (Ws_answersFrom k) S f v4 v5 d) := by
      intro  f
      induction f with
      | zero => intro v4 v5 d; exact J_no
      | succ f ih =>
        intro v4 v5 d
        unfold Ws_answersFrom_h32
        refine JR_iload (pc := 32) (i := 5) G rfl dX0_answersFrom_32 ?_
        refine JR_aload_n (pc := 34) (k := 1) (i := 1) (o := p1) G rfl rfl dX0_answersFrom_34 ?_
        refine J_bd (fun z9 hz9 => ?_)
        refine JR_gIN (pc := 35) (k := 8) G cl_X13 in_X13 (by decide) (by decide) rfl (Or.inl rfl) q837 hz9 dX0_answersFrom_35 ?_
        refine JR_icmp_ge (pc := 38) (tgt := 70) G dX0_answersFrom_38 (by decide) (fun c15 => ?_) (fun c15 => ?_)
        · exact JR_vret (pc := 70) G hR dX0_answersFrom_70 rfl rfl
        · refine JR_aload_n (pc := 41) (k := 1) (i := 1) (o := p1) G rfl rfl dX0_answersFrom_41 ?_
          refine JR_gRN (pc := 42) (k := 7) G cl_X13 in_X13 (by decide) (by decide) rfl (Or.inl rfl) q834 hz9 dX0_answersFrom_42 ?_
          refine JR_iload_n (pc := 45) (k := 2) (i := 2) G rfl rfl dX0_answersFrom_45 ?_
          refine J_bd (fun q10 hq10 => ?_)
          refine JR_iaload (pc := 46) G hq10 dX0_answersFrom_46 ?_
          refine JR_iload (pc := 47) (i := 5) G rfl dX0_answersFrom_47 ?_
          refine JPS_I (pc := 49) (as := [.int (d.1 q10.1 q10.2), .int v5]) (st' := []) G (Ws_isOn_fn (d.1 q10.1 q10.2) v5 S d) (JC_S (n := 2) G hRm q1044 q932 q137 q933 dd_X0_isOn ⟨by omega, by omega⟩ dX0_answersFrom_49 rfl (Nat.le_of_ble_eq_true rfl)) rfl (fun r11 hr11 => ?_)
          refine JR_if_eq (pc := 52) (tgt := 64) G dX0_answersFrom_52 (by decide) (fun c14 => ?_) (fun c14 => ?_)
          · refine JR_iinc (pc := 64) (i := 5) (v := v5 + 1) (lv' := [(5, .int (v5 + 1)), (0, va_rf (some this)), (1, va_rf p1), (2, .int p2), (3, .int p3), (4, .int v4)]) G rfl (congrArg (fun z => v5 + z) (by decide)) (by decide) rfl dX0_answersFrom_64 ?_
            refine JR_goto (pc := 67) (tgt := 32) G dX0_answersFrom_67 (by decide) ?_
            refine J_sub [1, 2, 3, 4, 5, 0] rfl ?_
            exact ih v4 (v5 + 1) d
          · refine JR_aload_n (pc := 55) (k := 0) (i := 0) (o := some this) G rfl rfl dX0_answersFrom_55 ?_
            refine JR_aload_n (pc := 56) (k := 1) (i := 1) (o := p1) G rfl rfl dX0_answersFrom_56 ?_
            refine JR_iload (pc := 57) (i := 5) G rfl dX0_answersFrom_57 ?_
            refine JR_iload (pc := 59) (i := 4) G rfl dX0_answersFrom_59 ?_
            refine J_bd (fun z12 hz12 => ?_)
            refine JQV_U (pc := 61) (as := [va_rf p1, .int v5, .int v4]) (st' := []) (o := some this) G (ihk this p1 v5 v4 S d) (JC_V (n := 3) G hRm cl_X0 q1097 q1099 qs28 q137 q1100 ⟨rfl, dd_X0_answersFrom⟩ ⟨by omega, by omega⟩ dX0_answersFrom_61 hz12 rfl (Nat.le_of_ble_eq_true rfl)) rfl (fun _ _ => rfl) (fun _ d13 hd13 => ?_)
            refine JR_iinc (pc := 64) (i := 5) (v := v5 + 1) (lv' := [(5, .int (v5 + 1)), (0, va_rf (some this)), (1, va_rf p1), (2, .int p2), (3, .int p3), (4, .int v4)]) G rfl (congrArg (fun z => v5 + z) (by decide)) (by decide) rfl dX0_answersFrom_64 ?_
            refine JR_goto (pc := 67) (tgt := 32) G dX0_answersFrom_67 (by decide) ?_
            refine J_sub [1, 2, 3, 4, 5, 0] rfl ?_
            exact ih v4 (v5 + 1) d13
    have hWs_answersFrom_b27 : ∀ (v4 : Int32) (d : Dt), J X F Λw S d 27 [(0, va_rf (some this)), (1, va_rf p1), (2, .int p2), (3, .int p3), (4, .int v4)] [] (Ws_answersFrom_b27 this p1 p2 p3 (Ws_answersFrom k) S v4 d) := by
      intro v4 d
      unfold Ws_answersFrom_b27
      refine JR_iload_n (pc := 27) (k := 2) (i := 2) G rfl rfl dX0_answersFrom_27 ?_
      refine JR_iconst (pc := 28) G ci_1 dX0_answersFrom_28 ?_
      refine JR_iadd (pc := 29) G dX0_answersFrom_29 ?_
      refine J_nm (fun x8 hx8 => ?_)
      refine JR_istore (pc := 30) (i := 5) (lv' := [(5, .int x8), (0, va_rf (some this)), (1, va_rf p1), (2, .int p2), (3, .int p3), (4, .int v4)]) G (by decide) rfl dX0_answersFrom_30 ?_
      refine J_sub [1, 2, 3, 4, 5, 0] rfl ?_
      exact hWs_answersFrom_h32 FU v4 x8 d
    unfold Ws_answersFrom
    refine JR_iload_n (pc := 0) (k := 3) (i := 3) G rfl rfl dX0_answersFrom_0 ?_
    refine JR_iload_n (pc := 1) (k := 2) (i := 2) G rfl rfl dX0_answersFrom_1 ?_
    refine JPS_I (pc := 2) (as := [.int p3, .int p2]) (st' := []) G (Ws_follows_fn p3 p2 S d) (JC_S (n := 2) G hRm q1080 q1081 q137 q1082 dd_X0_follows ⟨by omega, by omega⟩ dX0_answersFrom_2 rfl (Nat.le_of_ble_eq_true rfl)) rfl (fun r1 hr1 => ?_)
    refine JR_istore (pc := 5) (i := 4) (lv' := [(4, .int r1), (0, va_rf (some this)), (1, va_rf p1), (2, .int p2), (3, .int p3)]) G (by decide) rfl dX0_answersFrom_5 ?_
    refine JR_aload_n (pc := 7) (k := 1) (i := 1) (o := p1) G rfl rfl dX0_answersFrom_7 ?_
    refine J_bd (fun z2 hz2 => ?_)
    refine JR_gRN (pc := 8) (k := 7) G cl_X13 in_X13 (by decide) (by decide) rfl (Or.inl rfl) q834 hz2 dX0_answersFrom_8 ?_
    refine JR_iload_n (pc := 11) (k := 2) (i := 2) G rfl rfl dX0_answersFrom_11 ?_
    refine J_bd (fun q3 hq3 => ?_)
    refine JR_iaload (pc := 12) G hq3 dX0_answersFrom_12 ?_
    refine JR_if_ne (pc := 13) (tgt := 27) G dX0_answersFrom_13 (by decide) (fun c7 => ?_) (fun c7 => ?_)
    · refine J_sub [1, 2, 3, 4, 0] rfl ?_
      exact hWs_answersFrom_b27 r1 d
    · refine JR_aload_n (pc := 16) (k := 0) (i := 0) (o := some this) G rfl rfl dX0_answersFrom_16 ?_
      refine J_bd (fun z4 hz4 => ?_)
      refine JR_gR (pc := 17) (k := 8) G cl_X0 in_X0 (by decide) (by decide) rfl (Or.inl rfl) q459 hz4 dX0_answersFrom_17 ?_
      refine JR_iload (pc := 20) (i := 4) G rfl dX0_answersFrom_20 ?_
      refine JR_dup2 (pc := 22) G rfl (rf_cat _) dX0_answersFrom_22 ?_
      refine J_bd (fun q5 hq5 => ?_)
      refine JR_iaload (pc := 23) G hq5 dX0_answersFrom_23 ?_
      refine JR_iconst (pc := 24) G ci_1 dX0_answersFrom_24 ?_
      refine JR_iadd (pc := 25) G dX0_answersFrom_25 ?_
      refine JW_iastore (pc := 26) G hq5 (fun _ => rfl) dX0_answersFrom_26 ?_
      refine J_nmD (fun d6 hd6 => ?_)
      refine J_sub [1, 2, 3, 4, 0] rfl ?_
      exact hWs_answersFrom_b27 r1 d6

def Ws_alike_h60 (this : Nat) (p1 : Int32) (p2 : Int32) (S : Sp) : Nat → Int32 → Int32 → Dt → Option (Int32 × Dt)
  | 0, _, _, _ => none
  | f + 1, v3, v4, d =>
    if 64 ≤ v4 then
      some (v3, d)
    else
      (isK S 0 (some this)).bind fun z13 =>
      (aix S 50 (S.2.1 z13 8) v4).bind fun q14 =>
      (some (v3 + (((d.1 q14.1 q14.2) * ((d.1 q14.1 q14.2) - 1)) / 2))).bind fun x15 =>
      Ws_alike_h60 this p1 p2 S f x15 (v4 + 1) d
def Ws_alike_h25 (this : Nat) (p1 : Int32) (p2 : Int32) (S : Sp) : Nat → Int32 → Dt → Option (Int32 × Dt)
  | 0, _, _ => none
  | f + 1, v3, d =>
    if 64 ≤ v3 then
      (isK S 0 (some this)).bind fun z6 =>
      (Ws_taskOf this p1 S d).bind fun r7 =>
      bind2 (Ws_answersFrom 8 this r7 0 p2 S d) fun _ d8 =>
      Ws_alike_h60 this p1 p2 S FU 0 0 d8
    else
      (isK S 0 (some this)).bind fun z9 =>
      (aix S 50 (S.2.1 z9 8) v3).bind fun q10 =>
      (some (dI d q10.1 q10.2 0)).bind fun d11 =>
      Ws_alike_h25 this p1 p2 S f (v3 + 1) d11
def Ws_alike (this : Nat) (p1 : Int32) (p2 : Int32) (S : Sp) (d : Dt) : Option (Int32 × Dt) :=
  (isK S 0 (some this)).bind fun z1 =>
  (Ws_isTask this p1 S d).bind fun r2 =>
  if r2 = 0 then
    some ((-2), d)
  else
    (Ws_in (Int32.toInt64 p2) 0 63 S d).bind fun r3 =>
    if ¬ r3 = 0 then
      Ws_alike_h25 this p1 p2 S FU 0 d
    else
      some ((-2), d)
set_option maxHeartbeats 4000000 in
theorem Ws_alike_fn (this : Nat) (p1 : Int32) (p2 : Int32) (S : Sp) (d : Dt) : Fn yX0_alike (ws_ yX0_alike cX0_alike 5 (some .int)) 10 246 [va_rf (some this), .int p1, .int p2] S d rvI Λw (Ws_alike this p1 p2 S d) := by
  refine Fn.ofJ (own := RX0) (lv := [(0, va_rf (some this)), (1, .int p1), (2, .int p2)]) (by decide +kernel) rfl (by simp [cat_i, cat_l, cat_f, cat_d, rf_cat]) (by simp [lv_args, cat_i, cat_l, cat_f, cat_d, rf_cat]) ?_
  intro X F G hRm hR hI
  have hWs_alike_h60 : ∀ (f : Nat) (v3 : Int32) (v4 : Int32) (d : Dt), J X F Λw S d 60 [(0, va_rf (some this)), (1, .int p1), (2, .int p2), (3, .int v3), (4, .int v4)] [] (Ws_alike_h60 this p1 p2 S f v3 v4 d) := by
    intro  f
    induction f with
    | zero => intro v3 v4 d; exact J_no
    | succ f ih =>
      intro v3 v4 d
      unfold Ws_alike_h60
      refine JR_iload (pc := 60) (i := 4) G rfl dX0_alike_60 ?_
      refine JR_bipush (pc := 62) (v := 64) G (by decide) dX0_alike_62 ?_
      refine JR_icmp_ge (pc := 64) (tgt := 95) G dX0_alike_64 (by decide) (fun c16 => ?_) (fun c16 => ?_)
      · refine JR_iload_n (pc := 95) (k := 3) (i := 3) G rfl rfl dX0_alike_95 ?_
        exact JR_iret (pc := 96) G hR dX0_alike_96 rfl rfl
      · refine JR_iload_n (pc := 67) (k := 3) (i := 3) G rfl rfl dX0_alike_67 ?_
        refine JR_aload_n (pc := 68) (k := 0) (i := 0) (o := some this) G rfl rfl dX0_alike_68 ?_
        refine J_bd (fun z13 hz13 => ?_)
        refine JR_gR (pc := 69) (k := 8) G cl_X0 in_X0 (by decide) (by decide) rfl (Or.inl rfl) q459 hz13 dX0_alike_69 ?_
        refine JR_iload (pc := 72) (i := 4) G rfl dX0_alike_72 ?_
        refine J_bd (fun q14 hq14 => ?_)
        refine JR_iaload (pc := 74) G hq14 dX0_alike_74 ?_
        refine JR_aload_n (pc := 75) (k := 0) (i := 0) (o := some this) G rfl rfl dX0_alike_75 ?_
        refine JR_gR (pc := 76) (k := 8) G cl_X0 in_X0 (by decide) (by decide) rfl (Or.inl rfl) q459 hz13 dX0_alike_76 ?_
        refine JR_iload (pc := 79) (i := 4) G rfl dX0_alike_79 ?_
        refine JR_iaload (pc := 81) G hq14 dX0_alike_81 ?_
        refine JR_iconst (pc := 82) G ci_1 dX0_alike_82 ?_
        refine JR_isub (pc := 83) G dX0_alike_83 ?_
        refine JR_imul (pc := 84) G dX0_alike_84 ?_
        refine JR_iconst (pc := 85) G ci_2 dX0_alike_85 ?_
        refine JR_idiv (pc := 86) G (by decide) dX0_alike_86 ?_
        refine JR_iadd (pc := 87) G dX0_alike_87 ?_
        refine J_nm (fun x15 hx15 => ?_)
        refine JR_istore_n (pc := 88) (k := 3) (i := 3) (lv' := [(3, .int x15), (0, va_rf (some this)), (1, .int p1), (2, .int p2), (4, .int v4)]) G rfl (by decide) rfl dX0_alike_88 ?_
        refine JR_iinc (pc := 89) (i := 4) (v := v4 + 1) (lv' := [(4, .int (v4 + 1)), (3, .int x15), (0, va_rf (some this)), (1, .int p1), (2, .int p2)]) G rfl (congrArg (fun z => v4 + z) (by decide)) (by decide) rfl dX0_alike_89 ?_
        refine JR_goto (pc := 92) (tgt := 60) G dX0_alike_92 (by decide) ?_
        refine J_sub [2, 3, 4, 1, 0] rfl ?_
        exact ih x15 (v4 + 1) d
  have hWs_alike_h25 : ∀ (f : Nat) (v3 : Int32) (d : Dt), J X F Λw S d 25 [(0, va_rf (some this)), (1, .int p1), (2, .int p2), (3, .int v3)] [] (Ws_alike_h25 this p1 p2 S f v3 d) := by
    intro  f
    induction f with
    | zero => intro v3 d; exact J_no
    | succ f ih =>
      intro v3 d
      unfold Ws_alike_h25
      refine JR_iload_n (pc := 25) (k := 3) (i := 3) G rfl rfl dX0_alike_25 ?_
      refine JR_bipush (pc := 26) (v := 64) G (by decide) dX0_alike_26 ?_
      refine JR_icmp_ge (pc := 28) (tgt := 44) G dX0_alike_28 (by decide) (fun c12 => ?_) (fun c12 => ?_)
      · refine JR_aload_n (pc := 44) (k := 0) (i := 0) (o := some this) G rfl rfl dX0_alike_44 ?_
        refine JR_aload_n (pc := 45) (k := 0) (i := 0) (o := some this) G rfl rfl dX0_alike_45 ?_
        refine JR_iload_n (pc := 46) (k := 1) (i := 1) G rfl rfl dX0_alike_46 ?_
        refine J_bd (fun z6 hz6 => ?_)
        refine JPV_R (pc := 47) (as := [.int p1]) (st' := [va_rf (some this)]) (o := some this) G (Ws_taskOf_fn this p1 S d) (JC_V (n := 1) G hRm cl_X0 q431 q433 qs2 q137 q434 ⟨rfl, dd_X0_taskOf⟩ ⟨by decide, by decide⟩ dX0_alike_47 hz6 rfl (Nat.le_of_ble_eq_true rfl)) rfl (fun r7 hr7 => ?_)
        refine JR_iconst (pc := 50) G ci_0 dX0_alike_50 ?_
        refine JR_iload_n (pc := 51) (k := 2) (i := 2) G rfl rfl dX0_alike_51 ?_
        refine JQV_U (pc := 52) (as := [va_rf r7, .int 0, .int p2]) (st' := []) (o := some this) G (Ws_answersFrom_fn 8 this r7 0 p2 S d) (JC_V (n := 3) G hRm cl_X0 q1097 q1099 qs28 q137 q1100 ⟨rfl, dd_X0_answersFrom⟩ ⟨by decide, by decide⟩ dX0_alike_52 hz6 rfl (Nat.le_of_ble_eq_true rfl)) rfl (fun _ _ => rfl) (fun _ d8 hd8 => ?_)
        refine JR_iconst (pc := 55) G ci_0 dX0_alike_55 ?_
        refine JR_istore_n (pc := 56) (k := 3) (i := 3) (lv' := [(3, .int 0), (0, va_rf (some this)), (1, .int p1), (2, .int p2)]) G rfl (by decide) rfl dX0_alike_56 ?_
        refine JR_iconst (pc := 57) G ci_0 dX0_alike_57 ?_
        refine JR_istore (pc := 58) (i := 4) (lv' := [(4, .int 0), (3, .int 0), (0, va_rf (some this)), (1, .int p1), (2, .int p2)]) G (by decide) rfl dX0_alike_58 ?_
        refine J_sub [2, 3, 4, 1, 0] rfl ?_
        exact hWs_alike_h60 FU 0 0 d8
      · refine JR_aload_n (pc := 31) (k := 0) (i := 0) (o := some this) G rfl rfl dX0_alike_31 ?_
        refine J_bd (fun z9 hz9 => ?_)
        refine JR_gR (pc := 32) (k := 8) G cl_X0 in_X0 (by decide) (by decide) rfl (Or.inl rfl) q459 hz9 dX0_alike_32 ?_
        refine JR_iload_n (pc := 35) (k := 3) (i := 3) G rfl rfl dX0_alike_35 ?_
        refine JR_iconst (pc := 36) G ci_0 dX0_alike_36 ?_
        refine J_bd (fun q10 hq10 => ?_)
        refine JW_iastore (pc := 37) G hq10 (fun _ => rfl) dX0_alike_37 ?_
        refine J_nmD (fun d11 hd11 => ?_)
        refine JR_iinc (pc := 38) (i := 3) (v := v3 + 1) (lv' := [(3, .int (v3 + 1)), (0, va_rf (some this)), (1, .int p1), (2, .int p2)]) G rfl (congrArg (fun z => v3 + z) (by decide)) (by decide) rfl dX0_alike_38 ?_
        refine JR_goto (pc := 41) (tgt := 25) G dX0_alike_41 (by decide) ?_
        refine J_sub [1, 2, 3, 0] rfl ?_
        exact ih (v3 + 1) d11
  unfold Ws_alike
  refine JR_aload_n (pc := 0) (k := 0) (i := 0) (o := some this) G rfl rfl dX0_alike_0 ?_
  refine JR_iload_n (pc := 1) (k := 1) (i := 1) G rfl rfl dX0_alike_1 ?_
  refine J_bd (fun z1 hz1 => ?_)
  refine JPV_I (pc := 2) (as := [.int p1]) (st' := []) (o := some this) G (Ws_isTask_fn this p1 S d) (JC_V (n := 1) G hRm cl_X0 q985 q987 qs21 q137 q988 ⟨rfl, dd_X0_isTask⟩ ⟨by decide, by decide⟩ dX0_alike_2 hz1 rfl (Nat.le_of_ble_eq_true rfl)) rfl (fun r2 hr2 => ?_)
  refine JR_if_eq (pc := 5) (tgt := 20) G dX0_alike_5 (by decide) (fun c5 => ?_) (fun c5 => ?_)
  · refine JR_bipush (pc := 20) (v := (-2)) G (by decide) dX0_alike_20 ?_
    exact JR_iret (pc := 22) G hR dX0_alike_22 rfl rfl
  · refine JR_iload_n (pc := 8) (k := 2) (i := 2) G rfl rfl dX0_alike_8 ?_
    refine JR_i2l (pc := 9) G dX0_alike_9 ?_
    refine JR_lconst (pc := 10) G cl_0 dX0_alike_10 ?_
    refine JR_ldc2 (pc := 11) G q1079 dX0_alike_11 ?_
    refine JPS_I (pc := 14) (as := [.long (Int32.toInt64 p2), .long 0, .long 63]) (st' := []) G (Ws_in_fn (Int32.toInt64 p2) 0 63 S d) (JC_S (n := 3) G hRm q575 q576 q137 q577 dd_X0_in ⟨by decide, by decide⟩ dX0_alike_14 rfl (Nat.le_of_ble_eq_true rfl)) rfl (fun r3 hr3 => ?_)
    refine JR_if_ne (pc := 17) (tgt := 23) G dX0_alike_17 (by decide) (fun c4 => ?_) (fun c4 => ?_)
    · refine JR_iconst (pc := 23) G ci_0 dX0_alike_23 ?_
      refine JR_istore_n (pc := 24) (k := 3) (i := 3) (lv' := [(3, .int 0), (0, va_rf (some this)), (1, .int p1), (2, .int p2)]) G rfl (by decide) rfl dX0_alike_24 ?_
      refine J_sub [1, 2, 3, 0] rfl ?_
      exact hWs_alike_h25 FU 0 d
    · refine JR_bipush (pc := 20) (v := (-2)) G (by decide) dX0_alike_20 ?_
      exact JR_iret (pc := 22) G hR dX0_alike_22 rfl rfl

def To_is (this : Nat) (S : Sp) (d : Dt) : Option Int32 :=
  (isK S 1 (some this)).bind fun z1 =>
  if (d.1 z1 8) ≤ 0 then
    some 0
  else
    some 1
set_option maxHeartbeats 4000000 in
theorem To_is_fn (this : Nat) (S : Sp) (d : Dt) : Fn yX1_is (ws_ yX1_is cX1_is 1 (some .boolean)) 0 0 [va_rf (some this)] S d rvI Λp (To_is this S d) := by
  refine Fn.ofJ (own := RX1) (lv := [(0, va_rf (some this))]) (by decide +kernel) rfl (by simp [cat_i, cat_l, cat_f, cat_d, rf_cat]) (by simp [lv_args, cat_i, cat_l, cat_f, cat_d, rf_cat]) ?_
  intro X F G hRm hR hI
  unfold To_is
  refine JR_aload_n (pc := 0) (k := 0) (i := 0) (o := some this) G rfl rfl dX1_is_0 ?_
  refine J_bd (fun z1 hz1 => ?_)
  refine JR_gI (pc := 1) (k := 8) G cl_X1 in_X1 (by decide) (by decide) rfl (Or.inl rfl) q241 hz1 dX1_is_1 ?_
  refine JR_if_le (pc := 4) (tgt := 11) G dX1_is_4 (by decide) (fun c2 => ?_) (fun c2 => ?_)
  · refine JR_iconst (pc := 11) G ci_0 dX1_is_11 ?_
    exact JR_zret (pc := 12) G hR dX1_is_12 (Or.inl rfl) rfl rfl
  · refine JR_iconst (pc := 7) G ci_1 dX1_is_7 ?_
    refine JR_goto (pc := 8) (tgt := 12) G dX1_is_8 (by decide) ?_
    exact JR_zret (pc := 12) G hR dX1_is_12 (Or.inr rfl) rfl rfl

def Ws_ordersFrom_b66 (this : Nat) (p1 : Int32) (p2 : Int32) (rec : Nat → Int32 → Int32 → Sp → Dt → Option (Int32 × Dt)) (S : Sp) (k20 : Int32 → Int32 → Dt → Option (Int32 × Dt)) (v3 : Int32) (v4 : Int32) (d : Dt) : Option (Int32 × Dt) :=
  (isK S 0 (some this)).bind fun z15 =>
  bind2 (rec this (p1 ||| (1 <<< (v4 &&& 31))) (p2 + 1) S d) fun r16 d17 =>
  (some (v3 + r16)).bind fun x18 =>
  k20 x18 (v4 + 1) d17
def Ws_ordersFrom_h20 (this : Nat) (p1 : Int32) (p2 : Int32) (rec : Nat → Int32 → Int32 → Sp → Dt → Option (Int32 × Dt)) (S : Sp) : Nat → Int32 → Int32 → Dt → Option (Int32 × Dt)
  | 0, _, _, _ => none
  | f + 1, v3, v4, d =>
    (isK S 0 (some this)).bind fun z5 =>
    (Ws_tasks this S d).bind fun r6 =>
    if r6 ≤ v4 then
      some (v3, d)
    else
      (Ws_isOn p1 v4 S d).bind fun r7 =>
      if ¬ r7 = 0 then
        Ws_ordersFrom_h20 this p1 p2 rec S f v3 (v4 + 1) d
      else
        (Ws_isLawful this v4 p1 S d).bind fun r8 =>
        if ¬ r8 = 0 then
          if ¬ (d.1 z5 10) = 0 then
            Ws_ordersFrom_b66 this p1 p2 rec S (Ws_ordersFrom_h20 this p1 p2 rec S f) v3 v4 d
          else
            (aix S 50 (S.2.1 z5 9) p2).bind fun q9 =>
            (some (dI d q9.1 q9.2 v4)).bind fun d10 =>
            Ws_ordersFrom_b66 this p1 p2 rec S (Ws_ordersFrom_h20 this p1 p2 rec S f) v3 v4 d10
        else
          Ws_ordersFrom_h20 this p1 p2 rec S f v3 (v4 + 1) d
def Ws_ordersFrom : Nat → Nat → Int32 → Int32 → Sp → Dt → Option (Int32 × Dt)
  | 0, _, _, _, _, _ => none
  | k + 1, this, p1, p2, S, d =>
    (isK S 0 (some this)).bind fun z1 =>
    (Ws_tasks this S d).bind fun r2 =>
    if ¬ p2 = r2 then
      Ws_ordersFrom_h20 this p1 p2 (Ws_ordersFrom k) S FU 0 0 d
    else
      (some (dI d z1 10 1)).bind fun d3 =>
      some (1, d3)
set_option maxHeartbeats 4000000 in
theorem Ws_ordersFrom_fn : ∀ (k : Nat) (this : Nat) (p1 : Int32) (p2 : Int32) (S : Sp) (d : Dt), Fn yX0_ordersFrom (ws_ yX0_ordersFrom cX0_ordersFrom 5 (some .int)) (k + 14) (24 * k + 339) [va_rf (some this), .int p1, .int p2] S d rvI Λw (Ws_ordersFrom k this p1 p2 S d) := by
  intro k
  induction k with
  | zero => intros; exact Fn_none
  | succ k ihk =>
    intro this p1 p2 S d
    refine Fn.ofJ (own := RX0) (lv := [(0, va_rf (some this)), (1, .int p1), (2, .int p2)]) (by decide +kernel) rfl (by simp [cat_i, cat_l, cat_f, cat_d, rf_cat]) (by simp [lv_args, cat_i, cat_l, cat_f, cat_d, rf_cat]) ?_
    intro X F G hRm hR hI
    have hWs_ordersFrom_b66 : ∀ (k20 : Int32 → Int32 → Dt → Option (Int32 × Dt)) (hk20 : ∀ (v3 : Int32) (v4 : Int32) (d : Dt), J X F Λw S d 20 [(0, va_rf (some this)), (1, .int p1), (2, .int p2), (3, .int v3), (4, .int v4)] [] (k20 v3 v4 d)) (v3 : Int32) (v4 : Int32) (d : Dt), J X F Λw S d 66 [(0, va_rf (some this)), (1, .int p1), (2, .int p2), (3, .int v3), (4, .int v4)] [] (Ws_ordersFrom_b66 this p1 p2 (Ws_ordersFrom k) S k20 v3 v4 d) := by
      intro k20 hk20 v3 v4 d
      unfold Ws_ordersFrom_b66
      refine JR_iload_n (pc := 66) (k := 3) (i := 3) G rfl rfl dX0_ordersFrom_66 ?_
      refine JR_aload_n (pc := 67) (k := 0) (i := 0) (o := some this) G rfl rfl dX0_ordersFrom_67 ?_
      refine JR_iload_n (pc := 68) (k := 1) (i := 1) G rfl rfl dX0_ordersFrom_68 ?_
      refine JR_iconst (pc := 69) G ci_1 dX0_ordersFrom_69 ?_
      refine JR_iload (pc := 70) (i := 4) G rfl dX0_ordersFrom_70 ?_
      refine JR_ishl (pc := 72) G dX0_ordersFrom_72 ?_
      refine JR_ior (pc := 73) G dX0_ordersFrom_73 ?_
      refine JR_iload_n (pc := 74) (k := 2) (i := 2) G rfl rfl dX0_ordersFrom_74 ?_
      refine JR_iconst (pc := 75) G ci_1 dX0_ordersFrom_75 ?_
      refine JR_iadd (pc := 76) G dX0_ordersFrom_76 ?_
      refine J_bd (fun z15 hz15 => ?_)
      refine JQV_I (pc := 77) (as := [.int (p1 ||| (1 <<< (v4 &&& 31))), .int (p2 + 1)]) (st' := [.int v3]) (o := some this) G (ihk this (p1 ||| (1 <<< (v4 &&& 31))) (p2 + 1) S d) (JC_V (n := 2) G hRm cl_X0 q1113 q1115 qs30 q137 q1116 ⟨rfl, dd_X0_ordersFrom⟩ ⟨by omega, by omega⟩ dX0_ordersFrom_77 hz15 rfl (Nat.le_of_ble_eq_true rfl)) rfl (fun _ _ => rfl) (fun r16 d17 hd17 => ?_)
      refine JR_iadd (pc := 80) G dX0_ordersFrom_80 ?_
      refine J_nm (fun x18 hx18 => ?_)
      refine JR_istore_n (pc := 81) (k := 3) (i := 3) (lv' := [(3, .int x18), (0, va_rf (some this)), (1, .int p1), (2, .int p2), (4, .int v4)]) G rfl (by decide) rfl dX0_ordersFrom_81 ?_
      refine JR_iinc (pc := 82) (i := 4) (v := v4 + 1) (lv' := [(4, .int (v4 + 1)), (3, .int x18), (0, va_rf (some this)), (1, .int p1), (2, .int p2)]) G rfl (congrArg (fun z => v4 + z) (by decide)) (by decide) rfl dX0_ordersFrom_82 ?_
      refine JR_goto (pc := 85) (tgt := 20) G dX0_ordersFrom_85 (by decide) ?_
      refine J_sub [2, 3, 4, 1, 0] rfl ?_
      exact hk20 x18 (v4 + 1) d17
    have hWs_ordersFrom_h20 : ∀ (f : Nat) (v3 : Int32) (v4 : Int32) (d : Dt), J X F Λw S d 20 [(0, va_rf (some this)), (1, .int p1), (2, .int p2), (3, .int v3), (4, .int v4)] [] (Ws_ordersFrom_h20 this p1 p2 (Ws_ordersFrom k) S f v3 v4 d) := by
      intro  f
      induction f with
      | zero => intro v3 v4 d; exact J_no
      | succ f ih =>
        intro v3 v4 d
        unfold Ws_ordersFrom_h20
        refine JR_iload (pc := 20) (i := 4) G rfl dX0_ordersFrom_20 ?_
        refine JR_aload_n (pc := 22) (k := 0) (i := 0) (o := some this) G rfl rfl dX0_ordersFrom_22 ?_
        refine J_bd (fun z5 hz5 => ?_)
        refine JPV_I (pc := 23) (as := []) (st' := [.int v4]) (o := some this) G (Ws_tasks_fn this S d) (JC_V (n := 0) G hRm cl_X0 q423 q425 qs1 q137 q426 ⟨rfl, dd_X0_tasks⟩ ⟨by omega, by omega⟩ dX0_ordersFrom_23 hz5 rfl (Nat.le_of_ble_eq_true rfl)) rfl (fun r6 hr6 => ?_)
        refine JR_icmp_ge (pc := 26) (tgt := 88) G dX0_ordersFrom_26 (by decide) (fun c14 => ?_) (fun c14 => ?_)
        · refine JR_iload_n (pc := 88) (k := 3) (i := 3) G rfl rfl dX0_ordersFrom_88 ?_
          exact JR_iret (pc := 89) G hR dX0_ordersFrom_89 rfl rfl
        · refine JR_iload_n (pc := 29) (k := 1) (i := 1) G rfl rfl dX0_ordersFrom_29 ?_
          refine JR_iload (pc := 30) (i := 4) G rfl dX0_ordersFrom_30 ?_
          refine JPS_I (pc := 32) (as := [.int p1, .int v4]) (st' := []) G (Ws_isOn_fn p1 v4 S d) (JC_S (n := 2) G hRm q1044 q932 q137 q933 dd_X0_isOn ⟨by omega, by omega⟩ dX0_ordersFrom_32 rfl (Nat.le_of_ble_eq_true rfl)) rfl (fun r7 hr7 => ?_)
          refine JR_if_ne (pc := 35) (tgt := 82) G dX0_ordersFrom_35 (by decide) (fun c13 => ?_) (fun c13 => ?_)
          · refine JR_iinc (pc := 82) (i := 4) (v := v4 + 1) (lv' := [(4, .int (v4 + 1)), (0, va_rf (some this)), (1, .int p1), (2, .int p2), (3, .int v3)]) G rfl (congrArg (fun z => v4 + z) (by decide)) (by decide) rfl dX0_ordersFrom_82 ?_
            refine JR_goto (pc := 85) (tgt := 20) G dX0_ordersFrom_85 (by decide) ?_
            refine J_sub [1, 2, 3, 4, 0] rfl ?_
            exact ih v3 (v4 + 1) d
          · refine JR_aload_n (pc := 38) (k := 0) (i := 0) (o := some this) G rfl rfl dX0_ordersFrom_38 ?_
            refine JR_iload (pc := 39) (i := 4) G rfl dX0_ordersFrom_39 ?_
            refine JR_iload_n (pc := 41) (k := 1) (i := 1) G rfl rfl dX0_ordersFrom_41 ?_
            refine JPV_I (pc := 42) (as := [.int v4, .int p1]) (st' := []) (o := some this) G (Ws_isLawful_fn this v4 p1 S d) (JC_V (n := 2) G hRm cl_X0 q1070 q1072 qs27 q137 q1073 ⟨rfl, dd_X0_isLawful⟩ ⟨by omega, by omega⟩ dX0_ordersFrom_42 hz5 rfl (Nat.le_of_ble_eq_true rfl)) rfl (fun r8 hr8 => ?_)
            refine JR_if_ne (pc := 45) (tgt := 51) G dX0_ordersFrom_45 (by decide) (fun c12 => ?_) (fun c12 => ?_)
            · refine JR_aload_n (pc := 51) (k := 0) (i := 0) (o := some this) G rfl rfl dX0_ordersFrom_51 ?_
              refine JR_gI (pc := 52) (k := 10) G cl_X0 in_X0 (by decide) (by decide) rfl (Or.inl rfl) q461 hz5 dX0_ordersFrom_52 ?_
              refine JR_if_ne (pc := 55) (tgt := 66) G dX0_ordersFrom_55 (by decide) (fun c11 => ?_) (fun c11 => ?_)
              · exact hWs_ordersFrom_b66 (Ws_ordersFrom_h20 this p1 p2 (Ws_ordersFrom k) S f) ih v3 v4 d
              · refine JR_aload_n (pc := 58) (k := 0) (i := 0) (o := some this) G rfl rfl dX0_ordersFrom_58 ?_
                refine JR_gR (pc := 59) (k := 9) G cl_X0 in_X0 (by decide) (by decide) rfl (Or.inl rfl) q460 hz5 dX0_ordersFrom_59 ?_
                refine JR_iload_n (pc := 62) (k := 2) (i := 2) G rfl rfl dX0_ordersFrom_62 ?_
                refine JR_iload (pc := 63) (i := 4) G rfl dX0_ordersFrom_63 ?_
                refine J_bd (fun q9 hq9 => ?_)
                refine JW_iastore (pc := 65) G hq9 (fun _ => rfl) dX0_ordersFrom_65 ?_
                refine J_nmD (fun d10 hd10 => ?_)
                exact hWs_ordersFrom_b66 (Ws_ordersFrom_h20 this p1 p2 (Ws_ordersFrom k) S f) ih v3 v4 d10
            · refine JR_goto (pc := 48) (tgt := 82) G dX0_ordersFrom_48 (by decide) ?_
              refine JR_iinc (pc := 82) (i := 4) (v := v4 + 1) (lv' := [(4, .int (v4 + 1)), (0, va_rf (some this)), (1, .int p1), (2, .int p2), (3, .int v3)]) G rfl (congrArg (fun z => v4 + z) (by decide)) (by decide) rfl dX0_ordersFrom_82 ?_
              refine JR_goto (pc := 85) (tgt := 20) G dX0_ordersFrom_85 (by decide) ?_
              refine J_sub [1, 2, 3, 4, 0] rfl ?_
              exact ih v3 (v4 + 1) d
    unfold Ws_ordersFrom
    refine JR_iload_n (pc := 0) (k := 2) (i := 2) G rfl rfl dX0_ordersFrom_0 ?_
    refine JR_aload_n (pc := 1) (k := 0) (i := 0) (o := some this) G rfl rfl dX0_ordersFrom_1 ?_
    refine J_bd (fun z1 hz1 => ?_)
    refine JPV_I (pc := 2) (as := []) (st' := [.int p2]) (o := some this) G (Ws_tasks_fn this S d) (JC_V (n := 0) G hRm cl_X0 q423 q425 qs1 q137 q426 ⟨rfl, dd_X0_tasks⟩ ⟨by omega, by omega⟩ dX0_ordersFrom_2 hz1 rfl (Nat.le_of_ble_eq_true rfl)) rfl (fun r2 hr2 => ?_)
    refine JR_icmp_ne (pc := 5) (tgt := 15) G dX0_ordersFrom_5 (by decide) (fun c4 => ?_) (fun c4 => ?_)
    · refine JR_iconst (pc := 15) G ci_0 dX0_ordersFrom_15 ?_
      refine JR_istore_n (pc := 16) (k := 3) (i := 3) (lv' := [(3, .int 0), (0, va_rf (some this)), (1, .int p1), (2, .int p2)]) G rfl (by decide) rfl dX0_ordersFrom_16 ?_
      refine JR_iconst (pc := 17) G ci_0 dX0_ordersFrom_17 ?_
      refine JR_istore (pc := 18) (i := 4) (lv' := [(4, .int 0), (3, .int 0), (0, va_rf (some this)), (1, .int p1), (2, .int p2)]) G (by decide) rfl dX0_ordersFrom_18 ?_
      refine J_sub [2, 3, 4, 1, 0] rfl ?_
      exact hWs_ordersFrom_h20 FU 0 0 d
    · refine JR_aload_n (pc := 8) (k := 0) (i := 0) (o := some this) G rfl rfl dX0_ordersFrom_8 ?_
      refine JR_iconst (pc := 9) G ci_1 dX0_ordersFrom_9 ?_
      refine JW_pI (pc := 10) (k := 10) G cl_X0 in_X0 tyX0_ok nmX0 (by decide) (by decide) rfl (Or.inl rfl) rfl q461 rfl rfl hz1 (fun _ => rfl) dX0_ordersFrom_10 ?_
      refine J_nmD (fun d3 hd3 => ?_)
      refine JR_iconst (pc := 13) G ci_1 dX0_ordersFrom_13 ?_
      exact JR_iret (pc := 14) G hR dX0_ordersFrom_14 rfl rfl

def Ws_ordersAll (this : Nat) (S : Sp) (d : Dt) : Option (Int32 × Dt) :=
  (isK S 0 (some this)).bind fun z1 =>
  (some (dI d z1 10 0)).bind fun d2 =>
  bind2 (Ws_ordersFrom 8 this 0 0 S d2) fun r3 d4 =>
  some (r3, d4)
set_option maxHeartbeats 4000000 in
theorem Ws_ordersAll_fn (this : Nat) (S : Sp) (d : Dt) : Fn yX0_ordersAll (ws_ yX0_ordersAll cX0_ordersAll 1 (some .int)) 23 555 [va_rf (some this)] S d rvI Λw (Ws_ordersAll this S d) := by
  refine Fn.ofJ (own := RX0) (lv := [(0, va_rf (some this))]) (by decide +kernel) rfl (by simp [cat_i, cat_l, cat_f, cat_d, rf_cat]) (by simp [lv_args, cat_i, cat_l, cat_f, cat_d, rf_cat]) ?_
  intro X F G hRm hR hI
  unfold Ws_ordersAll
  refine JR_aload_n (pc := 0) (k := 0) (i := 0) (o := some this) G rfl rfl dX0_ordersAll_0 ?_
  refine JR_iconst (pc := 1) G ci_0 dX0_ordersAll_1 ?_
  refine J_bd (fun z1 hz1 => ?_)
  refine JW_pI (pc := 2) (k := 10) G cl_X0 in_X0 tyX0_ok nmX0 (by decide) (by decide) rfl (Or.inl rfl) rfl q461 rfl rfl hz1 (fun _ => rfl) dX0_ordersAll_2 ?_
  refine J_nmD (fun d2 hd2 => ?_)
  refine JR_aload_n (pc := 5) (k := 0) (i := 0) (o := some this) G rfl rfl dX0_ordersAll_5 ?_
  refine JR_iconst (pc := 6) G ci_0 dX0_ordersAll_6 ?_
  refine JR_iconst (pc := 7) G ci_0 dX0_ordersAll_7 ?_
  refine JQV_I (pc := 8) (as := [.int 0, .int 0]) (st' := []) (o := some this) G (Ws_ordersFrom_fn 8 this 0 0 S d2) (JC_V (n := 2) G hRm cl_X0 q1113 q1115 qs30 q137 q1116 ⟨rfl, dd_X0_ordersFrom⟩ ⟨by decide, by decide⟩ dX0_ordersAll_8 hz1 rfl (Nat.le_of_ble_eq_true rfl)) rfl (fun _ _ => rfl) (fun r3 d4 hd4 => ?_)
  exact JR_iret (pc := 11) G hR dX0_ordersAll_11 rfl rfl

def Ws_orders (this : Nat) (S : Sp) (d : Dt) : Option (Int32 × Dt) :=
  (isK S 0 (some this)).bind fun z1 =>
  (isK S 1 (S.2.1 z1 0)).bind fun z2 =>
  (To_is z2 S d).bind fun r3 =>
  if r3 = 0 then
    some ((-2), d)
  else
    bind2 (Ws_ordersAll this S d) fun r4 d5 =>
    some (r4, d5)
set_option maxHeartbeats 4000000 in
theorem Ws_orders_fn (this : Nat) (S : Sp) (d : Dt) : Fn yX0_orders (ws_ yX0_orders cX0_orders 1 (some .int)) 24 575 [va_rf (some this)] S d rvI Λw (Ws_orders this S d) := by
  refine Fn.ofJ (own := RX0) (lv := [(0, va_rf (some this))]) (by decide +kernel) rfl (by simp [cat_i, cat_l, cat_f, cat_d, rf_cat]) (by simp [lv_args, cat_i, cat_l, cat_f, cat_d, rf_cat]) ?_
  intro X F G hRm hR hI
  unfold Ws_orders
  refine JR_aload_n (pc := 0) (k := 0) (i := 0) (o := some this) G rfl rfl dX0_orders_0 ?_
  refine J_bd (fun z1 hz1 => ?_)
  refine JR_gR (pc := 1) (k := 0) G cl_X0 in_X0 (by decide) (by decide) rfl (Or.inl rfl) q451 hz1 dX0_orders_1 ?_
  refine J_bd (fun z2 hz2 => ?_)
  refine J_stk (st' := [va_rf (some z2)]) (by rw [(isK_at hz2).1]) ?_
  refine JPV_I (pc := 4) (as := []) (st' := []) (o := some z2) G (To_is_fn z2 S d) (JC_V (n := 0) G hRm cl_X1 q1105 q1106 q1107 q138 q1108 ⟨rfl, dd_X1_is⟩ ⟨by decide, by decide⟩ dX0_orders_4 (isK_s hz2) rfl (Nat.le_of_ble_eq_true rfl)) rfl (fun r3 hr3 => ?_)
  refine JR_if_eq (pc := 7) (tgt := 17) G dX0_orders_7 (by decide) (fun c6 => ?_) (fun c6 => ?_)
  · refine JR_bipush (pc := 17) (v := (-2)) G (by decide) dX0_orders_17 ?_
    exact JR_iret (pc := 19) G hR dX0_orders_19 rfl rfl
  · refine JR_aload_n (pc := 10) (k := 0) (i := 0) (o := some this) G rfl rfl dX0_orders_10 ?_
    refine JQV_I (pc := 11) (as := []) (st' := []) (o := some this) G (Ws_ordersAll_fn this S d) (JC_V (n := 0) G hRm cl_X0 q1109 q1111 qs29 q137 q1112 ⟨rfl, dd_X0_ordersAll⟩ ⟨by decide, by decide⟩ dX0_orders_11 hz1 rfl (Nat.le_of_ble_eq_true rfl)) rfl (fun _ _ => rfl) (fun r4 d5 hd5 => ?_)
    refine JR_goto (pc := 14) (tgt := 19) G dX0_orders_14 (by decide) ?_
    exact JR_iret (pc := 19) G hR dX0_orders_19 rfl rfl

def Ws_order (this : Nat) (p1 : Int32) (S : Sp) (d : Dt) : Option (Int32 × Dt) :=
  (isK S 0 (some this)).bind fun z1 =>
  (isK S 1 (S.2.1 z1 0)).bind fun z2 =>
  (To_is z2 S d).bind fun r3 =>
  if ¬ r3 = 0 then
    bind2 (Ws_ordersAll this S d) fun r4 d5 =>
    if r4 ≤ 0 then
      some ((-1), d5)
    else
      (Ws_tasks this S d5).bind fun r6 =>
      (Ws_in (Int32.toInt64 p1) 0 (Int32.toInt64 (r6 - 1)) S d5).bind fun r7 =>
      if r7 = 0 then
        some ((-1), d5)
      else
        (aix S 50 (S.2.1 z1 9) p1).bind fun q8 =>
        some (d5.1 q8.1 q8.2, d5)
  else
    some ((-2), d)
set_option maxHeartbeats 4000000 in
theorem Ws_order_fn (this : Nat) (p1 : Int32) (S : Sp) (d : Dt) : Fn yX0_order (ws_ yX0_order cX0_order 2 (some .int)) 24 575 [va_rf (some this), .int p1] S d rvI Λw (Ws_order this p1 S d) := by
  refine Fn.ofJ (own := RX0) (lv := [(0, va_rf (some this)), (1, .int p1)]) (by decide +kernel) rfl (by simp [cat_i, cat_l, cat_f, cat_d, rf_cat]) (by simp [lv_args, cat_i, cat_l, cat_f, cat_d, rf_cat]) ?_
  intro X F G hRm hR hI
  unfold Ws_order
  refine JR_aload_n (pc := 0) (k := 0) (i := 0) (o := some this) G rfl rfl dX0_order_0 ?_
  refine J_bd (fun z1 hz1 => ?_)
  refine JR_gR (pc := 1) (k := 0) G cl_X0 in_X0 (by decide) (by decide) rfl (Or.inl rfl) q451 hz1 dX0_order_1 ?_
  refine J_bd (fun z2 hz2 => ?_)
  refine J_stk (st' := [va_rf (some z2)]) (by rw [(isK_at hz2).1]) ?_
  refine JPV_I (pc := 4) (as := []) (st' := []) (o := some z2) G (To_is_fn z2 S d) (JC_V (n := 0) G hRm cl_X1 q1105 q1106 q1107 q138 q1108 ⟨rfl, dd_X1_is⟩ ⟨by decide, by decide⟩ dX0_order_4 (isK_s hz2) rfl (Nat.le_of_ble_eq_true rfl)) rfl (fun r3 hr3 => ?_)
  refine JR_if_ne (pc := 7) (tgt := 13) G dX0_order_7 (by decide) (fun c11 => ?_) (fun c11 => ?_)
  · refine JR_aload_n (pc := 13) (k := 0) (i := 0) (o := some this) G rfl rfl dX0_order_13 ?_
    refine JQV_I (pc := 14) (as := []) (st' := []) (o := some this) G (Ws_ordersAll_fn this S d) (JC_V (n := 0) G hRm cl_X0 q1109 q1111 qs29 q137 q1112 ⟨rfl, dd_X0_ordersAll⟩ ⟨by decide, by decide⟩ dX0_order_14 hz1 rfl (Nat.le_of_ble_eq_true rfl)) rfl (fun _ _ => rfl) (fun r4 d5 hd5 => ?_)
    refine JR_if_le (pc := 17) (tgt := 45) G dX0_order_17 (by decide) (fun c10 => ?_) (fun c10 => ?_)
    · refine JR_iconst (pc := 45) G ci_m1 dX0_order_45 ?_
      exact JR_iret (pc := 46) G hR dX0_order_46 rfl rfl
    · refine JR_iload_n (pc := 20) (k := 1) (i := 1) G rfl rfl dX0_order_20 ?_
      refine JR_i2l (pc := 21) G dX0_order_21 ?_
      refine JR_lconst (pc := 22) G cl_0 dX0_order_22 ?_
      refine JR_aload_n (pc := 23) (k := 0) (i := 0) (o := some this) G rfl rfl dX0_order_23 ?_
      refine JPV_I (pc := 24) (as := []) (st' := [.long 0, .long (Int32.toInt64 p1)]) (o := some this) G (Ws_tasks_fn this S d5) (JC_V (n := 0) G hRm cl_X0 q423 q425 qs1 q137 q426 ⟨rfl, dd_X0_tasks⟩ ⟨by decide, by decide⟩ dX0_order_24 hz1 rfl (Nat.le_of_ble_eq_true rfl)) rfl (fun r6 hr6 => ?_)
      refine JR_iconst (pc := 27) G ci_1 dX0_order_27 ?_
      refine JR_isub (pc := 28) G dX0_order_28 ?_
      refine JR_i2l (pc := 29) G dX0_order_29 ?_
      refine JPS_I (pc := 30) (as := [.long (Int32.toInt64 p1), .long 0, .long (Int32.toInt64 (r6 - 1))]) (st' := []) G (Ws_in_fn (Int32.toInt64 p1) 0 (Int32.toInt64 (r6 - 1)) S d5) (JC_S (n := 3) G hRm q575 q576 q137 q577 dd_X0_in ⟨by decide, by decide⟩ dX0_order_30 rfl (Nat.le_of_ble_eq_true rfl)) rfl (fun r7 hr7 => ?_)
      refine JR_if_eq (pc := 33) (tgt := 45) G dX0_order_33 (by decide) (fun c9 => ?_) (fun c9 => ?_)
      · refine JR_iconst (pc := 45) G ci_m1 dX0_order_45 ?_
        exact JR_iret (pc := 46) G hR dX0_order_46 rfl rfl
      · refine JR_aload_n (pc := 36) (k := 0) (i := 0) (o := some this) G rfl rfl dX0_order_36 ?_
        refine JR_gR (pc := 37) (k := 9) G cl_X0 in_X0 (by decide) (by decide) rfl (Or.inl rfl) q460 hz1 dX0_order_37 ?_
        refine JR_iload_n (pc := 40) (k := 1) (i := 1) G rfl rfl dX0_order_40 ?_
        refine J_bd (fun q8 hq8 => ?_)
        refine JR_iaload (pc := 41) G hq8 dX0_order_41 ?_
        refine JR_goto (pc := 42) (tgt := 46) G dX0_order_42 (by decide) ?_
        exact JR_iret (pc := 46) G hR dX0_order_46 rfl rfl
  · refine JR_bipush (pc := 10) (v := (-2)) G (by decide) dX0_order_10 ?_
    exact JR_iret (pc := 12) G hR dX0_order_12 rfl rfl

def Ws_path_b64 (this : Nat) (p1 : Int32) (p2 : Int32) (p3 : Int32) (S : Sp) (d : Dt) (v4 : Int32) : Option Int32 :=
  some v4
def Ws_path_h33 (this : Nat) (p1 : Int32) (p2 : Int32) (p3 : Int32) (S : Sp) (d : Dt) : Nat → Int32 → Int32 → Option Int32
  | 0, _, _ => none
  | f + 1, v4, v5 =>
    if p3 ≤ v5 then
      Ws_path_b64 this p1 p2 p3 S d v4
    else
      if v4 = ((-1)) then
        Ws_path_b64 this p1 p2 p3 S d v4
      else
        (isK S 0 (some this)).bind fun z7 =>
        (Ws_taskOf this p1 S d).bind fun r8 =>
        (isK S 12 r8).bind fun z9 =>
        (Ta_next z9 v4 p2 S d).bind fun r10 =>
        Ws_path_h33 this p1 p2 p3 S d f r10 (v5 + 1)
def Ws_path (this : Nat) (p1 : Int32) (p2 : Int32) (p3 : Int32) (S : Sp) (d : Dt) : Option Int32 :=
  (isK S 0 (some this)).bind fun z1 =>
  (Ws_isTask this p1 S d).bind fun r2 =>
  if r2 = 0 then
    some ((-2))
  else
    (Ws_in (Int32.toInt64 p2) 0 50 S d).bind fun r3 =>
    if r3 = 0 then
      some ((-2))
    else
      if 0 ≤ p3 then
        Ws_path_h33 this p1 p2 p3 S d FU 0 0
      else
        some ((-2))
set_option maxHeartbeats 4000000 in
theorem Ws_path_fn (this : Nat) (p1 : Int32) (p2 : Int32) (p3 : Int32) (S : Sp) (d : Dt) : Fn yX0_path (ws_ yX0_path cX0_path 6 (some .int)) 4 85 [va_rf (some this), .int p1, .int p2, .int p3] S d rvI Λp (Ws_path this p1 p2 p3 S d) := by
  refine Fn.ofJ (own := RX0) (lv := [(0, va_rf (some this)), (1, .int p1), (2, .int p2), (3, .int p3)]) (by decide +kernel) rfl (by simp [cat_i, cat_l, cat_f, cat_d, rf_cat]) (by simp [lv_args, cat_i, cat_l, cat_f, cat_d, rf_cat]) ?_
  intro X F G hRm hR hI
  have hWs_path_b64 : ∀ (v4 : Int32), J X F Λp S d 64 [(0, va_rf (some this)), (1, .int p1), (2, .int p2), (3, .int p3), (4, .int v4)] [] (Ws_path_b64 this p1 p2 p3 S d v4) := by
    intro v4
    unfold Ws_path_b64
    refine JR_iload (pc := 64) (i := 4) G rfl dX0_path_64 ?_
    exact JR_iret (pc := 66) G hR dX0_path_66 rfl rfl
  have hWs_path_h33 : ∀ (f : Nat) (v4 : Int32) (v5 : Int32), J X F Λp S d 33 [(0, va_rf (some this)), (1, .int p1), (2, .int p2), (3, .int p3), (4, .int v4), (5, .int v5)] [] (Ws_path_h33 this p1 p2 p3 S d f v4 v5) := by
    intro  f
    induction f with
    | zero => intro v4 v5; exact J_no
    | succ f ih =>
      intro v4 v5
      unfold Ws_path_h33
      refine JR_iload (pc := 33) (i := 5) G rfl dX0_path_33 ?_
      refine JR_iload_n (pc := 35) (k := 3) (i := 3) G rfl rfl dX0_path_35 ?_
      refine JR_icmp_ge (pc := 36) (tgt := 64) G dX0_path_36 (by decide) (fun c12 => ?_) (fun c12 => ?_)
      · refine J_sub [0, 1, 2, 3, 4] rfl ?_
        exact hWs_path_b64 v4
      · refine JR_iload (pc := 39) (i := 4) G rfl dX0_path_39 ?_
        refine JR_iconst (pc := 41) G ci_m1 dX0_path_41 ?_
        refine JR_icmp_eq (pc := 42) (tgt := 64) G dX0_path_42 (by decide) (fun c11 => ?_) (fun c11 => ?_)
        · refine J_sub [0, 1, 2, 3, 4] rfl ?_
          exact hWs_path_b64 v4
        · refine JR_aload_n (pc := 45) (k := 0) (i := 0) (o := some this) G rfl rfl dX0_path_45 ?_
          refine JR_iload_n (pc := 46) (k := 1) (i := 1) G rfl rfl dX0_path_46 ?_
          refine J_bd (fun z7 hz7 => ?_)
          refine JPV_R (pc := 47) (as := [.int p1]) (st' := []) (o := some this) G (Ws_taskOf_fn this p1 S d) (JC_V (n := 1) G hRm cl_X0 q431 q433 qs2 q137 q434 ⟨rfl, dd_X0_taskOf⟩ ⟨by decide, by decide⟩ dX0_path_47 hz7 rfl (Nat.le_of_ble_eq_true rfl)) rfl (fun r8 hr8 => ?_)
          refine JR_iload (pc := 50) (i := 4) G rfl dX0_path_50 ?_
          refine JR_iload_n (pc := 52) (k := 2) (i := 2) G rfl rfl dX0_path_52 ?_
          refine J_bd (fun z9 hz9 => ?_)
          refine J_stk (st' := [.int p2, .int v4, va_rf (some z9)]) (by rw [(isK_at hz9).1]) ?_
          refine JPV_I (pc := 53) (as := [.int v4, .int p2]) (st' := []) (o := some z9) G (Ta_next_fn z9 v4 p2 S d) (JC_V (n := 2) G hRm cl_X13 q1083 q1084 q1085 q162 q1086 ⟨rfl, dd_X13_next⟩ ⟨by decide, by decide⟩ dX0_path_53 (isK_s hz9) rfl (Nat.le_of_ble_eq_true rfl)) rfl (fun r10 hr10 => ?_)
          refine JR_istore (pc := 56) (i := 4) (lv' := [(4, .int r10), (0, va_rf (some this)), (1, .int p1), (2, .int p2), (3, .int p3), (5, .int v5)]) G (by decide) rfl dX0_path_56 ?_
          refine JR_iinc (pc := 58) (i := 5) (v := v5 + 1) (lv' := [(5, .int (v5 + 1)), (4, .int r10), (0, va_rf (some this)), (1, .int p1), (2, .int p2), (3, .int p3)]) G rfl (congrArg (fun z => v5 + z) (by decide)) (by decide) rfl dX0_path_58 ?_
          refine JR_goto (pc := 61) (tgt := 33) G dX0_path_61 (by decide) ?_
          refine J_sub [2, 3, 4, 5, 1, 0] rfl ?_
          exact ih r10 (v5 + 1)
  unfold Ws_path
  refine JR_aload_n (pc := 0) (k := 0) (i := 0) (o := some this) G rfl rfl dX0_path_0 ?_
  refine JR_iload_n (pc := 1) (k := 1) (i := 1) G rfl rfl dX0_path_1 ?_
  refine J_bd (fun z1 hz1 => ?_)
  refine JPV_I (pc := 2) (as := [.int p1]) (st' := []) (o := some this) G (Ws_isTask_fn this p1 S d) (JC_V (n := 1) G hRm cl_X0 q985 q987 qs21 q137 q988 ⟨rfl, dd_X0_isTask⟩ ⟨by decide, by decide⟩ dX0_path_2 hz1 rfl (Nat.le_of_ble_eq_true rfl)) rfl (fun r2 hr2 => ?_)
  refine JR_if_eq (pc := 5) (tgt := 24) G dX0_path_5 (by decide) (fun c6 => ?_) (fun c6 => ?_)
  · refine JR_bipush (pc := 24) (v := (-2)) G (by decide) dX0_path_24 ?_
    exact JR_iret (pc := 26) G hR dX0_path_26 rfl rfl
  · refine JR_iload_n (pc := 8) (k := 2) (i := 2) G rfl rfl dX0_path_8 ?_
    refine JR_i2l (pc := 9) G dX0_path_9 ?_
    refine JR_lconst (pc := 10) G cl_0 dX0_path_10 ?_
    refine JR_ldc2 (pc := 11) G q1078 dX0_path_11 ?_
    refine JPS_I (pc := 14) (as := [.long (Int32.toInt64 p2), .long 0, .long 50]) (st' := []) G (Ws_in_fn (Int32.toInt64 p2) 0 50 S d) (JC_S (n := 3) G hRm q575 q576 q137 q577 dd_X0_in ⟨by decide, by decide⟩ dX0_path_14 rfl (Nat.le_of_ble_eq_true rfl)) rfl (fun r3 hr3 => ?_)
    refine JR_if_eq (pc := 17) (tgt := 24) G dX0_path_17 (by decide) (fun c5 => ?_) (fun c5 => ?_)
    · refine JR_bipush (pc := 24) (v := (-2)) G (by decide) dX0_path_24 ?_
      exact JR_iret (pc := 26) G hR dX0_path_26 rfl rfl
    · refine JR_iload_n (pc := 20) (k := 3) (i := 3) G rfl rfl dX0_path_20 ?_
      refine JR_if_ge (pc := 21) (tgt := 27) G dX0_path_21 (by decide) (fun c4 => ?_) (fun c4 => ?_)
      · refine JR_iconst (pc := 27) G ci_0 dX0_path_27 ?_
        refine JR_istore (pc := 28) (i := 4) (lv' := [(4, .int 0), (0, va_rf (some this)), (1, .int p1), (2, .int p2), (3, .int p3)]) G (by decide) rfl dX0_path_28 ?_
        refine JR_iconst (pc := 30) G ci_0 dX0_path_30 ?_
        refine JR_istore (pc := 31) (i := 5) (lv' := [(5, .int 0), (4, .int 0), (0, va_rf (some this)), (1, .int p1), (2, .int p2), (3, .int p3)]) G (by decide) rfl dX0_path_31 ?_
        refine J_sub [2, 3, 4, 5, 1, 0] rfl ?_
        exact hWs_path_h33 FU 0 0
      · refine JR_bipush (pc := 24) (v := (-2)) G (by decide) dX0_path_24 ?_
        exact JR_iret (pc := 26) G hR dX0_path_26 rfl rfl

def Ws_lawful (this : Nat) (S : Sp) (d : Dt) : Option Int32 :=
  (isK S 0 (some this)).bind fun z1 =>
  (isK S 1 (S.2.1 z1 0)).bind fun z2 =>
  (To_is z2 S d).bind fun r3 =>
  if ¬ r3 = 0 then
    (Ws_lawfulNow this S d).bind fun r4 =>
    some r4
  else
    some ((-2))
set_option maxHeartbeats 4000000 in
theorem Ws_lawful_fn (this : Nat) (S : Sp) (d : Dt) : Fn yX0_lawful (ws_ yX0_lawful cX0_lawful 1 (some .int)) 15 361 [va_rf (some this)] S d rvI Λp (Ws_lawful this S d) := by
  refine Fn.ofJ (own := RX0) (lv := [(0, va_rf (some this))]) (by decide +kernel) rfl (by simp [cat_i, cat_l, cat_f, cat_d, rf_cat]) (by simp [lv_args, cat_i, cat_l, cat_f, cat_d, rf_cat]) ?_
  intro X F G hRm hR hI
  unfold Ws_lawful
  refine JR_aload_n (pc := 0) (k := 0) (i := 0) (o := some this) G rfl rfl dX0_lawful_0 ?_
  refine J_bd (fun z1 hz1 => ?_)
  refine JR_gR (pc := 1) (k := 0) G cl_X0 in_X0 (by decide) (by decide) rfl (Or.inl rfl) q451 hz1 dX0_lawful_1 ?_
  refine J_bd (fun z2 hz2 => ?_)
  refine J_stk (st' := [va_rf (some z2)]) (by rw [(isK_at hz2).1]) ?_
  refine JPV_I (pc := 4) (as := []) (st' := []) (o := some z2) G (To_is_fn z2 S d) (JC_V (n := 0) G hRm cl_X1 q1105 q1106 q1107 q138 q1108 ⟨rfl, dd_X1_is⟩ ⟨by decide, by decide⟩ dX0_lawful_4 (isK_s hz2) rfl (Nat.le_of_ble_eq_true rfl)) rfl (fun r3 hr3 => ?_)
  refine JR_if_ne (pc := 7) (tgt := 13) G dX0_lawful_7 (by decide) (fun c5 => ?_) (fun c5 => ?_)
  · refine JR_aload_n (pc := 13) (k := 0) (i := 0) (o := some this) G rfl rfl dX0_lawful_13 ?_
    refine JPV_I (pc := 14) (as := []) (st' := []) (o := some this) G (Ws_lawfulNow_fn this S d) (JC_V (n := 0) G hRm cl_X0 q1066 q1068 qs26 q137 q1069 ⟨rfl, dd_X0_lawfulNow⟩ ⟨by decide, by decide⟩ dX0_lawful_14 hz1 rfl (Nat.le_of_ble_eq_true rfl)) rfl (fun r4 hr4 => ?_)
    exact JR_iret (pc := 17) G hR dX0_lawful_17 rfl rfl
  · refine JR_bipush (pc := 10) (v := (-2)) G (by decide) dX0_lawful_10 ?_
    exact JR_iret (pc := 12) G hR dX0_lawful_12 rfl rfl

def Ws_load_h17 (this : Nat) (S : Sp) (d : Dt) : Nat → UInt32 → Int32 → Option Int32
  | 0, _, _ => none
  | f + 1, v1, v2 =>
    (isK S 0 (some this)).bind fun z5 =>
    (Ws_tasks this S d).bind fun r6 =>
    if r6 ≤ v2 then
      (Jf_floatToIntBits v1 S d).bind fun r7 =>
      some r7
    else
      (Ws_taskOf this v2 S d).bind fun r8 =>
      (isK S 12 r8).bind fun z9 =>
      (Ta_longest z9 S d).bind fun r10 =>
      (Ws_taskOf this v2 S d).bind fun r11 =>
      (isK S 12 r11).bind fun z12 =>
      (gf (FP.fdiv (FP.i2f r10) (FP.i2f (d.1 z12 1)))).bind fun g13 =>
      (gf (FP.fadd v1 g13)).bind fun g14 =>
      Ws_load_h17 this S d f g14 (v2 + 1)
def Ws_load (this : Nat) (S : Sp) (d : Dt) : Option Int32 :=
  (isK S 0 (some this)).bind fun z1 =>
  (isK S 1 (S.2.1 z1 0)).bind fun z2 =>
  (To_is z2 S d).bind fun r3 =>
  if ¬ r3 = 0 then
    Ws_load_h17 this S d FU FP.fconst0 0
  else
    some ((-2))
set_option maxHeartbeats 4000000 in
theorem Ws_load_fn (this : Nat) (S : Sp) (d : Dt) : Fn yX0_load (ws_ yX0_load cX0_load 3 (some .int)) 11 268 [va_rf (some this)] S d rvI Λp (Ws_load this S d) := by
  refine Fn.ofJ (own := RX0) (lv := [(0, va_rf (some this))]) (by decide +kernel) rfl (by simp [cat_i, cat_l, cat_f, cat_d, rf_cat]) (by simp [lv_args, cat_i, cat_l, cat_f, cat_d, rf_cat]) ?_
  intro X F G hRm hR hI
  have hWs_load_h17 : ∀ (f : Nat) (v1 : UInt32) (v2 : Int32), J X F Λp S d 17 [(0, va_rf (some this)), (1, .float v1), (2, .int v2)] [] (Ws_load_h17 this S d f v1 v2) := by
    intro  f
    induction f with
    | zero => intro v1 v2; exact J_no
    | succ f ih =>
      intro v1 v2
      unfold Ws_load_h17
      refine JR_iload_n (pc := 17) (k := 2) (i := 2) G rfl rfl dX0_load_17 ?_
      refine JR_aload_n (pc := 18) (k := 0) (i := 0) (o := some this) G rfl rfl dX0_load_18 ?_
      refine J_bd (fun z5 hz5 => ?_)
      refine JPV_I (pc := 19) (as := []) (st' := [.int v2]) (o := some this) G (Ws_tasks_fn this S d) (JC_V (n := 0) G hRm cl_X0 q423 q425 qs1 q137 q426 ⟨rfl, dd_X0_tasks⟩ ⟨by decide, by decide⟩ dX0_load_19 hz5 rfl (Nat.le_of_ble_eq_true rfl)) rfl (fun r6 hr6 => ?_)
      refine JR_icmp_ge (pc := 22) (tgt := 53) G dX0_load_22 (by decide) (fun c15 => ?_) (fun c15 => ?_)
      · refine JR_fload_n (pc := 53) (k := 1) (i := 1) G rfl rfl dX0_load_53 ?_
        refine JPS_I (pc := 54) (as := [.float v1]) (st' := []) G (Jf_floatToIntBits_fn v1 S d) (JC_S (n := 1) G hRm q1133 q1134 q169 q1135 dd_J15_floatToIntBits ⟨by decide, by decide⟩ dX0_load_54 rfl (Nat.le_of_ble_eq_true rfl)) rfl (fun r7 hr7 => ?_)
        exact JR_iret (pc := 57) G hR dX0_load_57 rfl rfl
      · refine JR_fload_n (pc := 25) (k := 1) (i := 1) G rfl rfl dX0_load_25 ?_
        refine JR_aload_n (pc := 26) (k := 0) (i := 0) (o := some this) G rfl rfl dX0_load_26 ?_
        refine JR_iload_n (pc := 27) (k := 2) (i := 2) G rfl rfl dX0_load_27 ?_
        refine JPV_R (pc := 28) (as := [.int v2]) (st' := [.float v1]) (o := some this) G (Ws_taskOf_fn this v2 S d) (JC_V (n := 1) G hRm cl_X0 q431 q433 qs2 q137 q434 ⟨rfl, dd_X0_taskOf⟩ ⟨by decide, by decide⟩ dX0_load_28 hz5 rfl (Nat.le_of_ble_eq_true rfl)) rfl (fun r8 hr8 => ?_)
        refine J_bd (fun z9 hz9 => ?_)
        refine J_stk (st' := [va_rf (some z9), .float v1]) (by rw [(isK_at hz9).1]) ?_
        refine JPV_I (pc := 31) (as := []) (st' := [.float v1]) (o := some z9) G (Ta_longest_fn z9 S d) (JC_V (n := 0) G hRm cl_X13 q1040 q1041 q1042 q162 q1043 ⟨rfl, dd_X13_longest⟩ ⟨by decide, by decide⟩ dX0_load_31 (isK_s hz9) rfl (Nat.le_of_ble_eq_true rfl)) rfl (fun r10 hr10 => ?_)
        refine JR_i2f (pc := 34) G dX0_load_34 ?_
        refine JR_aload_n (pc := 35) (k := 0) (i := 0) (o := some this) G rfl rfl dX0_load_35 ?_
        refine JR_iload_n (pc := 36) (k := 2) (i := 2) G rfl rfl dX0_load_36 ?_
        refine JPV_R (pc := 37) (as := [.int v2]) (st' := [.float (FP.i2f r10), .float v1]) (o := some this) G (Ws_taskOf_fn this v2 S d) (JC_V (n := 1) G hRm cl_X0 q431 q433 qs2 q137 q434 ⟨rfl, dd_X0_taskOf⟩ ⟨by decide, by decide⟩ dX0_load_37 hz5 rfl (Nat.le_of_ble_eq_true rfl)) rfl (fun r11 hr11 => ?_)
        refine J_bd (fun z12 hz12 => ?_)
        refine JR_gIN (pc := 40) (k := 1) G cl_X13 in_X13 (by decide) (by decide) rfl (Or.inl rfl) q822 hz12 dX0_load_40 ?_
        refine JR_i2f (pc := 43) G dX0_load_43 ?_
        refine J_bd (fun g13 hg13 => ?_)
        refine JR_fdiv (pc := 44) G hg13 dX0_load_44 ?_
        refine J_bd (fun g14 hg14 => ?_)
        refine JR_fadd (pc := 45) G hg14 dX0_load_45 ?_
        refine JR_fstore_n (pc := 46) (k := 1) (i := 1) (lv' := [(1, .float g14), (0, va_rf (some this)), (2, .int v2)]) G rfl (by decide) rfl dX0_load_46 ?_
        refine JR_iinc (pc := 47) (i := 2) (v := v2 + 1) (lv' := [(2, .int (v2 + 1)), (1, .float g14), (0, va_rf (some this))]) G rfl (congrArg (fun z => v2 + z) (by decide)) (by decide) rfl dX0_load_47 ?_
        refine JR_goto (pc := 50) (tgt := 17) G dX0_load_50 (by decide) ?_
        refine J_sub [2, 1, 0] rfl ?_
        exact ih g14 (v2 + 1)
  unfold Ws_load
  refine JR_aload_n (pc := 0) (k := 0) (i := 0) (o := some this) G rfl rfl dX0_load_0 ?_
  refine J_bd (fun z1 hz1 => ?_)
  refine JR_gR (pc := 1) (k := 0) G cl_X0 in_X0 (by decide) (by decide) rfl (Or.inl rfl) q451 hz1 dX0_load_1 ?_
  refine J_bd (fun z2 hz2 => ?_)
  refine J_stk (st' := [va_rf (some z2)]) (by rw [(isK_at hz2).1]) ?_
  refine JPV_I (pc := 4) (as := []) (st' := []) (o := some z2) G (To_is_fn z2 S d) (JC_V (n := 0) G hRm cl_X1 q1105 q1106 q1107 q138 q1108 ⟨rfl, dd_X1_is⟩ ⟨by decide, by decide⟩ dX0_load_4 (isK_s hz2) rfl (Nat.le_of_ble_eq_true rfl)) rfl (fun r3 hr3 => ?_)
  refine JR_if_ne (pc := 7) (tgt := 13) G dX0_load_7 (by decide) (fun c4 => ?_) (fun c4 => ?_)
  · refine JR_fconst0 (pc := 13) G dX0_load_13 ?_
    refine JR_fstore_n (pc := 14) (k := 1) (i := 1) (lv' := [(1, .float FP.fconst0), (0, va_rf (some this))]) G rfl (by decide) rfl dX0_load_14 ?_
    refine JR_iconst (pc := 15) G ci_0 dX0_load_15 ?_
    refine JR_istore_n (pc := 16) (k := 2) (i := 2) (lv' := [(2, .int 0), (1, .float FP.fconst0), (0, va_rf (some this))]) G rfl (by decide) rfl dX0_load_16 ?_
    refine J_sub [2, 1, 0] rfl ?_
    exact hWs_load_h17 FU FP.fconst0 0
  · refine JR_bipush (pc := 10) (v := (-2)) G (by decide) dX0_load_10 ?_
    exact JR_iret (pc := 12) G hR dX0_load_12 rfl rfl

def Li_isBorn (this : Nat) (S : Sp) (d : Dt) : Option (Unit × Dt) :=
  (isK S 8 (some this)).bind fun z1 =>
  bind2 (Li_begins this 0 S d) fun _ d2 =>
  (some (dI d2 z1 7 ((-1)))).bind fun d3 =>
  (some (dI d3 z1 9 0)).bind fun d4 =>
  (some (dI d4 z1 10 0)).bind fun d5 =>
  (some (dI d5 z1 11 0)).bind fun d6 =>
  (some (dI d6 z1 12 0)).bind fun d7 =>
  (some (dI d7 z1 13 ((-1)))).bind fun d8 =>
  (some (dI d8 z1 14 0)).bind fun d9 =>
  (some (dI d9 z1 15 0)).bind fun d10 =>
  (some (dI d10 z1 16 0)).bind fun d11 =>
  (some (dF d11 z1 17 FP.fconst1)).bind fun d12 =>
  (some (dF d12 z1 18 FP.fconst0)).bind fun d13 =>
  (some (dD d13 z1 19 FP.dconst0)).bind fun d14 =>
  some ((), d14)
set_option maxHeartbeats 4000000 in
theorem Li_isBorn_fn (this : Nat) (S : Sp) (d : Dt) : Fn yX9_isBorn (ws_ yX9_isBorn cX9_isBorn 1 none) 1 21 [va_rf (some this)] S d rvU Λw (Li_isBorn this S d) := by
  refine Fn.ofJ (own := RX9) (lv := [(0, va_rf (some this))]) (by decide +kernel) rfl (by simp [cat_i, cat_l, cat_f, cat_d, rf_cat]) (by simp [lv_args, cat_i, cat_l, cat_f, cat_d, rf_cat]) ?_
  intro X F G hRm hR hI
  unfold Li_isBorn
  refine JR_aload_n (pc := 0) (k := 0) (i := 0) (o := some this) G rfl rfl dX9_isBorn_0 ?_
  refine JR_iconst (pc := 1) G ci_0 dX9_isBorn_1 ?_
  refine J_bd (fun z1 hz1 => ?_)
  refine JQV_U (pc := 2) (as := [.int 0]) (st' := []) (o := some this) G (Li_begins_fn this 0 S d) (JC_V (n := 1) G hRm cl_X9 q1155 q1156 q1157 q149 q1158 ⟨rfl, dd_X9_begins⟩ ⟨by decide, by decide⟩ dX9_isBorn_2 hz1 rfl (Nat.le_of_ble_eq_true rfl)) rfl (fun _ _ => rfl) (fun _ d2 hd2 => ?_)
  refine JR_aload_n (pc := 5) (k := 0) (i := 0) (o := some this) G rfl rfl dX9_isBorn_5 ?_
  refine JR_iconst (pc := 6) G ci_m1 dX9_isBorn_6 ?_
  refine JW_pI (pc := 7) (k := 7) G cl_X9 in_X9 tyX9_ok nmX9 (by decide) (by decide) rfl (Or.inl rfl) rfl q352 rfl rfl hz1 (fun _ => rfl) dX9_isBorn_7 ?_
  refine J_nmD (fun d3 hd3 => ?_)
  refine JR_aload_n (pc := 10) (k := 0) (i := 0) (o := some this) G rfl rfl dX9_isBorn_10 ?_
  refine JR_iconst (pc := 11) G ci_0 dX9_isBorn_11 ?_
  refine JW_pI (pc := 12) (k := 9) G cl_X9 in_X9 tyX9_ok nmX9 (by decide) (by decide) rfl (Or.inl rfl) rfl q356 rfl rfl hz1 (fun _ => rfl) dX9_isBorn_12 ?_
  refine J_nmD (fun d4 hd4 => ?_)
  refine JR_aload_n (pc := 15) (k := 0) (i := 0) (o := some this) G rfl rfl dX9_isBorn_15 ?_
  refine JR_iconst (pc := 16) G ci_0 dX9_isBorn_16 ?_
  refine JW_pI (pc := 17) (k := 10) G cl_X9 in_X9 tyX9_ok nmX9 (by decide) (by decide) rfl (Or.inl rfl) rfl q358 rfl rfl hz1 (fun _ => rfl) dX9_isBorn_17 ?_
  refine J_nmD (fun d5 hd5 => ?_)
  refine JR_aload_n (pc := 20) (k := 0) (i := 0) (o := some this) G rfl rfl dX9_isBorn_20 ?_
  refine JR_iconst (pc := 21) G ci_0 dX9_isBorn_21 ?_
  refine JW_pI (pc := 22) (k := 11) G cl_X9 in_X9 tyX9_ok nmX9 (by decide) (by decide) rfl (Or.inl rfl) rfl q360 rfl rfl hz1 (fun _ => rfl) dX9_isBorn_22 ?_
  refine J_nmD (fun d6 hd6 => ?_)
  refine JR_aload_n (pc := 25) (k := 0) (i := 0) (o := some this) G rfl rfl dX9_isBorn_25 ?_
  refine JR_iconst (pc := 26) G ci_0 dX9_isBorn_26 ?_
  refine JW_pI (pc := 27) (k := 12) G cl_X9 in_X9 tyX9_ok nmX9 (by decide) (by decide) rfl (Or.inl rfl) rfl q362 rfl rfl hz1 (fun _ => rfl) dX9_isBorn_27 ?_
  refine J_nmD (fun d7 hd7 => ?_)
  refine JR_aload_n (pc := 30) (k := 0) (i := 0) (o := some this) G rfl rfl dX9_isBorn_30 ?_
  refine JR_iconst (pc := 31) G ci_m1 dX9_isBorn_31 ?_
  refine JW_pI (pc := 32) (k := 13) G cl_X9 in_X9 tyX9_ok nmX9 (by decide) (by decide) rfl (Or.inl rfl) rfl q364 rfl rfl hz1 (fun _ => rfl) dX9_isBorn_32 ?_
  refine J_nmD (fun d8 hd8 => ?_)
  refine JR_aload_n (pc := 35) (k := 0) (i := 0) (o := some this) G rfl rfl dX9_isBorn_35 ?_
  refine JR_iconst (pc := 36) G ci_0 dX9_isBorn_36 ?_
  refine JW_pI (pc := 37) (k := 14) G cl_X9 in_X9 tyX9_ok nmX9 (by decide) (by decide) rfl (Or.inl rfl) rfl q366 rfl rfl hz1 (fun _ => rfl) dX9_isBorn_37 ?_
  refine J_nmD (fun d9 hd9 => ?_)
  refine JR_aload_n (pc := 40) (k := 0) (i := 0) (o := some this) G rfl rfl dX9_isBorn_40 ?_
  refine JR_iconst (pc := 41) G ci_0 dX9_isBorn_41 ?_
  refine JW_pI (pc := 42) (k := 15) G cl_X9 in_X9 tyX9_ok nmX9 (by decide) (by decide) rfl (Or.inl rfl) rfl q368 rfl rfl hz1 (fun _ => rfl) dX9_isBorn_42 ?_
  refine J_nmD (fun d10 hd10 => ?_)
  refine JR_aload_n (pc := 45) (k := 0) (i := 0) (o := some this) G rfl rfl dX9_isBorn_45 ?_
  refine JR_iconst (pc := 46) G ci_0 dX9_isBorn_46 ?_
  refine JW_pI (pc := 47) (k := 16) G cl_X9 in_X9 tyX9_ok nmX9 (by decide) (by decide) rfl (Or.inl rfl) rfl q370 rfl rfl hz1 (fun _ => rfl) dX9_isBorn_47 ?_
  refine J_nmD (fun d11 hd11 => ?_)
  refine JR_aload_n (pc := 50) (k := 0) (i := 0) (o := some this) G rfl rfl dX9_isBorn_50 ?_
  refine JR_fconst1 (pc := 51) G dX9_isBorn_51 ?_
  refine JW_pF (pc := 52) (k := 17) G cl_X9 in_X9 tyX9_ok nmX9 (by decide) (by decide) rfl (Or.inl rfl) rfl q372 hz1 (fun _ => rfl) dX9_isBorn_52 ?_
  refine J_nmD (fun d12 hd12 => ?_)
  refine JR_aload_n (pc := 55) (k := 0) (i := 0) (o := some this) G rfl rfl dX9_isBorn_55 ?_
  refine JR_fconst0 (pc := 56) G dX9_isBorn_56 ?_
  refine JW_pF (pc := 57) (k := 18) G cl_X9 in_X9 tyX9_ok nmX9 (by decide) (by decide) rfl (Or.inl rfl) rfl q374 hz1 (fun _ => rfl) dX9_isBorn_57 ?_
  refine J_nmD (fun d13 hd13 => ?_)
  refine JR_aload_n (pc := 60) (k := 0) (i := 0) (o := some this) G rfl rfl dX9_isBorn_60 ?_
  refine JR_dconst0 (pc := 61) G dX9_isBorn_61 ?_
  refine JW_pD (pc := 62) (k := 19) G cl_X9 in_X9 tyX9_ok nmX9 (by decide) (by decide) rfl (Or.inl rfl) rfl q376 hz1 (fun _ => rfl) dX9_isBorn_62 ?_
  refine J_nmD (fun d14 hd14 => ?_)
  exact JR_vret (pc := 65) G hR dX9_isBorn_65 rfl rfl

def Li_starts (this : Nat) (S : Sp) (d : Dt) : Option (Unit × Dt) :=
  (isK S 8 (some this)).bind fun z1 =>
  (some (dI d z1 0 1)).bind fun d2 =>
  (some (dI d2 z1 2 (d2.1 z1 9))).bind fun d3 =>
  (some (dI d3 z1 9 ((d3.1 z1 9) + 1))).bind fun d4 =>
  (some (dI d4 z1 3 0)).bind fun d5 =>
  (some (dI d5 z1 4 0)).bind fun d6 =>
  some ((), d6)
set_option maxHeartbeats 4000000 in
theorem Li_starts_fn (this : Nat) (S : Sp) (d : Dt) : Fn yX9_starts (ws_ yX9_starts cX9_starts 1 none) 0 0 [va_rf (some this)] S d rvU Λw (Li_starts this S d) := by
  refine Fn.ofJ (own := RX9) (lv := [(0, va_rf (some this))]) (by decide +kernel) rfl (by simp [cat_i, cat_l, cat_f, cat_d, rf_cat]) (by simp [lv_args, cat_i, cat_l, cat_f, cat_d, rf_cat]) ?_
  intro X F G hRm hR hI
  unfold Li_starts
  refine JR_aload_n (pc := 0) (k := 0) (i := 0) (o := some this) G rfl rfl dX9_starts_0 ?_
  refine JR_iconst (pc := 1) G ci_1 dX9_starts_1 ?_
  refine J_bd (fun z1 hz1 => ?_)
  refine JW_pI (pc := 2) (k := 0) G cl_X9 in_X9 tyX9_ok nmX9 (by decide) (by decide) rfl (Or.inl rfl) rfl q338 rfl rfl hz1 (fun _ => rfl) dX9_starts_2 ?_
  refine J_nmD (fun d2 hd2 => ?_)
  refine JR_aload_n (pc := 5) (k := 0) (i := 0) (o := some this) G rfl rfl dX9_starts_5 ?_
  refine JR_aload_n (pc := 6) (k := 0) (i := 0) (o := some this) G rfl rfl dX9_starts_6 ?_
  refine JR_gI (pc := 7) (k := 9) G cl_X9 in_X9 (by decide) (by decide) rfl (Or.inl rfl) q356 hz1 dX9_starts_7 ?_
  refine JW_pI (pc := 10) (k := 2) G cl_X9 in_X9 tyX9_ok nmX9 (by decide) (by decide) rfl (Or.inl rfl) rfl q342 rfl rfl hz1 (fun _ => rfl) dX9_starts_10 ?_
  refine J_nmD (fun d3 hd3 => ?_)
  refine JR_aload_n (pc := 13) (k := 0) (i := 0) (o := some this) G rfl rfl dX9_starts_13 ?_
  refine JR_dup (pc := 14) G (rf_cat _) dX9_starts_14 ?_
  refine JR_gI (pc := 15) (k := 9) G cl_X9 in_X9 (by decide) (by decide) rfl (Or.inl rfl) q356 hz1 dX9_starts_15 ?_
  refine JR_iconst (pc := 18) G ci_1 dX9_starts_18 ?_
  refine JR_iadd (pc := 19) G dX9_starts_19 ?_
  refine JW_pI (pc := 20) (k := 9) G cl_X9 in_X9 tyX9_ok nmX9 (by decide) (by decide) rfl (Or.inl rfl) rfl q356 rfl rfl hz1 (fun _ => rfl) dX9_starts_20 ?_
  refine J_nmD (fun d4 hd4 => ?_)
  refine JR_aload_n (pc := 23) (k := 0) (i := 0) (o := some this) G rfl rfl dX9_starts_23 ?_
  refine JR_iconst (pc := 24) G ci_0 dX9_starts_24 ?_
  refine JW_pI (pc := 25) (k := 3) G cl_X9 in_X9 tyX9_ok nmX9 (by decide) (by decide) rfl (Or.inl rfl) rfl q344 rfl rfl hz1 (fun _ => rfl) dX9_starts_25 ?_
  refine J_nmD (fun d5 hd5 => ?_)
  refine JR_aload_n (pc := 28) (k := 0) (i := 0) (o := some this) G rfl rfl dX9_starts_28 ?_
  refine JR_iconst (pc := 29) G ci_0 dX9_starts_29 ?_
  refine JW_pI (pc := 30) (k := 4) G cl_X9 in_X9 tyX9_ok nmX9 (by decide) (by decide) rfl (Or.inl rfl) rfl q346 rfl rfl hz1 (fun _ => rfl) dX9_starts_30 ?_
  refine J_nmD (fun d6 hd6 => ?_)
  exact JR_vret (pc := 33) G hR dX9_starts_33 rfl rfl

def Ws_begins_h48 (this : Nat) (p1 : Int32) (S : Sp) : Nat → (Option Nat) → Int32 → Dt → Option (Unit × Dt)
  | 0, _, _, _ => none
  | f + 1, v2, v3, d =>
    (isK S 0 (some this)).bind fun z12 =>
    (isK S 1 (S.2.1 z12 0)).bind fun z13 =>
    (isK S 16 (S.2.1 z13 1)).bind fun z14 =>
    (Jl_size z14 S d).bind fun r15 =>
    if r15 ≤ v3 then
      some ((), d)
    else
      (Jl_get z14 v3 S d).bind fun r16 =>
      (isK S 13 r16).bind fun z17 =>
      if (d.1 z17 0) = 5 then
        Ws_begins_h48 this p1 S f v2 (v3 + 1) d
      else
        if ¬ (d.1 z17 1) = p1 then
          Ws_begins_h48 this p1 S f v2 (v3 + 1) d
        else
          (isK S 8 v2).bind fun z18 =>
          if ¬ (d.1 z17 2) = (d.1 z18 2) then
            Ws_begins_h48 this p1 S f v2 (v3 + 1) d
          else
            (aix S 50 (S.2.1 z12 23) v3).bind fun q19 =>
            (some (dI d q19.1 q19.2 (d.1 z12 25))).bind fun d20 =>
            Ws_begins_h48 this p1 S f v2 (v3 + 1) d20
def Ws_begins (this : Nat) (p1 : Int32) (S : Sp) (d : Dt) : Option (Unit × Dt) :=
  (isK S 0 (some this)).bind fun z1 =>
  (aix S 57 (S.2.1 z1 12) p1).bind fun q2 =>
  (some (S.2.1 q2.1 q2.2)).bind fun x3 =>
  (isK S 8 x3).bind fun z4 =>
  if ¬ (d.1 z4 0) = 0 then
    some ((), d)
  else
    if (d.1 z1 25) < (d.1 z4 5) then
      some ((), d)
    else
      (Ws_taskOf this p1 S d).bind fun r5 =>
      (isK S 12 r5).bind fun z6 =>
      (gz (d.1 z6 1)).bind fun u7 =>
      if (irm (d.1 z1 25) (d.1 z6 1)) = 0 then
        bind2 (Li_starts z4 S d) fun _ d8 =>
        Ws_begins_h48 this p1 S FU x3 0 d8
      else
        some ((), d)
set_option maxHeartbeats 4000000 in
theorem Ws_begins_fn (this : Nat) (p1 : Int32) (S : Sp) (d : Dt) : Fn yX0_begins (ws_ yX0_begins cX0_begins 5 none) 4 85 [va_rf (some this), .int p1] S d rvU Λw (Ws_begins this p1 S d) := by
  refine Fn.ofJ (own := RX0) (lv := [(0, va_rf (some this)), (1, .int p1)]) (by decide +kernel) rfl (by simp [cat_i, cat_l, cat_f, cat_d, rf_cat]) (by simp [lv_args, cat_i, cat_l, cat_f, cat_d, rf_cat]) ?_
  intro X F G hRm hR hI
  have hWs_begins_h48 : ∀ (f : Nat) (v2 : Option Nat) (v3 : Int32) (d : Dt), J X F Λw S d 48 [(0, va_rf (some this)), (1, .int p1), (2, va_rf v2), (3, .int v3)] [] (Ws_begins_h48 this p1 S f v2 v3 d) := by
    intro  f
    induction f with
    | zero => intro v2 v3 d; exact J_no
    | succ f ih =>
      intro v2 v3 d
      unfold Ws_begins_h48
      refine JR_iload_n (pc := 48) (k := 3) (i := 3) G rfl rfl dX0_begins_48 ?_
      refine JR_aload_n (pc := 49) (k := 0) (i := 0) (o := some this) G rfl rfl dX0_begins_49 ?_
      refine J_bd (fun z12 hz12 => ?_)
      refine JR_gR (pc := 50) (k := 0) G cl_X0 in_X0 (by decide) (by decide) rfl (Or.inl rfl) q451 hz12 dX0_begins_50 ?_
      refine J_bd (fun z13 hz13 => ?_)
      refine JR_gRN (pc := 53) (k := 1) G cl_X1 in_X1 (by decide) (by decide) rfl (Or.inl rfl) q220 hz13 dX0_begins_53 ?_
      refine J_bd (fun z14 hz14 => ?_)
      refine J_stk (st' := [va_rf (some z14), .int v3]) (by rw [(isK_at hz14).1]) ?_
      refine JPV_I (pc := 56) (as := []) (st' := [.int v3]) (o := some z14) G (Jl_size_fn z14 S d) (JC_V (n := 0) G hRm cl_J2 q427 q428 q429 q141 q430 ⟨rfl, dd_J2_size⟩ ⟨by decide, by decide⟩ dX0_begins_56 (isK_s hz14) rfl (Nat.le_of_ble_eq_true rfl)) rfl (fun r15 hr15 => ?_)
      refine JR_icmp_ge (pc := 59) (tgt := 124) G dX0_begins_59 (by decide) (fun c24 => ?_) (fun c24 => ?_)
      · exact JR_vret (pc := 124) G hR dX0_begins_124 rfl rfl
      · refine JR_aload_n (pc := 62) (k := 0) (i := 0) (o := some this) G rfl rfl dX0_begins_62 ?_
        refine JR_gR (pc := 63) (k := 0) G cl_X0 in_X0 (by decide) (by decide) rfl (Or.inl rfl) q451 hz12 dX0_begins_63 ?_
        refine JR_gRN (pc := 66) (k := 1) G cl_X1 in_X1 (by decide) (by decide) rfl (Or.inl rfl) q220 hz13 dX0_begins_66 ?_
        refine JR_iload_n (pc := 69) (k := 3) (i := 3) G rfl rfl dX0_begins_69 ?_
        refine J_stk (st' := [.int v3, va_rf (some z14)]) (by rw [(isK_at hz14).1]) ?_
        refine JPV_R (pc := 70) (as := [.int v3]) (st' := []) (o := some z14) G (Jl_get_fn z14 v3 S d) (JC_V (n := 1) G hRm cl_J2 q435 q436 q437 q141 q438 ⟨rfl, dd_J2_get⟩ ⟨by decide, by decide⟩ dX0_begins_70 (isK_s hz14) rfl (Nat.le_of_ble_eq_true rfl)) rfl (fun r16 hr16 => ?_)
        refine J_bd (fun z17 hz17 => ?_)
        refine JR_castE (pc := 73) G cl_X14 q1005 hz17 dX0_begins_73 ?_
        refine JR_astore (pc := 76) (i := 4) (lv' := [(4, va_rf (some z17)), (0, va_rf (some this)), (1, .int p1), (2, va_rf v2), (3, .int v3)]) G (by decide) rfl dX0_begins_76 ?_
        refine JR_aload (pc := 78) (i := 4) (o := some z17) G rfl dX0_begins_78 ?_
        refine JR_gIN (pc := 80) (k := 0) G cl_X14 in_X14 (by decide) (by decide) rfl (Or.inl rfl) q955 (isK_s hz17) dX0_begins_80 ?_
        refine JR_iconst (pc := 83) G ci_5 dX0_begins_83 ?_
        refine JR_icmp_eq (pc := 84) (tgt := 118) G dX0_begins_84 (by decide) (fun c23 => ?_) (fun c23 => ?_)
        · refine JR_iinc (pc := 118) (i := 3) (v := v3 + 1) (lv' := [(3, .int (v3 + 1)), (4, va_rf (some z17)), (0, va_rf (some this)), (1, .int p1), (2, va_rf v2)]) G rfl (congrArg (fun z => v3 + z) (by decide)) (by decide) (by simp [lvS, rf_cat]) dX0_begins_118 ?_
          refine JR_goto (pc := 121) (tgt := 48) G dX0_begins_121 (by decide) ?_
          refine J_sub [2, 3, 4, 0] rfl ?_
          exact ih v2 (v3 + 1) d
        · refine JR_aload (pc := 87) (i := 4) (o := some z17) G rfl dX0_begins_87 ?_
          refine JR_gIN (pc := 89) (k := 1) G cl_X14 in_X14 (by decide) (by decide) rfl (Or.inl rfl) q957 (isK_s hz17) dX0_begins_89 ?_
          refine JR_iload_n (pc := 92) (k := 1) (i := 1) G rfl rfl dX0_begins_92 ?_
          refine JR_icmp_ne (pc := 93) (tgt := 118) G dX0_begins_93 (by decide) (fun c22 => ?_) (fun c22 => ?_)
          · refine JR_iinc (pc := 118) (i := 3) (v := v3 + 1) (lv' := [(3, .int (v3 + 1)), (4, va_rf (some z17)), (0, va_rf (some this)), (1, .int p1), (2, va_rf v2)]) G rfl (congrArg (fun z => v3 + z) (by decide)) (by decide) (by simp [lvS, rf_cat]) dX0_begins_118 ?_
            refine JR_goto (pc := 121) (tgt := 48) G dX0_begins_121 (by decide) ?_
            refine J_sub [2, 3, 4, 0] rfl ?_
            exact ih v2 (v3 + 1) d
          · refine JR_aload (pc := 96) (i := 4) (o := some z17) G rfl dX0_begins_96 ?_
            refine JR_gIN (pc := 98) (k := 2) G cl_X14 in_X14 (by decide) (by decide) rfl (Or.inl rfl) q959 (isK_s hz17) dX0_begins_98 ?_
            refine JR_aload_n (pc := 101) (k := 2) (i := 2) (o := v2) G rfl rfl dX0_begins_101 ?_
            refine J_bd (fun z18 hz18 => ?_)
            refine JR_gIN (pc := 102) (k := 2) G cl_X9 in_X9 (by decide) (by decide) rfl (Or.inl rfl) q343 hz18 dX0_begins_102 ?_
            refine JR_icmp_ne (pc := 105) (tgt := 118) G dX0_begins_105 (by decide) (fun c21 => ?_) (fun c21 => ?_)
            · refine JR_iinc (pc := 118) (i := 3) (v := v3 + 1) (lv' := [(3, .int (v3 + 1)), (4, va_rf (some z17)), (0, va_rf (some this)), (1, .int p1), (2, va_rf v2)]) G rfl (congrArg (fun z => v3 + z) (by decide)) (by decide) (by simp [lvS, rf_cat]) dX0_begins_118 ?_
              refine JR_goto (pc := 121) (tgt := 48) G dX0_begins_121 (by decide) ?_
              refine J_sub [2, 3, 4, 0] rfl ?_
              exact ih v2 (v3 + 1) d
            · refine JR_aload_n (pc := 108) (k := 0) (i := 0) (o := some this) G rfl rfl dX0_begins_108 ?_
              refine JR_gR (pc := 109) (k := 23) G cl_X0 in_X0 (by decide) (by decide) rfl (Or.inl rfl) q476 hz12 dX0_begins_109 ?_
              refine JR_iload_n (pc := 112) (k := 3) (i := 3) G rfl rfl dX0_begins_112 ?_
              refine JR_aload_n (pc := 113) (k := 0) (i := 0) (o := some this) G rfl rfl dX0_begins_113 ?_
              refine JR_gI (pc := 114) (k := 25) G cl_X0 in_X0 (by decide) (by decide) rfl (Or.inl rfl) q481 hz12 dX0_begins_114 ?_
              refine J_bd (fun q19 hq19 => ?_)
              refine JW_iastore (pc := 117) G hq19 (fun _ => rfl) dX0_begins_117 ?_
              refine J_nmD (fun d20 hd20 => ?_)
              refine JR_iinc (pc := 118) (i := 3) (v := v3 + 1) (lv' := [(3, .int (v3 + 1)), (4, va_rf (some z17)), (0, va_rf (some this)), (1, .int p1), (2, va_rf v2)]) G rfl (congrArg (fun z => v3 + z) (by decide)) (by decide) (by simp [lvS, rf_cat]) dX0_begins_118 ?_
              refine JR_goto (pc := 121) (tgt := 48) G dX0_begins_121 (by decide) ?_
              refine J_sub [2, 3, 4, 0] rfl ?_
              exact ih v2 (v3 + 1) d20
  unfold Ws_begins
  refine JR_aload_n (pc := 0) (k := 0) (i := 0) (o := some this) G rfl rfl dX0_begins_0 ?_
  refine J_bd (fun z1 hz1 => ?_)
  refine JR_gR (pc := 1) (k := 12) G cl_X0 in_X0 (by decide) (by decide) rfl (Or.inl rfl) q464 hz1 dX0_begins_1 ?_
  refine JR_iload_n (pc := 4) (k := 1) (i := 1) G rfl rfl dX0_begins_4 ?_
  refine J_bd (fun q2 hq2 => ?_)
  refine JR_aaload (pc := 5) (t := 7) G (by decide) rfl hq2 dX0_begins_5 ?_
  refine J_nmR (fun x3 hx3 => ?_)
  refine JR_astore_n (pc := 6) (k := 2) (i := 2) (lv' := [(2, va_rf x3), (0, va_rf (some this)), (1, .int p1)]) G rfl (by decide) rfl dX0_begins_6 ?_
  refine JR_aload_n (pc := 7) (k := 2) (i := 2) (o := x3) G rfl rfl dX0_begins_7 ?_
  refine J_bd (fun z4 hz4 => ?_)
  refine JR_gIN (pc := 8) (k := 0) G cl_X9 in_X9 (by decide) (by decide) rfl (Or.inl rfl) q339 hz4 dX0_begins_8 ?_
  refine JR_if_ne (pc := 11) (tgt := 41) G dX0_begins_11 (by decide) (fun c11 => ?_) (fun c11 => ?_)
  · exact JR_vret (pc := 41) G hR dX0_begins_41 rfl rfl
  · refine JR_aload_n (pc := 14) (k := 0) (i := 0) (o := some this) G rfl rfl dX0_begins_14 ?_
    refine JR_gI (pc := 15) (k := 25) G cl_X0 in_X0 (by decide) (by decide) rfl (Or.inl rfl) q481 hz1 dX0_begins_15 ?_
    refine JR_aload_n (pc := 18) (k := 2) (i := 2) (o := x3) G rfl rfl dX0_begins_18 ?_
    refine JR_gIN (pc := 19) (k := 5) G cl_X9 in_X9 (by decide) (by decide) rfl (Or.inl rfl) q349 hz4 dX0_begins_19 ?_
    refine JR_icmp_lt (pc := 22) (tgt := 41) G dX0_begins_22 (by decide) (fun c10 => ?_) (fun c10 => ?_)
    · exact JR_vret (pc := 41) G hR dX0_begins_41 rfl rfl
    · refine JR_aload_n (pc := 25) (k := 0) (i := 0) (o := some this) G rfl rfl dX0_begins_25 ?_
      refine JR_gI (pc := 26) (k := 25) G cl_X0 in_X0 (by decide) (by decide) rfl (Or.inl rfl) q481 hz1 dX0_begins_26 ?_
      refine JR_aload_n (pc := 29) (k := 0) (i := 0) (o := some this) G rfl rfl dX0_begins_29 ?_
      refine JR_iload_n (pc := 30) (k := 1) (i := 1) G rfl rfl dX0_begins_30 ?_
      refine JPV_R (pc := 31) (as := [.int p1]) (st' := [.int (d.1 z1 25)]) (o := some this) G (Ws_taskOf_fn this p1 S d) (JC_V (n := 1) G hRm cl_X0 q431 q433 qs2 q137 q434 ⟨rfl, dd_X0_taskOf⟩ ⟨by decide, by decide⟩ dX0_begins_31 hz1 rfl (Nat.le_of_ble_eq_true rfl)) rfl (fun r5 hr5 => ?_)
      refine J_bd (fun z6 hz6 => ?_)
      refine JR_gIN (pc := 34) (k := 1) G cl_X13 in_X13 (by decide) (by decide) rfl (Or.inl rfl) q822 hz6 dX0_begins_34 ?_
      refine J_bd (fun u7 hu7 => ?_)
      refine JR_irem (pc := 37) G (gz_at hu7) dX0_begins_37 ?_
      refine JR_if_eq (pc := 38) (tgt := 42) G dX0_begins_38 (by decide) (fun c9 => ?_) (fun c9 => ?_)
      · refine JR_aload_n (pc := 42) (k := 2) (i := 2) (o := x3) G rfl rfl dX0_begins_42 ?_
        refine J_stk (st' := [va_rf (some z4)]) (by rw [(isK_at hz4).1]) ?_
        refine JQV_U (pc := 43) (as := []) (st' := []) (o := some z4) G (Li_starts_fn z4 S d) (JC_V (n := 0) G hRm cl_X9 q1168 q1169 q1170 q149 q1171 ⟨rfl, dd_X9_starts⟩ ⟨by decide, by decide⟩ dX0_begins_43 (isK_s hz4) rfl (Nat.le_of_ble_eq_true rfl)) rfl (fun _ _ => rfl) (fun _ d8 hd8 => ?_)
        refine JR_iconst (pc := 46) G ci_0 dX0_begins_46 ?_
        refine JR_istore_n (pc := 47) (k := 3) (i := 3) (lv' := [(3, .int 0), (2, va_rf x3), (0, va_rf (some this)), (1, .int p1)]) G rfl (by decide) (by simp [lvS, rf_cat]) dX0_begins_47 ?_
        refine J_sub [2, 3, 1, 0] rfl ?_
        exact hWs_begins_h48 FU x3 0 d8
      · exact JR_vret (pc := 41) G hR dX0_begins_41 rfl rfl
