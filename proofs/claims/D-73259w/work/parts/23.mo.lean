/-! WatchStackModel, printed -/
set_option maxRecDepth 100000
def Mo_longest (this : Nat) (p1 : Int32) (p2 : Int32) (S : Sp) (d : Dt) : Option (Int32 × Dt) :=
  (isK S 9 (some this)).bind fun z1 =>
  bind2 (Mo_asksExtras this p1 p2 S d) fun r2 d3 =>
  if r2 = 0 then
    some ((-2), d3)
  else
    some (d3.1 z1 60, d3)
set_option maxHeartbeats 4000000 in
theorem Mo_longest_fn (this : Nat) (p1 : Int32) (p2 : Int32) (S : Sp) (d : Dt) : Fn yX10_longest (ws_ yX10_longest cX10_longest 3 (some .int)) 12 282 [va_rf (some this), .int p1, .int p2] S d rvI Λw (Mo_longest this p1 p2 S d) := by
  refine Fn.ofJ (own := RX10) (lv := [(0, va_rf (some this)), (1, .int p1), (2, .int p2)]) (by decide +kernel) rfl (by simp [cat_i, cat_l, cat_f, cat_d, rf_cat]) (by simp [lv_args, cat_i, cat_l, cat_f, cat_d, rf_cat]) ?_
  intro X F G hRm hR hI
  unfold Mo_longest
  refine JR_aload_n (pc := 0) (k := 0) (i := 0) (o := some this) G rfl rfl dX10_longest_0 ?_
  refine JR_iload_n (pc := 1) (k := 1) (i := 1) G rfl rfl dX10_longest_1 ?_
  refine JR_iload_n (pc := 2) (k := 2) (i := 2) G rfl rfl dX10_longest_2 ?_
  refine J_bd (fun z1 hz1 => ?_)
  refine JQV_I (pc := 3) (as := [.int p1, .int p2]) (st' := []) (o := some this) G (Mo_asksExtras_fn this p1 p2 S d) (JC_V (n := 2) G hRm cl_X10 q2326 q2328 qs133 q152 q2329 ⟨rfl, dd_X10_asksExtras⟩ ⟨by decide, by decide⟩ dX10_longest_3 hz1 rfl (Nat.le_of_ble_eq_true rfl)) rfl (fun _ _ => rfl) (fun r2 d3 hd3 => ?_)
  refine JR_if_eq (pc := 6) (tgt := 16) G dX10_longest_6 (by decide) (fun c4 => ?_) (fun c4 => ?_)
  · refine JR_bipush (pc := 16) (v := (-2)) G (by decide) dX10_longest_16 ?_
    exact JR_iret (pc := 18) G hR dX10_longest_18 rfl rfl
  · refine JR_aload_n (pc := 9) (k := 0) (i := 0) (o := some this) G rfl rfl dX10_longest_9 ?_
    refine JR_gI (pc := 10) (k := 60) G cl_X10 in_X10 (by decide) (by decide) rfl (Or.inl rfl) q1648 hz1 dX10_longest_10 ?_
    refine JR_goto (pc := 13) (tgt := 18) G dX10_longest_13 (by decide) ?_
    exact JR_iret (pc := 18) G hR dX10_longest_18 rfl rfl

def Mo_silent (this : Nat) (p1 : Int32) (p2 : Int32) (S : Sp) (d : Dt) : Option (Int32 × Dt) :=
  (isK S 9 (some this)).bind fun z1 =>
  bind2 (Mo_asksExtras this p1 p2 S d) fun r2 d3 =>
  if r2 = 0 then
    some ((-2), d3)
  else
    some (d3.1 z1 61, d3)
set_option maxHeartbeats 4000000 in
theorem Mo_silent_fn (this : Nat) (p1 : Int32) (p2 : Int32) (S : Sp) (d : Dt) : Fn yX10_silent (ws_ yX10_silent cX10_silent 3 (some .int)) 12 282 [va_rf (some this), .int p1, .int p2] S d rvI Λw (Mo_silent this p1 p2 S d) := by
  refine Fn.ofJ (own := RX10) (lv := [(0, va_rf (some this)), (1, .int p1), (2, .int p2)]) (by decide +kernel) rfl (by simp [cat_i, cat_l, cat_f, cat_d, rf_cat]) (by simp [lv_args, cat_i, cat_l, cat_f, cat_d, rf_cat]) ?_
  intro X F G hRm hR hI
  unfold Mo_silent
  refine JR_aload_n (pc := 0) (k := 0) (i := 0) (o := some this) G rfl rfl dX10_silent_0 ?_
  refine JR_iload_n (pc := 1) (k := 1) (i := 1) G rfl rfl dX10_silent_1 ?_
  refine JR_iload_n (pc := 2) (k := 2) (i := 2) G rfl rfl dX10_silent_2 ?_
  refine J_bd (fun z1 hz1 => ?_)
  refine JQV_I (pc := 3) (as := [.int p1, .int p2]) (st' := []) (o := some this) G (Mo_asksExtras_fn this p1 p2 S d) (JC_V (n := 2) G hRm cl_X10 q2326 q2328 qs133 q152 q2329 ⟨rfl, dd_X10_asksExtras⟩ ⟨by decide, by decide⟩ dX10_silent_3 hz1 rfl (Nat.le_of_ble_eq_true rfl)) rfl (fun _ _ => rfl) (fun r2 d3 hd3 => ?_)
  refine JR_if_eq (pc := 6) (tgt := 16) G dX10_silent_6 (by decide) (fun c4 => ?_) (fun c4 => ?_)
  · refine JR_bipush (pc := 16) (v := (-2)) G (by decide) dX10_silent_16 ?_
    exact JR_iret (pc := 18) G hR dX10_silent_18 rfl rfl
  · refine JR_aload_n (pc := 9) (k := 0) (i := 0) (o := some this) G rfl rfl dX10_silent_9 ?_
    refine JR_gI (pc := 10) (k := 61) G cl_X10 in_X10 (by decide) (by decide) rfl (Or.inl rfl) q1649 hz1 dX10_silent_10 ?_
    refine JR_goto (pc := 13) (tgt := 18) G dX10_silent_13 (by decide) ?_
    exact JR_iret (pc := 18) G hR dX10_silent_18 rfl rfl

def Mo_canInject (this : Nat) (p1 : Int32) (p2 : Int32) (p3 : Int32) (p4 : Int32) (p5 : Int32) (S : Sp) (d : Dt) : Option Int32 :=
  if ¬ p1 = 5 then
    (Mo_in (Int32.toInt64 p1) 0 4 S d).bind fun r1 =>
    if r1 = 0 then
      some 0
    else
      (isK S 9 (some this)).bind fun z2 =>
      (Mo_isTask this p2 S d).bind fun r3 =>
      if r3 = 0 then
        some 0
      else
        (Mo_in (Int32.toInt64 p3) 0 50 S d).bind fun r4 =>
        if r4 = 0 then
          some 0
        else
          (Mo_in (Int32.toInt64 p5) 1 9 S d).bind fun r5 =>
          if ¬ r5 = 0 then
            if ¬ p1 = 4 then
              (Mo_nodesOf this p2 S d).bind fun r6 =>
              (Mo_in (Int32.toInt64 p4) 0 (Int32.toInt64 (r6 - 1)) S d).bind fun r7 =>
              (gb r7).bind fun b8 =>
              some b8
            else
              if ¬ p4 = 0 then
                some 0
              else
                some 1
          else
            some 0
  else
    (isK S 9 (some this)).bind fun z15 =>
    (Mo_isWatcher this p2 S d).bind fun r16 =>
    if r16 = 0 then
      some 0
    else
      (Mo_in (Int32.toInt64 p3) 0 199 S d).bind fun r17 =>
      if r17 = 0 then
        some 0
      else
        if ¬ p4 = 0 then
          some 0
        else
          if ¬ p5 = 0 then
            some 0
          else
            some 1
set_option maxHeartbeats 4000000 in
theorem Mo_canInject_fn (this : Nat) (p1 : Int32) (p2 : Int32) (p3 : Int32) (p4 : Int32) (p5 : Int32) (S : Sp) (d : Dt) : Fn yX10_canInject (ws_ yX10_canInject cX10_canInject 6 (some .boolean)) 2 46 [va_rf (some this), .int p1, .int p2, .int p3, .int p4, .int p5] S d rvI Λp (Mo_canInject this p1 p2 p3 p4 p5 S d) := by
  refine Fn.ofJ (own := RX10) (lv := [(0, va_rf (some this)), (1, .int p1), (2, .int p2), (3, .int p3), (4, .int p4), (5, .int p5)]) (by decide +kernel) rfl (by simp [cat_i, cat_l, cat_f, cat_d, rf_cat]) (by simp [lv_args, cat_i, cat_l, cat_f, cat_d, rf_cat]) ?_
  intro X F G hRm hR hI
  unfold Mo_canInject
  refine JR_iload_n (pc := 0) (k := 1) (i := 1) G rfl rfl dX10_canInject_0 ?_
  refine JR_iconst (pc := 1) G ci_5 dX10_canInject_1 ?_
  refine JR_icmp_ne (pc := 2) (tgt := 41) G dX10_canInject_2 (by decide) (fun c22 => ?_) (fun c22 => ?_)
  · refine JR_iload_n (pc := 41) (k := 1) (i := 1) G rfl rfl dX10_canInject_41 ?_
    refine JR_i2l (pc := 42) G dX10_canInject_42 ?_
    refine JR_lconst (pc := 43) G cl_0 dX10_canInject_43 ?_
    refine JR_ldc2 (pc := 44) G q1961 dX10_canInject_44 ?_
    refine JPS_I (pc := 47) (as := [.long (Int32.toInt64 p1), .long 0, .long 4]) (st' := []) G (Mo_in_fn (Int32.toInt64 p1) 0 4 S d) (JC_S (n := 3) G hRm q1782 q1783 q152 q1784 dd_X10_in ⟨by decide, by decide⟩ dX10_canInject_47 rfl (Nat.le_of_ble_eq_true rfl)) rfl (fun r1 hr1 => ?_)
    refine JR_if_eq (pc := 50) (tgt := 86) G dX10_canInject_50 (by decide) (fun c14 => ?_) (fun c14 => ?_)
    · refine JR_iconst (pc := 86) G ci_0 dX10_canInject_86 ?_
      exact JR_zret (pc := 87) G hR dX10_canInject_87 (Or.inl rfl) rfl rfl
    · refine JR_aload_n (pc := 53) (k := 0) (i := 0) (o := some this) G rfl rfl dX10_canInject_53 ?_
      refine JR_iload_n (pc := 54) (k := 2) (i := 2) G rfl rfl dX10_canInject_54 ?_
      refine J_bd (fun z2 hz2 => ?_)
      refine JPV_I (pc := 55) (as := [.int p2]) (st' := []) (o := some this) G (Mo_isTask_fn this p2 S d) (JC_V (n := 1) G hRm cl_X10 q1916 q1918 qs78 q152 q1919 ⟨rfl, dd_X10_isTask⟩ ⟨by decide, by decide⟩ dX10_canInject_55 hz2 rfl (Nat.le_of_ble_eq_true rfl)) rfl (fun r3 hr3 => ?_)
      refine JR_if_eq (pc := 58) (tgt := 86) G dX10_canInject_58 (by decide) (fun c13 => ?_) (fun c13 => ?_)
      · refine JR_iconst (pc := 86) G ci_0 dX10_canInject_86 ?_
        exact JR_zret (pc := 87) G hR dX10_canInject_87 (Or.inl rfl) rfl rfl
      · refine JR_iload_n (pc := 61) (k := 3) (i := 3) G rfl rfl dX10_canInject_61 ?_
        refine JR_i2l (pc := 62) G dX10_canInject_62 ?_
        refine JR_lconst (pc := 63) G cl_0 dX10_canInject_63 ?_
        refine JR_ldc2 (pc := 64) G q2053 dX10_canInject_64 ?_
        refine JPS_I (pc := 67) (as := [.long (Int32.toInt64 p3), .long 0, .long 50]) (st' := []) G (Mo_in_fn (Int32.toInt64 p3) 0 50 S d) (JC_S (n := 3) G hRm q1782 q1783 q152 q1784 dd_X10_in ⟨by decide, by decide⟩ dX10_canInject_67 rfl (Nat.le_of_ble_eq_true rfl)) rfl (fun r4 hr4 => ?_)
        refine JR_if_eq (pc := 70) (tgt := 86) G dX10_canInject_70 (by decide) (fun c12 => ?_) (fun c12 => ?_)
        · refine JR_iconst (pc := 86) G ci_0 dX10_canInject_86 ?_
          exact JR_zret (pc := 87) G hR dX10_canInject_87 (Or.inl rfl) rfl rfl
        · refine JR_iload (pc := 73) (i := 5) G rfl dX10_canInject_73 ?_
          refine JR_i2l (pc := 75) G dX10_canInject_75 ?_
          refine JR_lconst (pc := 76) G cl_1 dX10_canInject_76 ?_
          refine JR_ldc2 (pc := 77) G q2347 dX10_canInject_77 ?_
          refine JPS_I (pc := 80) (as := [.long (Int32.toInt64 p5), .long 1, .long 9]) (st' := []) G (Mo_in_fn (Int32.toInt64 p5) 1 9 S d) (JC_S (n := 3) G hRm q1782 q1783 q152 q1784 dd_X10_in ⟨by decide, by decide⟩ dX10_canInject_80 rfl (Nat.le_of_ble_eq_true rfl)) rfl (fun r5 hr5 => ?_)
          refine JR_if_ne (pc := 83) (tgt := 88) G dX10_canInject_83 (by decide) (fun c11 => ?_) (fun c11 => ?_)
          · refine JR_iload_n (pc := 88) (k := 1) (i := 1) G rfl rfl dX10_canInject_88 ?_
            refine JR_iconst (pc := 89) G ci_4 dX10_canInject_89 ?_
            refine JR_icmp_ne (pc := 90) (tgt := 106) G dX10_canInject_90 (by decide) (fun c10 => ?_) (fun c10 => ?_)
            · refine JR_iload (pc := 106) (i := 4) G rfl dX10_canInject_106 ?_
              refine JR_i2l (pc := 108) G dX10_canInject_108 ?_
              refine JR_lconst (pc := 109) G cl_0 dX10_canInject_109 ?_
              refine JR_aload_n (pc := 110) (k := 0) (i := 0) (o := some this) G rfl rfl dX10_canInject_110 ?_
              refine JR_iload_n (pc := 111) (k := 2) (i := 2) G rfl rfl dX10_canInject_111 ?_
              refine JPV_I (pc := 112) (as := [.int p2]) (st' := [.long 0, .long (Int32.toInt64 p4)]) (o := some this) G (Mo_nodesOf_fn this p2 S d) (JC_V (n := 1) G hRm cl_X10 q1929 q1931 qs80 q152 q1932 ⟨rfl, dd_X10_nodesOf⟩ ⟨by decide, by decide⟩ dX10_canInject_112 hz2 rfl (Nat.le_of_ble_eq_true rfl)) rfl (fun r6 hr6 => ?_)
              refine JR_iconst (pc := 115) G ci_1 dX10_canInject_115 ?_
              refine JR_isub (pc := 116) G dX10_canInject_116 ?_
              refine JR_i2l (pc := 117) G dX10_canInject_117 ?_
              refine JPS_I (pc := 118) (as := [.long (Int32.toInt64 p4), .long 0, .long (Int32.toInt64 (r6 - 1))]) (st' := []) G (Mo_in_fn (Int32.toInt64 p4) 0 (Int32.toInt64 (r6 - 1)) S d) (JC_S (n := 3) G hRm q1782 q1783 q152 q1784 dd_X10_in ⟨by decide, by decide⟩ dX10_canInject_118 rfl (Nat.le_of_ble_eq_true rfl)) rfl (fun r7 hr7 => ?_)
              refine J_bd (fun b8 hb8 => ?_)
              refine J_stk (st' := [.int b8]) (by rw [(gb_at hb8).1]) ?_
              exact JR_zret (pc := 121) G hR dX10_canInject_121 (by have h9 := gb_at hb8; rw [h9.1]; exact h9.2) rfl rfl
            · refine JR_iload (pc := 93) (i := 4) G rfl dX10_canInject_93 ?_
              refine JR_if_ne (pc := 95) (tgt := 102) G dX10_canInject_95 (by decide) (fun c9 => ?_) (fun c9 => ?_)
              · refine JR_iconst (pc := 102) G ci_0 dX10_canInject_102 ?_
                refine JR_goto (pc := 103) (tgt := 121) G dX10_canInject_103 (by decide) ?_
                exact JR_zret (pc := 121) G hR dX10_canInject_121 (Or.inl rfl) rfl rfl
              · refine JR_iconst (pc := 98) G ci_1 dX10_canInject_98 ?_
                refine JR_goto (pc := 99) (tgt := 121) G dX10_canInject_99 (by decide) ?_
                exact JR_zret (pc := 121) G hR dX10_canInject_121 (Or.inr rfl) rfl rfl
          · refine JR_iconst (pc := 86) G ci_0 dX10_canInject_86 ?_
            exact JR_zret (pc := 87) G hR dX10_canInject_87 (Or.inl rfl) rfl rfl
  · refine JR_aload_n (pc := 5) (k := 0) (i := 0) (o := some this) G rfl rfl dX10_canInject_5 ?_
    refine JR_iload_n (pc := 6) (k := 2) (i := 2) G rfl rfl dX10_canInject_6 ?_
    refine J_bd (fun z15 hz15 => ?_)
    refine JPV_I (pc := 7) (as := [.int p2]) (st' := []) (o := some this) G (Mo_isWatcher_fn this p2 S d) (JC_V (n := 1) G hRm cl_X10 q1949 q1951 qs84 q152 q1952 ⟨rfl, dd_X10_isWatcher⟩ ⟨by decide, by decide⟩ dX10_canInject_7 hz15 rfl (Nat.le_of_ble_eq_true rfl)) rfl (fun r16 hr16 => ?_)
    refine JR_if_eq (pc := 10) (tgt := 39) G dX10_canInject_10 (by decide) (fun c21 => ?_) (fun c21 => ?_)
    · refine JR_iconst (pc := 39) G ci_0 dX10_canInject_39 ?_
      exact JR_zret (pc := 40) G hR dX10_canInject_40 (Or.inl rfl) rfl rfl
    · refine JR_iload_n (pc := 13) (k := 3) (i := 3) G rfl rfl dX10_canInject_13 ?_
      refine JR_i2l (pc := 14) G dX10_canInject_14 ?_
      refine JR_lconst (pc := 15) G cl_0 dX10_canInject_15 ?_
      refine JR_ldc2 (pc := 16) G q2346 dX10_canInject_16 ?_
      refine JPS_I (pc := 19) (as := [.long (Int32.toInt64 p3), .long 0, .long 199]) (st' := []) G (Mo_in_fn (Int32.toInt64 p3) 0 199 S d) (JC_S (n := 3) G hRm q1782 q1783 q152 q1784 dd_X10_in ⟨by decide, by decide⟩ dX10_canInject_19 rfl (Nat.le_of_ble_eq_true rfl)) rfl (fun r17 hr17 => ?_)
      refine JR_if_eq (pc := 22) (tgt := 39) G dX10_canInject_22 (by decide) (fun c20 => ?_) (fun c20 => ?_)
      · refine JR_iconst (pc := 39) G ci_0 dX10_canInject_39 ?_
        exact JR_zret (pc := 40) G hR dX10_canInject_40 (Or.inl rfl) rfl rfl
      · refine JR_iload (pc := 25) (i := 4) G rfl dX10_canInject_25 ?_
        refine JR_if_ne (pc := 27) (tgt := 39) G dX10_canInject_27 (by decide) (fun c19 => ?_) (fun c19 => ?_)
        · refine JR_iconst (pc := 39) G ci_0 dX10_canInject_39 ?_
          exact JR_zret (pc := 40) G hR dX10_canInject_40 (Or.inl rfl) rfl rfl
        · refine JR_iload (pc := 30) (i := 5) G rfl dX10_canInject_30 ?_
          refine JR_if_ne (pc := 32) (tgt := 39) G dX10_canInject_32 (by decide) (fun c18 => ?_) (fun c18 => ?_)
          · refine JR_iconst (pc := 39) G ci_0 dX10_canInject_39 ?_
            exact JR_zret (pc := 40) G hR dX10_canInject_40 (Or.inl rfl) rfl rfl
          · refine JR_iconst (pc := 35) G ci_1 dX10_canInject_35 ?_
            refine JR_goto (pc := 36) (tgt := 40) G dX10_canInject_36 (by decide) ?_
            exact JR_zret (pc := 40) G hR dX10_canInject_40 (Or.inr rfl) rfl rfl

def Mo_inject_b117 (this : Nat) (p1 : Int32) (p2 : Int32) (p3 : Int32) (p4 : Int32) (p5 : Int32) (S : Sp) (s0 : Int32) (s1 : Int32) (s2 : Option Nat) (d : Dt) : Option (Int32 × Dt) :=
  (aix S 50 s2 s1).bind fun q21 =>
  (some (dI d q21.1 q21.2 s0)).bind fun d22 =>
  (isK S 9 (some this)).bind fun z23 =>
  (aix S 50 (S.2.1 z23 1) 6).bind fun q24 =>
  (some (dI d22 q24.1 q24.2 ((d22.1 q24.1 q24.2) + 1))).bind fun d25 =>
  bind2 (Mo_asks this S d25) fun r26 d27 =>
  some (d27.1 z23 56, d27)
def Mo_inject_b97 (this : Nat) (p1 : Int32) (p2 : Int32) (p3 : Int32) (p4 : Int32) (p5 : Int32) (S : Sp) (v6 : Int32) (s0 : Int32) (s1 : Int32) (s2 : Option Nat) (d : Dt) : Option (Int32 × Dt) :=
  (aix S 50 s2 s1).bind fun q17 =>
  (some (dI d q17.1 q17.2 s0)).bind fun d18 =>
  (isK S 9 (some this)).bind fun z19 =>
  Mo_inject_b117 this p1 p2 p3 p4 p5 S (if ¬ p1 = 5 then p5 else (-1)) (v6 + 4) (S.2.1 z19 1) d18
def Mo_inject (this : Nat) (p1 : Int32) (p2 : Int32) (p3 : Int32) (p4 : Int32) (p5 : Int32) (S : Sp) (d : Dt) : Option (Int32 × Dt) :=
  (isK S 9 (some this)).bind fun z1 =>
  (Mo_isBoard this S d).bind fun r2 =>
  if r2 = 0 then
    some ((-2), d)
  else
    (Mo_canInject this p1 p2 p3 p4 p5 S d).bind fun r3 =>
    if ¬ r3 = 0 then
      (aix S 50 (S.2.1 z1 1) 6).bind fun q4 =>
      if ¬ (d.1 q4.1 q4.2) = 10 then
        (Mo_many this S d).bind fun r5 =>
        (some (106 + (5 * r5))).bind fun x6 =>
        (aix S 50 (S.2.1 z1 1) x6).bind fun q7 =>
        (some (dI d q7.1 q7.2 p1)).bind fun d8 =>
        (aix S 50 (S.2.1 z1 1) (x6 + 1)).bind fun q9 =>
        (some (dI d8 q9.1 q9.2 p2)).bind fun d10 =>
        (aix S 50 (S.2.1 z1 1) (x6 + 2)).bind fun q11 =>
        (some (dI d10 q11.1 q11.2 p3)).bind fun d12 =>
        Mo_inject_b97 this p1 p2 p3 p4 p5 S x6 (if p1 < 4 then p4 else (-1)) (x6 + 3) (S.2.1 z1 1) d12
      else
        some ((-5), d)
    else
      some ((-2), d)
set_option maxHeartbeats 4000000 in
theorem Mo_inject_fn (this : Nat) (p1 : Int32) (p2 : Int32) (p3 : Int32) (p4 : Int32) (p5 : Int32) (S : Sp) (d : Dt) : Fn yX10_inject (ws_ yX10_inject cX10_inject 7 (some .int)) 11 251 [va_rf (some this), .int p1, .int p2, .int p3, .int p4, .int p5] S d rvI Λw (Mo_inject this p1 p2 p3 p4 p5 S d) := by
  refine Fn.ofJ (own := RX10) (lv := [(0, va_rf (some this)), (1, .int p1), (2, .int p2), (3, .int p3), (4, .int p4), (5, .int p5)]) (by decide +kernel) rfl (by simp [cat_i, cat_l, cat_f, cat_d, rf_cat]) (by simp [lv_args, cat_i, cat_l, cat_f, cat_d, rf_cat]) ?_
  intro X F G hRm hR hI
  have hMo_inject_b117 : ∀ (s0 : Int32) (s1 : Int32) (s2 : Option Nat) (d : Dt), J X F Λw S d 117 [(0, va_rf (some this)), (1, .int p1), (2, .int p2), (3, .int p3), (4, .int p4), (5, .int p5)] [.int s0, .int s1, va_rf s2] (Mo_inject_b117 this p1 p2 p3 p4 p5 S s0 s1 s2 d) := by
    intro s0 s1 s2 d
    unfold Mo_inject_b117
    refine J_bd (fun q21 hq21 => ?_)
    refine JW_iastore (pc := 117) G hq21 (fun _ => rfl) dX10_inject_117 ?_
    refine J_nmD (fun d22 hd22 => ?_)
    refine JR_aload_n (pc := 118) (k := 0) (i := 0) (o := some this) G rfl rfl dX10_inject_118 ?_
    refine J_bd (fun z23 hz23 => ?_)
    refine JR_gR (pc := 119) (k := 1) G cl_X10 in_X10 (by decide) (by decide) rfl (Or.inl rfl) q1589 hz23 dX10_inject_119 ?_
    refine JR_bipush (pc := 122) (v := 6) G (by decide) dX10_inject_122 ?_
    refine JR_dup2 (pc := 124) G rfl (rf_cat _) dX10_inject_124 ?_
    refine J_bd (fun q24 hq24 => ?_)
    refine JR_iaload (pc := 125) G hq24 dX10_inject_125 ?_
    refine JR_iconst (pc := 126) G ci_1 dX10_inject_126 ?_
    refine JR_iadd (pc := 127) G dX10_inject_127 ?_
    refine JW_iastore (pc := 128) G hq24 (fun _ => rfl) dX10_inject_128 ?_
    refine J_nmD (fun d25 hd25 => ?_)
    refine JR_aload_n (pc := 129) (k := 0) (i := 0) (o := some this) G rfl rfl dX10_inject_129 ?_
    refine JQV_I (pc := 130) (as := []) (st' := []) (o := some this) G (Mo_asks_fn this S d25) (JC_V (n := 0) G hRm cl_X10 q2078 q2080 qs100 q152 q2081 ⟨rfl, dd_X10_asks⟩ ⟨by decide, by decide⟩ dX10_inject_130 hz23 rfl (Nat.le_of_ble_eq_true rfl)) rfl (fun _ _ => rfl) (fun r26 d27 hd27 => ?_)
    refine JR_pop (pc := 133) G rfl dX10_inject_133 ?_
    refine JR_aload_n (pc := 134) (k := 0) (i := 0) (o := some this) G rfl rfl dX10_inject_134 ?_
    refine JR_gI (pc := 135) (k := 56) G cl_X10 in_X10 (by decide) (by decide) rfl (Or.inl rfl) q1644 hz23 dX10_inject_135 ?_
    exact JR_iret (pc := 138) G hR dX10_inject_138 rfl rfl
  have hMo_inject_b97 : ∀ (v6 : Int32) (s0 : Int32) (s1 : Int32) (s2 : Option Nat) (d : Dt), J X F Λw S d 97 [(0, va_rf (some this)), (1, .int p1), (2, .int p2), (3, .int p3), (4, .int p4), (5, .int p5), (6, .int v6)] [.int s0, .int s1, va_rf s2] (Mo_inject_b97 this p1 p2 p3 p4 p5 S v6 s0 s1 s2 d) := by
    intro v6 s0 s1 s2 d
    unfold Mo_inject_b97
    refine J_bd (fun q17 hq17 => ?_)
    refine JW_iastore (pc := 97) G hq17 (fun _ => rfl) dX10_inject_97 ?_
    refine J_nmD (fun d18 hd18 => ?_)
    refine JR_aload_n (pc := 98) (k := 0) (i := 0) (o := some this) G rfl rfl dX10_inject_98 ?_
    refine J_bd (fun z19 hz19 => ?_)
    refine JR_gR (pc := 99) (k := 1) G cl_X10 in_X10 (by decide) (by decide) rfl (Or.inl rfl) q1589 hz19 dX10_inject_99 ?_
    refine JR_iload (pc := 102) (i := 6) G rfl dX10_inject_102 ?_
    refine JR_iconst (pc := 104) G ci_4 dX10_inject_104 ?_
    refine JR_iadd (pc := 105) G dX10_inject_105 ?_
    refine JR_iload_n (pc := 106) (k := 1) (i := 1) G rfl rfl dX10_inject_106 ?_
    refine JR_iconst (pc := 107) G ci_5 dX10_inject_107 ?_
    refine J_eq (r' := if ¬ p1 = 5 then Mo_inject_b117 this p1 p2 p3 p4 p5 S p5 (v6 + 4) (S.2.1 z19 1) d18 else Mo_inject_b117 this p1 p2 p3 p4 p5 S ((-1)) (v6 + 4) (S.2.1 z19 1) d18) (by split <;> rfl) ?_
    refine JR_icmp_ne (pc := 108) (tgt := 115) G dX10_inject_108 (by decide) (fun c20 => ?_) (fun c20 => ?_)
    · refine JR_iload (pc := 115) (i := 5) G rfl dX10_inject_115 ?_
      refine J_sub [0, 1, 2, 3, 4, 5] rfl ?_
      exact hMo_inject_b117 p5 (v6 + 4) (S.2.1 z19 1) d18
    · refine JR_iconst (pc := 111) G ci_m1 dX10_inject_111 ?_
      refine JR_goto (pc := 112) (tgt := 117) G dX10_inject_112 (by decide) ?_
      refine J_sub [0, 1, 2, 3, 4, 5] rfl ?_
      exact hMo_inject_b117 ((-1)) (v6 + 4) (S.2.1 z19 1) d18
  unfold Mo_inject
  refine JR_aload_n (pc := 0) (k := 0) (i := 0) (o := some this) G rfl rfl dX10_inject_0 ?_
  refine J_bd (fun z1 hz1 => ?_)
  refine JPV_I (pc := 1) (as := []) (st' := []) (o := some this) G (Mo_isBoard_fn this S d) (JC_V (n := 0) G hRm cl_X10 q2012 q2014 qs93 q152 q2015 ⟨rfl, dd_X10_isBoard⟩ ⟨by decide, by decide⟩ dX10_inject_1 hz1 rfl (Nat.le_of_ble_eq_true rfl)) rfl (fun r2 hr2 => ?_)
  refine JR_if_eq (pc := 4) (tgt := 21) G dX10_inject_4 (by decide) (fun c16 => ?_) (fun c16 => ?_)
  · refine JR_bipush (pc := 21) (v := (-2)) G (by decide) dX10_inject_21 ?_
    exact JR_iret (pc := 23) G hR dX10_inject_23 rfl rfl
  · refine JR_aload_n (pc := 7) (k := 0) (i := 0) (o := some this) G rfl rfl dX10_inject_7 ?_
    refine JR_iload_n (pc := 8) (k := 1) (i := 1) G rfl rfl dX10_inject_8 ?_
    refine JR_iload_n (pc := 9) (k := 2) (i := 2) G rfl rfl dX10_inject_9 ?_
    refine JR_iload_n (pc := 10) (k := 3) (i := 3) G rfl rfl dX10_inject_10 ?_
    refine JR_iload (pc := 11) (i := 4) G rfl dX10_inject_11 ?_
    refine JR_iload (pc := 13) (i := 5) G rfl dX10_inject_13 ?_
    refine JPV_I (pc := 15) (as := [.int p1, .int p2, .int p3, .int p4, .int p5]) (st' := []) (o := some this) G (Mo_canInject_fn this p1 p2 p3 p4 p5 S d) (JC_V (n := 5) G hRm cl_X10 q2342 q2344 qs135 q152 q2345 ⟨rfl, dd_X10_canInject⟩ ⟨by decide, by decide⟩ dX10_inject_15 hz1 rfl (Nat.le_of_ble_eq_true rfl)) rfl (fun r3 hr3 => ?_)
    refine JR_if_ne (pc := 18) (tgt := 24) G dX10_inject_18 (by decide) (fun c15 => ?_) (fun c15 => ?_)
    · refine JR_aload_n (pc := 24) (k := 0) (i := 0) (o := some this) G rfl rfl dX10_inject_24 ?_
      refine JR_gR (pc := 25) (k := 1) G cl_X10 in_X10 (by decide) (by decide) rfl (Or.inl rfl) q1589 hz1 dX10_inject_25 ?_
      refine JR_bipush (pc := 28) (v := 6) G (by decide) dX10_inject_28 ?_
      refine J_bd (fun q4 hq4 => ?_)
      refine JR_iaload (pc := 30) G hq4 dX10_inject_30 ?_
      refine JR_bipush (pc := 31) (v := 10) G (by decide) dX10_inject_31 ?_
      refine JR_icmp_ne (pc := 33) (tgt := 39) G dX10_inject_33 (by decide) (fun c14 => ?_) (fun c14 => ?_)
      · refine JR_bipush (pc := 39) (v := 106) G (by decide) dX10_inject_39 ?_
        refine JR_iconst (pc := 41) G ci_5 dX10_inject_41 ?_
        refine JR_aload_n (pc := 42) (k := 0) (i := 0) (o := some this) G rfl rfl dX10_inject_42 ?_
        refine JPV_I (pc := 43) (as := []) (st' := [.int 5, .int 106]) (o := some this) G (Mo_many_fn this S d) (JC_V (n := 0) G hRm cl_X10 q1957 q1959 qs85 q152 q1960 ⟨rfl, dd_X10_many⟩ ⟨by decide, by decide⟩ dX10_inject_43 hz1 rfl (Nat.le_of_ble_eq_true rfl)) rfl (fun r5 hr5 => ?_)
        refine JR_imul (pc := 46) G dX10_inject_46 ?_
        refine JR_iadd (pc := 47) G dX10_inject_47 ?_
        refine J_nm (fun x6 hx6 => ?_)
        refine JR_istore (pc := 48) (i := 6) (lv' := [(6, .int x6), (0, va_rf (some this)), (1, .int p1), (2, .int p2), (3, .int p3), (4, .int p4), (5, .int p5)]) G (by decide) rfl dX10_inject_48 ?_
        refine JR_aload_n (pc := 50) (k := 0) (i := 0) (o := some this) G rfl rfl dX10_inject_50 ?_
        refine JR_gR (pc := 51) (k := 1) G cl_X10 in_X10 (by decide) (by decide) rfl (Or.inl rfl) q1589 hz1 dX10_inject_51 ?_
        refine JR_iload (pc := 54) (i := 6) G rfl dX10_inject_54 ?_
        refine JR_iload_n (pc := 56) (k := 1) (i := 1) G rfl rfl dX10_inject_56 ?_
        refine J_bd (fun q7 hq7 => ?_)
        refine JW_iastore (pc := 57) G hq7 (fun _ => rfl) dX10_inject_57 ?_
        refine J_nmD (fun d8 hd8 => ?_)
        refine JR_aload_n (pc := 58) (k := 0) (i := 0) (o := some this) G rfl rfl dX10_inject_58 ?_
        refine JR_gR (pc := 59) (k := 1) G cl_X10 in_X10 (by decide) (by decide) rfl (Or.inl rfl) q1589 hz1 dX10_inject_59 ?_
        refine JR_iload (pc := 62) (i := 6) G rfl dX10_inject_62 ?_
        refine JR_iconst (pc := 64) G ci_1 dX10_inject_64 ?_
        refine JR_iadd (pc := 65) G dX10_inject_65 ?_
        refine JR_iload_n (pc := 66) (k := 2) (i := 2) G rfl rfl dX10_inject_66 ?_
        refine J_bd (fun q9 hq9 => ?_)
        refine JW_iastore (pc := 67) G hq9 (fun _ => rfl) dX10_inject_67 ?_
        refine J_nmD (fun d10 hd10 => ?_)
        refine JR_aload_n (pc := 68) (k := 0) (i := 0) (o := some this) G rfl rfl dX10_inject_68 ?_
        refine JR_gR (pc := 69) (k := 1) G cl_X10 in_X10 (by decide) (by decide) rfl (Or.inl rfl) q1589 hz1 dX10_inject_69 ?_
        refine JR_iload (pc := 72) (i := 6) G rfl dX10_inject_72 ?_
        refine JR_iconst (pc := 74) G ci_2 dX10_inject_74 ?_
        refine JR_iadd (pc := 75) G dX10_inject_75 ?_
        refine JR_iload_n (pc := 76) (k := 3) (i := 3) G rfl rfl dX10_inject_76 ?_
        refine J_bd (fun q11 hq11 => ?_)
        refine JW_iastore (pc := 77) G hq11 (fun _ => rfl) dX10_inject_77 ?_
        refine J_nmD (fun d12 hd12 => ?_)
        refine JR_aload_n (pc := 78) (k := 0) (i := 0) (o := some this) G rfl rfl dX10_inject_78 ?_
        refine JR_gR (pc := 79) (k := 1) G cl_X10 in_X10 (by decide) (by decide) rfl (Or.inl rfl) q1589 hz1 dX10_inject_79 ?_
        refine JR_iload (pc := 82) (i := 6) G rfl dX10_inject_82 ?_
        refine JR_iconst (pc := 84) G ci_3 dX10_inject_84 ?_
        refine JR_iadd (pc := 85) G dX10_inject_85 ?_
        refine JR_iload_n (pc := 86) (k := 1) (i := 1) G rfl rfl dX10_inject_86 ?_
        refine JR_iconst (pc := 87) G ci_4 dX10_inject_87 ?_
        refine J_eq (r' := if p1 < 4 then Mo_inject_b97 this p1 p2 p3 p4 p5 S x6 p4 (x6 + 3) (S.2.1 z1 1) d12 else Mo_inject_b97 this p1 p2 p3 p4 p5 S x6 ((-1)) (x6 + 3) (S.2.1 z1 1) d12) (by split <;> rfl) ?_
        refine JR_icmp_lt (pc := 88) (tgt := 95) G dX10_inject_88 (by decide) (fun c13 => ?_) (fun c13 => ?_)
        · refine JR_iload (pc := 95) (i := 4) G rfl dX10_inject_95 ?_
          refine J_sub [1, 2, 3, 4, 5, 6, 0] rfl ?_
          exact hMo_inject_b97 x6 p4 (x6 + 3) (S.2.1 z1 1) d12
        · refine JR_iconst (pc := 91) G ci_m1 dX10_inject_91 ?_
          refine JR_goto (pc := 92) (tgt := 97) G dX10_inject_92 (by decide) ?_
          refine J_sub [1, 2, 3, 4, 5, 6, 0] rfl ?_
          exact hMo_inject_b97 x6 ((-1)) (x6 + 3) (S.2.1 z1 1) d12
      · refine JR_bipush (pc := 36) (v := (-5)) G (by decide) dX10_inject_36 ?_
        exact JR_iret (pc := 38) G hR dX10_inject_38 rfl rfl
    · refine JR_bipush (pc := 21) (v := (-2)) G (by decide) dX10_inject_21 ?_
      exact JR_iret (pc := 23) G hR dX10_inject_23 rfl rfl

def Mo_undo (this : Nat) (S : Sp) (d : Dt) : Option (Int32 × Dt) :=
  (isK S 9 (some this)).bind fun z1 =>
  (Mo_isBoard this S d).bind fun r2 =>
  if ¬ r2 = 0 then
    (aix S 50 (S.2.1 z1 1) 6).bind fun q3 =>
    if ¬ (d.1 q3.1 q3.2) = 0 then
      (some (dI d q3.1 q3.2 ((d.1 q3.1 q3.2) - 1))).bind fun d4 =>
      some (d4.1 q3.1 q3.2, d4)
    else
      some ((-5), d)
  else
    some ((-2), d)
set_option maxHeartbeats 4000000 in
theorem Mo_undo_fn (this : Nat) (S : Sp) (d : Dt) : Fn yX10_undo (ws_ yX10_undo cX10_undo 1 (some .int)) 1 20 [va_rf (some this)] S d rvI Λw (Mo_undo this S d) := by
  refine Fn.ofJ (own := RX10) (lv := [(0, va_rf (some this))]) (by decide +kernel) rfl (by simp [cat_i, cat_l, cat_f, cat_d, rf_cat]) (by simp [lv_args, cat_i, cat_l, cat_f, cat_d, rf_cat]) ?_
  intro X F G hRm hR hI
  unfold Mo_undo
  refine JR_aload_n (pc := 0) (k := 0) (i := 0) (o := some this) G rfl rfl dX10_undo_0 ?_
  refine J_bd (fun z1 hz1 => ?_)
  refine JPV_I (pc := 1) (as := []) (st' := []) (o := some this) G (Mo_isBoard_fn this S d) (JC_V (n := 0) G hRm cl_X10 q2012 q2014 qs93 q152 q2015 ⟨rfl, dd_X10_isBoard⟩ ⟨by decide, by decide⟩ dX10_undo_1 hz1 rfl (Nat.le_of_ble_eq_true rfl)) rfl (fun r2 hr2 => ?_)
  refine JR_if_ne (pc := 4) (tgt := 10) G dX10_undo_4 (by decide) (fun c6 => ?_) (fun c6 => ?_)
  · refine JR_aload_n (pc := 10) (k := 0) (i := 0) (o := some this) G rfl rfl dX10_undo_10 ?_
    refine JR_gR (pc := 11) (k := 1) G cl_X10 in_X10 (by decide) (by decide) rfl (Or.inl rfl) q1589 hz1 dX10_undo_11 ?_
    refine JR_bipush (pc := 14) (v := 6) G (by decide) dX10_undo_14 ?_
    refine J_bd (fun q3 hq3 => ?_)
    refine JR_iaload (pc := 16) G hq3 dX10_undo_16 ?_
    refine JR_if_ne (pc := 17) (tgt := 23) G dX10_undo_17 (by decide) (fun c5 => ?_) (fun c5 => ?_)
    · refine JR_aload_n (pc := 23) (k := 0) (i := 0) (o := some this) G rfl rfl dX10_undo_23 ?_
      refine JR_gR (pc := 24) (k := 1) G cl_X10 in_X10 (by decide) (by decide) rfl (Or.inl rfl) q1589 hz1 dX10_undo_24 ?_
      refine JR_bipush (pc := 27) (v := 6) G (by decide) dX10_undo_27 ?_
      refine JR_dup2 (pc := 29) G rfl (rf_cat _) dX10_undo_29 ?_
      refine JR_iaload (pc := 30) G hq3 dX10_undo_30 ?_
      refine JR_iconst (pc := 31) G ci_1 dX10_undo_31 ?_
      refine JR_isub (pc := 32) G dX10_undo_32 ?_
      refine JW_iastore (pc := 33) G hq3 (fun _ => rfl) dX10_undo_33 ?_
      refine J_nmD (fun d4 hd4 => ?_)
      refine JR_aload_n (pc := 34) (k := 0) (i := 0) (o := some this) G rfl rfl dX10_undo_34 ?_
      refine JR_gR (pc := 35) (k := 1) G cl_X10 in_X10 (by decide) (by decide) rfl (Or.inl rfl) q1589 hz1 dX10_undo_35 ?_
      refine JR_bipush (pc := 38) (v := 6) G (by decide) dX10_undo_38 ?_
      refine JR_iaload (pc := 40) G hq3 dX10_undo_40 ?_
      exact JR_iret (pc := 41) G hR dX10_undo_41 rfl rfl
    · refine JR_bipush (pc := 20) (v := (-5)) G (by decide) dX10_undo_20 ?_
      exact JR_iret (pc := 22) G hR dX10_undo_22 rfl rfl
  · refine JR_bipush (pc := 7) (v := (-2)) G (by decide) dX10_undo_7 ?_
    exact JR_iret (pc := 9) G hR dX10_undo_9 rfl rfl

def Mo_anew (this : Nat) (S : Sp) (d : Dt) : Option (Int32 × Dt) :=
  (isK S 9 (some this)).bind fun z1 =>
  (Mo_isBoard this S d).bind fun r2 =>
  if ¬ r2 = 0 then
    (aix S 50 (S.2.1 z1 1) 6).bind fun q3 =>
    (some (d.1 q3.1 q3.2)).bind fun x4 =>
    (some (dI d q3.1 q3.2 0)).bind fun d5 =>
    some (x4, d5)
  else
    some ((-2), d)
set_option maxHeartbeats 4000000 in
theorem Mo_anew_fn (this : Nat) (S : Sp) (d : Dt) : Fn yX10_anew (ws_ yX10_anew cX10_anew 2 (some .int)) 1 20 [va_rf (some this)] S d rvI Λw (Mo_anew this S d) := by
  refine Fn.ofJ (own := RX10) (lv := [(0, va_rf (some this))]) (by decide +kernel) rfl (by simp [cat_i, cat_l, cat_f, cat_d, rf_cat]) (by simp [lv_args, cat_i, cat_l, cat_f, cat_d, rf_cat]) ?_
  intro X F G hRm hR hI
  unfold Mo_anew
  refine JR_aload_n (pc := 0) (k := 0) (i := 0) (o := some this) G rfl rfl dX10_anew_0 ?_
  refine J_bd (fun z1 hz1 => ?_)
  refine JPV_I (pc := 1) (as := []) (st' := []) (o := some this) G (Mo_isBoard_fn this S d) (JC_V (n := 0) G hRm cl_X10 q2012 q2014 qs93 q152 q2015 ⟨rfl, dd_X10_isBoard⟩ ⟨by decide, by decide⟩ dX10_anew_1 hz1 rfl (Nat.le_of_ble_eq_true rfl)) rfl (fun r2 hr2 => ?_)
  refine JR_if_ne (pc := 4) (tgt := 10) G dX10_anew_4 (by decide) (fun c6 => ?_) (fun c6 => ?_)
  · refine JR_aload_n (pc := 10) (k := 0) (i := 0) (o := some this) G rfl rfl dX10_anew_10 ?_
    refine JR_gR (pc := 11) (k := 1) G cl_X10 in_X10 (by decide) (by decide) rfl (Or.inl rfl) q1589 hz1 dX10_anew_11 ?_
    refine JR_bipush (pc := 14) (v := 6) G (by decide) dX10_anew_14 ?_
    refine J_bd (fun q3 hq3 => ?_)
    refine JR_iaload (pc := 16) G hq3 dX10_anew_16 ?_
    refine J_nm (fun x4 hx4 => ?_)
    refine JR_istore_n (pc := 17) (k := 1) (i := 1) (lv' := [(1, .int x4), (0, va_rf (some this))]) G rfl (by decide) rfl dX10_anew_17 ?_
    refine JR_aload_n (pc := 18) (k := 0) (i := 0) (o := some this) G rfl rfl dX10_anew_18 ?_
    refine JR_gR (pc := 19) (k := 1) G cl_X10 in_X10 (by decide) (by decide) rfl (Or.inl rfl) q1589 hz1 dX10_anew_19 ?_
    refine JR_bipush (pc := 22) (v := 6) G (by decide) dX10_anew_22 ?_
    refine JR_iconst (pc := 24) G ci_0 dX10_anew_24 ?_
    refine JW_iastore (pc := 25) G hq3 (fun _ => rfl) dX10_anew_25 ?_
    refine J_nmD (fun d5 hd5 => ?_)
    refine JR_iload_n (pc := 26) (k := 1) (i := 1) G rfl rfl dX10_anew_26 ?_
    exact JR_iret (pc := 27) G hR dX10_anew_27 rfl rfl
  · refine JR_bipush (pc := 7) (v := (-2)) G (by decide) dX10_anew_7 ?_
    exact JR_iret (pc := 9) G hR dX10_anew_9 rfl rfl

def Mo_count (this : Nat) (p1 : Int32) (S : Sp) (d : Dt) : Option Int32 :=
  (Mo_in (Int32.toInt64 p1) 0 7 S d).bind fun r1 =>
  if r1 = 0 then
    if ¬ p1 = 8 then
      some ((-1))
    else
      (isK S 9 (some this)).bind fun z2 =>
      some (d.1 z2 5)
  else
    (isK S 9 (some this)).bind fun z4 =>
    (aix S 50 (S.2.1 z4 1) p1).bind fun q5 =>
    some (d.1 q5.1 q5.2)
set_option maxHeartbeats 4000000 in
theorem Mo_count_fn (this : Nat) (p1 : Int32) (S : Sp) (d : Dt) : Fn yX10_count (ws_ yX10_count cX10_count 2 (some .int)) 1 25 [va_rf (some this), .int p1] S d rvI Λp (Mo_count this p1 S d) := by
  refine Fn.ofJ (own := RX10) (lv := [(0, va_rf (some this)), (1, .int p1)]) (by decide +kernel) rfl (by simp [cat_i, cat_l, cat_f, cat_d, rf_cat]) (by simp [lv_args, cat_i, cat_l, cat_f, cat_d, rf_cat]) ?_
  intro X F G hRm hR hI
  unfold Mo_count
  refine JR_iload_n (pc := 0) (k := 1) (i := 1) G rfl rfl dX10_count_0 ?_
  refine JR_i2l (pc := 1) G dX10_count_1 ?_
  refine JR_lconst (pc := 2) G cl_0 dX10_count_2 ?_
  refine JR_ldc2 (pc := 3) G q2267 dX10_count_3 ?_
  refine JPS_I (pc := 6) (as := [.long (Int32.toInt64 p1), .long 0, .long 7]) (st' := []) G (Mo_in_fn (Int32.toInt64 p1) 0 7 S d) (JC_S (n := 3) G hRm q1782 q1783 q152 q1784 dd_X10_in ⟨by decide, by decide⟩ dX10_count_6 rfl (Nat.le_of_ble_eq_true rfl)) rfl (fun r1 hr1 => ?_)
  refine JR_if_eq (pc := 9) (tgt := 19) G dX10_count_9 (by decide) (fun c6 => ?_) (fun c6 => ?_)
  · refine JR_iload_n (pc := 19) (k := 1) (i := 1) G rfl rfl dX10_count_19 ?_
    refine JR_bipush (pc := 20) (v := 8) G (by decide) dX10_count_20 ?_
    refine JR_icmp_ne (pc := 22) (tgt := 32) G dX10_count_22 (by decide) (fun c3 => ?_) (fun c3 => ?_)
    · refine JR_iconst (pc := 32) G ci_m1 dX10_count_32 ?_
      exact JR_iret (pc := 33) G hR dX10_count_33 rfl rfl
    · refine JR_aload_n (pc := 25) (k := 0) (i := 0) (o := some this) G rfl rfl dX10_count_25 ?_
      refine J_bd (fun z2 hz2 => ?_)
      refine JR_gI (pc := 26) (k := 5) G cl_X10 in_X10 (by decide) (by decide) rfl (Or.inl rfl) q1593 hz2 dX10_count_26 ?_
      refine JR_goto (pc := 29) (tgt := 33) G dX10_count_29 (by decide) ?_
      exact JR_iret (pc := 33) G hR dX10_count_33 rfl rfl
  · refine JR_aload_n (pc := 12) (k := 0) (i := 0) (o := some this) G rfl rfl dX10_count_12 ?_
    refine J_bd (fun z4 hz4 => ?_)
    refine JR_gR (pc := 13) (k := 1) G cl_X10 in_X10 (by decide) (by decide) rfl (Or.inl rfl) q1589 hz4 dX10_count_13 ?_
    refine JR_iload_n (pc := 16) (k := 1) (i := 1) G rfl rfl dX10_count_16 ?_
    refine J_bd (fun q5 hq5 => ?_)
    refine JR_iaload (pc := 17) G hq5 dX10_count_17 ?_
    exact JR_iret (pc := 18) G hR dX10_count_18 rfl rfl
