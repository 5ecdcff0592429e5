/-! WatchStackModel, printed -/
set_option maxRecDepth 100000
def Mo_goes_b134 (this : Nat) (p1 : Int32) (p2 : Int32) (S : Sp) (k8 : Int32 → Dt → Option (Int32 × Dt)) (k41 : Int32 → Int32 → Int32 → Int32 → Dt → Option (Int32 × Dt)) (v3 : Int32) (v4 : Int32) (v6 : Int32) (d : Dt) : Option (Int32 × Dt) :=
  k41 v3 v4 0 (v6 + 1) d
def Mo_goes_b132 (this : Nat) (p1 : Int32) (p2 : Int32) (S : Sp) (k8 : Int32 → Dt → Option (Int32 × Dt)) (k41 : Int32 → Int32 → Int32 → Int32 → Dt → Option (Int32 × Dt)) (v3 : Int32) (v6 : Int32) (s0 : Int32) (d : Dt) : Option (Int32 × Dt) :=
  Mo_goes_b134 this p1 p2 S k8 k41 v3 s0 v6 d
def Mo_goes_b167 (this : Nat) (p1 : Int32) (p2 : Int32) (S : Sp) (k8 : Int32 → Dt → Option (Int32 × Dt)) (v3 : Int32) (s0 : Int32) (s1 : Int32) (s2 : Option Nat) (d : Dt) : Option (Int32 × Dt) :=
  (aix S 50 s2 s1).bind fun q27 =>
  (some (dI d q27.1 q27.2 s0)).bind fun d28 =>
  k8 (v3 + (-1)) d28
def Mo_goes_h41 (this : Nat) (p1 : Int32) (p2 : Int32) (S : Sp) (k8 : Int32 → Dt → Option (Int32 × Dt)) : Nat → Int32 → Int32 → Int32 → Int32 → Dt → Option (Int32 × Dt)
  | 0, _, _, _, _, _ => none
  | f + 1, v3, v4, v5, v6, d =>
    (isK S 9 (some this)).bind fun z12 =>
    (Mo_nodesOf this p1 S d).bind fun r13 =>
    if r13 ≤ v6 then
      if ¬ p2 = 2 then
        (Mo_unitsOf this p1 v3 S d).bind fun r14 =>
        Mo_goes_b167 this p1 p2 S k8 v3 (v4 + r14) v3 (S.2.1 z12 15) d
      else
        Mo_goes_b167 this p1 p2 S k8 v3 v4 v3 (S.2.1 z12 15) d
    else
      (Mo_isBehind this p1 v6 v3 S d).bind fun r16 =>
      if ¬ r16 = 0 then
        if ¬ p2 = 2 then
          if v5 = 0 then
            if ¬ p2 = 1 then
              (aix S 50 (S.2.1 z12 15) v6).bind fun q17 =>
              Mo_goes_b132 this p1 p2 S k8 (Mo_goes_h41 this p1 p2 S k8 f) v3 v6 (imin v4 (d.1 q17.1 q17.2)) d
            else
              (aix S 50 (S.2.1 z12 15) v6).bind fun q18 =>
              Mo_goes_b132 this p1 p2 S k8 (Mo_goes_h41 this p1 p2 S k8 f) v3 v6 (imax v4 (d.1 q18.1 q18.2)) d
          else
            (aix S 50 (S.2.1 z12 15) v6).bind fun q20 =>
            Mo_goes_b132 this p1 p2 S k8 (Mo_goes_h41 this p1 p2 S k8 f) v3 v6 (d.1 q20.1 q20.2) d
        else
          (aix S 50 (S.2.1 z12 15) v6).bind fun q22 =>
          (some (v4 + (d.1 q22.1 q22.2))).bind fun x23 =>
          Mo_goes_b134 this p1 p2 S k8 (Mo_goes_h41 this p1 p2 S k8 f) v3 x23 v6 d
      else
        Mo_goes_h41 this p1 p2 S k8 f v3 v4 v5 (v6 + 1) d
def Mo_goes_b31 (this : Nat) (p1 : Int32) (p2 : Int32) (S : Sp) (k8 : Int32 → Dt → Option (Int32 × Dt)) (v3 : Int32) (s0 : Int32) (d : Dt) : Option (Int32 × Dt) :=
  (some (v3 + 1)).bind fun x11 =>
  Mo_goes_h41 this p1 p2 S k8 FU v3 s0 1 x11 d
def Mo_goes_b30 (this : Nat) (p1 : Int32) (p2 : Int32) (S : Sp) (k8 : Int32 → Dt → Option (Int32 × Dt)) (v3 : Int32) (d : Dt) : Option (Int32 × Dt) :=
  Mo_goes_b31 this p1 p2 S k8 v3 0 d
def Mo_goes_h8 (this : Nat) (p1 : Int32) (p2 : Int32) (S : Sp) : Nat → Int32 → Dt → Option (Int32 × Dt)
  | 0, _, _ => none
  | f + 1, v3, d =>
    if v3 < 0 then
      (isK S 9 (some this)).bind fun z4 =>
      (aix S 50 (S.2.1 z4 15) 0).bind fun q5 =>
      some (d.1 q5.1 q5.2, d)
    else
      (isK S 9 (some this)).bind fun z6 =>
      (Mo_followers this p1 v3 S d).bind fun r7 =>
      if ¬ r7 = 0 then
        Mo_goes_b30 this p1 p2 S (Mo_goes_h8 this p1 p2 S f) v3 d
      else
        if ¬ p2 = 2 then
          Mo_goes_b30 this p1 p2 S (Mo_goes_h8 this p1 p2 S f) v3 d
        else
          Mo_goes_b31 this p1 p2 S (Mo_goes_h8 this p1 p2 S f) v3 1 d
def Mo_goes (this : Nat) (p1 : Int32) (p2 : Int32) (S : Sp) (d : Dt) : Option (Int32 × Dt) :=
  (isK S 9 (some this)).bind fun z1 =>
  (Mo_nodesOf this p1 S d).bind fun r2 =>
  (some (r2 - 1)).bind fun x3 =>
  Mo_goes_h8 this p1 p2 S FU x3 d
set_option maxHeartbeats 4000000 in
theorem Mo_goes_fn (this : Nat) (p1 : Int32) (p2 : Int32) (S : Sp) (d : Dt) : Fn yX10_goes (ws_ yX10_goes cX10_goes 7 (some .int)) 3 67 [va_rf (some this), .int p1, .int p2] S d rvI Λw (Mo_goes this p1 p2 S d) := by
  refine Fn.ofJ (own := RX10) (lv := [(0, va_rf (some this)), (1, .int p1), (2, .int p2)]) (by decide +kernel) rfl (by simp [cat_i, cat_l, cat_f, cat_d, rf_cat]) (by simp [lv_args, cat_i, cat_l, cat_f, cat_d, rf_cat]) ?_
  intro X F G hRm hR hI
  have hMo_goes_b134 : ∀ (k8 : Int32 → Dt → Option (Int32 × Dt)) (hk8 : ∀ (v3 : Int32) (d : Dt), J X F Λw S d 8 [(0, va_rf (some this)), (1, .int p1), (2, .int p2), (3, .int v3)] [] (k8 v3 d)) (k41 : Int32 → Int32 → Int32 → Int32 → Dt → Option (Int32 × Dt)) (hk41 : ∀ (v3 : Int32) (v4 : Int32) (v5 : Int32) (v6 : Int32) (d : Dt), J X F Λw S d 41 [(0, va_rf (some this)), (1, .int p1), (2, .int p2), (3, .int v3), (4, .int v4), (5, .int v5), (6, .int v6)] [] (k41 v3 v4 v5 v6 d)) (v3 : Int32) (v4 : Int32) (v6 : Int32) (d : Dt), J X F Λw S d 134 [(0, va_rf (some this)), (1, .int p1), (2, .int p2), (3, .int v3), (4, .int v4), (6, .int v6)] [] (Mo_goes_b134 this p1 p2 S k8 k41 v3 v4 v6 d) := by
    intro k8 hk8 k41 hk41 v3 v4 v6 d
    unfold Mo_goes_b134
    refine JR_iconst (pc := 134) G ci_0 dX10_goes_134 ?_
    refine JR_istore (pc := 135) (i := 5) (lv' := [(5, .int 0), (0, va_rf (some this)), (1, .int p1), (2, .int p2), (3, .int v3), (4, .int v4), (6, .int v6)]) G (by decide) rfl dX10_goes_135 ?_
    refine JR_iinc (pc := 137) (i := 6) (v := v6 + 1) (lv' := [(6, .int (v6 + 1)), (5, .int 0), (0, va_rf (some this)), (1, .int p1), (2, .int p2), (3, .int v3), (4, .int v4)]) G rfl (congrArg (fun z => v6 + z) (by decide)) (by decide) rfl dX10_goes_137 ?_
    refine JR_goto (pc := 140) (tgt := 41) G dX10_goes_140 (by decide) ?_
    refine J_sub [2, 3, 4, 5, 6, 1, 0] rfl ?_
    exact hk41 v3 v4 0 (v6 + 1) d
  have hMo_goes_b132 : ∀ (k8 : Int32 → Dt → Option (Int32 × Dt)) (hk8 : ∀ (v3 : Int32) (d : Dt), J X F Λw S d 8 [(0, va_rf (some this)), (1, .int p1), (2, .int p2), (3, .int v3)] [] (k8 v3 d)) (k41 : Int32 → Int32 → Int32 → Int32 → Dt → Option (Int32 × Dt)) (hk41 : ∀ (v3 : Int32) (v4 : Int32) (v5 : Int32) (v6 : Int32) (d : Dt), J X F Λw S d 41 [(0, va_rf (some this)), (1, .int p1), (2, .int p2), (3, .int v3), (4, .int v4), (5, .int v5), (6, .int v6)] [] (k41 v3 v4 v5 v6 d)) (v3 : Int32) (v6 : Int32) (s0 : Int32) (d : Dt), J X F Λw S d 132 [(0, va_rf (some this)), (1, .int p1), (2, .int p2), (3, .int v3), (6, .int v6)] [.int s0] (Mo_goes_b132 this p1 p2 S k8 k41 v3 v6 s0 d) := by
    intro k8 hk8 k41 hk41 v3 v6 s0 d
    unfold Mo_goes_b132
    refine JR_istore (pc := 132) (i := 4) (lv' := [(4, .int s0), (0, va_rf (some this)), (1, .int p1), (2, .int p2), (3, .int v3), (6, .int v6)]) G (by decide) rfl dX10_goes_132 ?_
    refine J_sub [1, 2, 3, 4, 0, 5] rfl ?_
    exact hMo_goes_b134 k8 hk8 k41 hk41 v3 s0 v6 d
  have hMo_goes_b167 : ∀ (k8 : Int32 → Dt → Option (Int32 × Dt)) (hk8 : ∀ (v3 : Int32) (d : Dt), J X F Λw S d 8 [(0, va_rf (some this)), (1, .int p1), (2, .int p2), (3, .int v3)] [] (k8 v3 d)) (v3 : Int32) (s0 : Int32) (s1 : Int32) (s2 : Option Nat) (d : Dt), J X F Λw S d 167 [(0, va_rf (some this)), (1, .int p1), (2, .int p2), (3, .int v3)] [.int s0, .int s1, va_rf s2] (Mo_goes_b167 this p1 p2 S k8 v3 s0 s1 s2 d) := by
    intro k8 hk8 v3 s0 s1 s2 d
    unfold Mo_goes_b167
    refine J_bd (fun q27 hq27 => ?_)
    refine JW_iastore (pc := 167) G hq27 (fun _ => rfl) dX10_goes_167 ?_
    refine J_nmD (fun d28 hd28 => ?_)
    refine JR_iinc (pc := 168) (i := 3) (v := v3 + (-1)) (lv' := [(3, .int (v3 + (-1))), (0, va_rf (some this)), (1, .int p1), (2, .int p2)]) G rfl (congrArg (fun z => v3 + z) (by decide)) (by decide) rfl dX10_goes_168 ?_
    refine JR_goto (pc := 171) (tgt := 8) G dX10_goes_171 (by decide) ?_
    refine J_sub [1, 2, 3, 0] rfl ?_
    exact hk8 (v3 + (-1)) d28
  have hMo_goes_h41 : ∀ (k8 : Int32 → Dt → Option (Int32 × Dt)) (hk8 : ∀ (v3 : Int32) (d : Dt), J X F Λw S d 8 [(0, va_rf (some this)), (1, .int p1), (2, .int p2), (3, .int v3)] [] (k8 v3 d)) (f : Nat) (v3 : Int32) (v4 : Int32) (v5 : Int32) (v6 : Int32) (d : Dt), J X F Λw S d 41 [(0, va_rf (some this)), (1, .int p1), (2, .int p2), (3, .int v3), (4, .int v4), (5, .int v5), (6, .int v6)] [] (Mo_goes_h41 this p1 p2 S k8 f v3 v4 v5 v6 d) := by
    intro k8 hk8 f
    induction f with
    | zero => intro v3 v4 v5 v6 d; exact J_no
    | succ f ih =>
      intro v3 v4 v5 v6 d
      unfold Mo_goes_h41
      refine JR_iload (pc := 41) (i := 6) G rfl dX10_goes_41 ?_
      refine JR_aload_n (pc := 43) (k := 0) (i := 0) (o := some this) G rfl rfl dX10_goes_43 ?_
      refine JR_iload_n (pc := 44) (k := 1) (i := 1) G rfl rfl dX10_goes_44 ?_
      refine J_bd (fun z12 hz12 => ?_)
      refine JPV_I (pc := 45) (as := [.int p1]) (st' := [.int v6]) (o := some this) G (Mo_nodesOf_fn this p1 S d) (JC_V (n := 1) G hRm cl_X10 q1929 q1931 qs80 q152 q1932 ⟨rfl, dd_X10_nodesOf⟩ ⟨by decide, by decide⟩ dX10_goes_45 hz12 rfl (Nat.le_of_ble_eq_true rfl)) rfl (fun r13 hr13 => ?_)
      refine JR_icmp_ge (pc := 48) (tgt := 143) G dX10_goes_48 (by decide) (fun c26 => ?_) (fun c26 => ?_)
      · refine JR_aload_n (pc := 143) (k := 0) (i := 0) (o := some this) G rfl rfl dX10_goes_143 ?_
        refine JR_gR (pc := 144) (k := 15) G cl_X10 in_X10 (by decide) (by decide) rfl (Or.inl rfl) q1603 hz12 dX10_goes_144 ?_
        refine JR_iload_n (pc := 147) (k := 3) (i := 3) G rfl rfl dX10_goes_147 ?_
        refine JR_iload_n (pc := 148) (k := 2) (i := 2) G rfl rfl dX10_goes_148 ?_
        refine JR_iconst (pc := 149) G ci_2 dX10_goes_149 ?_
        refine JR_icmp_ne (pc := 150) (tgt := 158) G dX10_goes_150 (by decide) (fun c15 => ?_) (fun c15 => ?_)
        · refine JR_iload (pc := 158) (i := 4) G rfl dX10_goes_158 ?_
          refine JR_aload_n (pc := 160) (k := 0) (i := 0) (o := some this) G rfl rfl dX10_goes_160 ?_
          refine JR_iload_n (pc := 161) (k := 1) (i := 1) G rfl rfl dX10_goes_161 ?_
          refine JR_iload_n (pc := 162) (k := 3) (i := 3) G rfl rfl dX10_goes_162 ?_
          refine JPV_I (pc := 163) (as := [.int p1, .int v3]) (st' := [.int v4, .int v3, va_rf (S.2.1 z12 15)]) (o := some this) G (Mo_unitsOf_fn this p1 v3 S d) (JC_V (n := 2) G hRm cl_X10 q1933 q1935 qs81 q152 q1936 ⟨rfl, dd_X10_unitsOf⟩ ⟨by decide, by decide⟩ dX10_goes_163 hz12 rfl (Nat.le_of_ble_eq_true rfl)) rfl (fun r14 hr14 => ?_)
          refine JR_iadd (pc := 166) G dX10_goes_166 ?_
          refine J_sub [0, 1, 2, 3] rfl ?_
          exact hMo_goes_b167 k8 hk8 v3 (v4 + r14) v3 (S.2.1 z12 15) d
        · refine JR_iload (pc := 153) (i := 4) G rfl dX10_goes_153 ?_
          refine JR_goto (pc := 155) (tgt := 167) G dX10_goes_155 (by decide) ?_
          refine J_sub [0, 1, 2, 3] rfl ?_
          exact hMo_goes_b167 k8 hk8 v3 v4 v3 (S.2.1 z12 15) d
      · refine JR_aload_n (pc := 51) (k := 0) (i := 0) (o := some this) G rfl rfl dX10_goes_51 ?_
        refine JR_iload_n (pc := 52) (k := 1) (i := 1) G rfl rfl dX10_goes_52 ?_
        refine JR_iload (pc := 53) (i := 6) G rfl dX10_goes_53 ?_
        refine JR_iload_n (pc := 55) (k := 3) (i := 3) G rfl rfl dX10_goes_55 ?_
        refine JPV_I (pc := 56) (as := [.int p1, .int v6, .int v3]) (st' := []) (o := some this) G (Mo_isBehind_fn this p1 v6 v3 S d) (JC_V (n := 3) G hRm cl_X10 q1941 q1943 qs83 q152 q1944 ⟨rfl, dd_X10_isBehind⟩ ⟨by decide, by decide⟩ dX10_goes_56 hz12 rfl (Nat.le_of_ble_eq_true rfl)) rfl (fun r16 hr16 => ?_)
        refine JR_if_ne (pc := 59) (tgt := 65) G dX10_goes_59 (by decide) (fun c25 => ?_) (fun c25 => ?_)
        · refine JR_iload_n (pc := 65) (k := 2) (i := 2) G rfl rfl dX10_goes_65 ?_
          refine JR_iconst (pc := 66) G ci_2 dX10_goes_66 ?_
          refine JR_icmp_ne (pc := 67) (tgt := 85) G dX10_goes_67 (by decide) (fun c24 => ?_) (fun c24 => ?_)
          · refine JR_iload (pc := 85) (i := 5) G rfl dX10_goes_85 ?_
            refine JR_if_eq (pc := 87) (tgt := 100) G dX10_goes_87 (by decide) (fun c21 => ?_) (fun c21 => ?_)
            · refine JR_iload_n (pc := 100) (k := 2) (i := 2) G rfl rfl dX10_goes_100 ?_
              refine JR_iconst (pc := 101) G ci_1 dX10_goes_101 ?_
              refine JR_icmp_ne (pc := 102) (tgt := 120) G dX10_goes_102 (by decide) (fun c19 => ?_) (fun c19 => ?_)
              · refine JR_iload (pc := 120) (i := 4) G rfl dX10_goes_120 ?_
                refine JR_aload_n (pc := 122) (k := 0) (i := 0) (o := some this) G rfl rfl dX10_goes_122 ?_
                refine JR_gR (pc := 123) (k := 15) G cl_X10 in_X10 (by decide) (by decide) rfl (Or.inl rfl) q1603 hz12 dX10_goes_123 ?_
                refine JR_iload (pc := 126) (i := 6) G rfl dX10_goes_126 ?_
                refine J_bd (fun q17 hq17 => ?_)
                refine JR_iaload (pc := 128) G hq17 dX10_goes_128 ?_
                refine JR_min (pc := 129) G hRm q1818 q610 q154 q611 ⟨by decide, by decide⟩ (Nat.le_of_ble_eq_true rfl) dX10_goes_129 ?_
                refine J_sub [0, 1, 2, 3, 6] rfl ?_
                exact hMo_goes_b132 k8 hk8 (Mo_goes_h41 this p1 p2 S k8 f) ih v3 v6 (imin v4 (d.1 q17.1 q17.2)) d
              · refine JR_iload (pc := 105) (i := 4) G rfl dX10_goes_105 ?_
                refine JR_aload_n (pc := 107) (k := 0) (i := 0) (o := some this) G rfl rfl dX10_goes_107 ?_
                refine JR_gR (pc := 108) (k := 15) G cl_X10 in_X10 (by decide) (by decide) rfl (Or.inl rfl) q1603 hz12 dX10_goes_108 ?_
                refine JR_iload (pc := 111) (i := 6) G rfl dX10_goes_111 ?_
                refine J_bd (fun q18 hq18 => ?_)
                refine JR_iaload (pc := 113) G hq18 dX10_goes_113 ?_
                refine JR_max (pc := 114) G hRm q1978 q879 q154 q880 ⟨by decide, by decide⟩ (Nat.le_of_ble_eq_true rfl) dX10_goes_114 ?_
                refine JR_goto (pc := 117) (tgt := 132) G dX10_goes_117 (by decide) ?_
                refine J_sub [0, 1, 2, 3, 6] rfl ?_
                exact hMo_goes_b132 k8 hk8 (Mo_goes_h41 this p1 p2 S k8 f) ih v3 v6 (imax v4 (d.1 q18.1 q18.2)) d
            · refine JR_aload_n (pc := 90) (k := 0) (i := 0) (o := some this) G rfl rfl dX10_goes_90 ?_
              refine JR_gR (pc := 91) (k := 15) G cl_X10 in_X10 (by decide) (by decide) rfl (Or.inl rfl) q1603 hz12 dX10_goes_91 ?_
              refine JR_iload (pc := 94) (i := 6) G rfl dX10_goes_94 ?_
              refine J_bd (fun q20 hq20 => ?_)
              refine JR_iaload (pc := 96) G hq20 dX10_goes_96 ?_
              refine JR_goto (pc := 97) (tgt := 132) G dX10_goes_97 (by decide) ?_
              refine J_sub [0, 1, 2, 3, 6] rfl ?_
              exact hMo_goes_b132 k8 hk8 (Mo_goes_h41 this p1 p2 S k8 f) ih v3 v6 (d.1 q20.1 q20.2) d
          · refine JR_iload (pc := 70) (i := 4) G rfl dX10_goes_70 ?_
            refine JR_aload_n (pc := 72) (k := 0) (i := 0) (o := some this) G rfl rfl dX10_goes_72 ?_
            refine JR_gR (pc := 73) (k := 15) G cl_X10 in_X10 (by decide) (by decide) rfl (Or.inl rfl) q1603 hz12 dX10_goes_73 ?_
            refine JR_iload (pc := 76) (i := 6) G rfl dX10_goes_76 ?_
            refine J_bd (fun q22 hq22 => ?_)
            refine JR_iaload (pc := 78) G hq22 dX10_goes_78 ?_
            refine JR_iadd (pc := 79) G dX10_goes_79 ?_
            refine J_nm (fun x23 hx23 => ?_)
            refine JR_istore (pc := 80) (i := 4) (lv' := [(4, .int x23), (0, va_rf (some this)), (1, .int p1), (2, .int p2), (3, .int v3), (5, .int v5), (6, .int v6)]) G (by decide) rfl dX10_goes_80 ?_
            refine JR_goto (pc := 82) (tgt := 134) G dX10_goes_82 (by decide) ?_
            refine J_sub [1, 2, 3, 4, 0, 6] rfl ?_
            exact hMo_goes_b134 k8 hk8 (Mo_goes_h41 this p1 p2 S k8 f) ih v3 x23 v6 d
        · refine JR_goto (pc := 62) (tgt := 137) G dX10_goes_62 (by decide) ?_
          refine JR_iinc (pc := 137) (i := 6) (v := v6 + 1) (lv' := [(6, .int (v6 + 1)), (0, va_rf (some this)), (1, .int p1), (2, .int p2), (3, .int v3), (4, .int v4), (5, .int v5)]) G rfl (congrArg (fun z => v6 + z) (by decide)) (by decide) rfl dX10_goes_137 ?_
          refine JR_goto (pc := 140) (tgt := 41) G dX10_goes_140 (by decide) ?_
          refine J_sub [1, 2, 3, 4, 5, 6, 0] rfl ?_
          exact ih v3 v4 v5 (v6 + 1) d
  have hMo_goes_b31 : ∀ (k8 : Int32 → Dt → Option (Int32 × Dt)) (hk8 : ∀ (v3 : Int32) (d : Dt), J X F Λw S d 8 [(0, va_rf (some this)), (1, .int p1), (2, .int p2), (3, .int v3)] [] (k8 v3 d)) (v3 : Int32) (s0 : Int32) (d : Dt), J X F Λw S d 31 [(0, va_rf (some this)), (1, .int p1), (2, .int p2), (3, .int v3)] [.int s0] (Mo_goes_b31 this p1 p2 S k8 v3 s0 d) := by
    intro k8 hk8 v3 s0 d
    unfold Mo_goes_b31
    refine JR_istore (pc := 31) (i := 4) (lv' := [(4, .int s0), (0, va_rf (some this)), (1, .int p1), (2, .int p2), (3, .int v3)]) G (by decide) rfl dX10_goes_31 ?_
    refine JR_iconst (pc := 33) G ci_1 dX10_goes_33 ?_
    refine JR_istore (pc := 34) (i := 5) (lv' := [(5, .int 1), (4, .int s0), (0, va_rf (some this)), (1, .int p1), (2, .int p2), (3, .int v3)]) G (by decide) rfl dX10_goes_34 ?_
    refine JR_iload_n (pc := 36) (k := 3) (i := 3) G rfl rfl dX10_goes_36 ?_
    refine JR_iconst (pc := 37) G ci_1 dX10_goes_37 ?_
    refine JR_iadd (pc := 38) G dX10_goes_38 ?_
    refine J_nm (fun x11 hx11 => ?_)
    refine JR_istore (pc := 39) (i := 6) (lv' := [(6, .int x11), (5, .int 1), (4, .int s0), (0, va_rf (some this)), (1, .int p1), (2, .int p2), (3, .int v3)]) G (by decide) rfl dX10_goes_39 ?_
    refine J_sub [3, 4, 5, 6, 2, 1, 0] rfl ?_
    exact hMo_goes_h41 k8 hk8 FU v3 s0 1 x11 d
  have hMo_goes_b30 : ∀ (k8 : Int32 → Dt → Option (Int32 × Dt)) (hk8 : ∀ (v3 : Int32) (d : Dt), J X F Λw S d 8 [(0, va_rf (some this)), (1, .int p1), (2, .int p2), (3, .int v3)] [] (k8 v3 d)) (v3 : Int32) (d : Dt), J X F Λw S d 30 [(0, va_rf (some this)), (1, .int p1), (2, .int p2), (3, .int v3)] [] (Mo_goes_b30 this p1 p2 S k8 v3 d) := by
    intro k8 hk8 v3 d
    unfold Mo_goes_b30
    refine JR_iconst (pc := 30) G ci_0 dX10_goes_30 ?_
    exact hMo_goes_b31 k8 hk8 v3 0 d
  have hMo_goes_h8 : ∀ (f : Nat) (v3 : Int32) (d : Dt), J X F Λw S d 8 [(0, va_rf (some this)), (1, .int p1), (2, .int p2), (3, .int v3)] [] (Mo_goes_h8 this p1 p2 S f v3 d) := by
    intro  f
    induction f with
    | zero => intro v3 d; exact J_no
    | succ f ih =>
      intro v3 d
      unfold Mo_goes_h8
      refine JR_iload_n (pc := 8) (k := 3) (i := 3) G rfl rfl dX10_goes_8 ?_
      refine JR_if_lt (pc := 9) (tgt := 174) G dX10_goes_9 (by decide) (fun c10 => ?_) (fun c10 => ?_)
      · refine JR_aload_n (pc := 174) (k := 0) (i := 0) (o := some this) G rfl rfl dX10_goes_174 ?_
        refine J_bd (fun z4 hz4 => ?_)
        refine JR_gR (pc := 175) (k := 15) G cl_X10 in_X10 (by decide) (by decide) rfl (Or.inl rfl) q1603 hz4 dX10_goes_175 ?_
        refine JR_iconst (pc := 178) G ci_0 dX10_goes_178 ?_
        refine J_bd (fun q5 hq5 => ?_)
        refine JR_iaload (pc := 179) G hq5 dX10_goes_179 ?_
        exact JR_iret (pc := 180) G hR dX10_goes_180 rfl rfl
      · refine JR_aload_n (pc := 12) (k := 0) (i := 0) (o := some this) G rfl rfl dX10_goes_12 ?_
        refine JR_iload_n (pc := 13) (k := 1) (i := 1) G rfl rfl dX10_goes_13 ?_
        refine JR_iload_n (pc := 14) (k := 3) (i := 3) G rfl rfl dX10_goes_14 ?_
        refine J_bd (fun z6 hz6 => ?_)
        refine JPV_I (pc := 15) (as := [.int p1, .int v3]) (st' := []) (o := some this) G (Mo_followers_fn this p1 v3 S d) (JC_V (n := 2) G hRm cl_X10 q1974 q1976 qs88 q152 q1977 ⟨rfl, dd_X10_followers⟩ ⟨by decide, by decide⟩ dX10_goes_15 hz6 rfl (Nat.le_of_ble_eq_true rfl)) rfl (fun r7 hr7 => ?_)
        refine JR_if_ne (pc := 18) (tgt := 30) G dX10_goes_18 (by decide) (fun c9 => ?_) (fun c9 => ?_)
        · exact hMo_goes_b30 (Mo_goes_h8 this p1 p2 S f) ih v3 d
        · refine JR_iload_n (pc := 21) (k := 2) (i := 2) G rfl rfl dX10_goes_21 ?_
          refine JR_iconst (pc := 22) G ci_2 dX10_goes_22 ?_
          refine JR_icmp_ne (pc := 23) (tgt := 30) G dX10_goes_23 (by decide) (fun c8 => ?_) (fun c8 => ?_)
          · exact hMo_goes_b30 (Mo_goes_h8 this p1 p2 S f) ih v3 d
          · refine JR_iconst (pc := 26) G ci_1 dX10_goes_26 ?_
            refine JR_goto (pc := 27) (tgt := 31) G dX10_goes_27 (by decide) ?_
            exact hMo_goes_b31 (Mo_goes_h8 this p1 p2 S f) ih v3 1 d
  unfold Mo_goes
  refine JR_aload_n (pc := 0) (k := 0) (i := 0) (o := some this) G rfl rfl dX10_goes_0 ?_
  refine JR_iload_n (pc := 1) (k := 1) (i := 1) G rfl rfl dX10_goes_1 ?_
  refine J_bd (fun z1 hz1 => ?_)
  refine JPV_I (pc := 2) (as := [.int p1]) (st' := []) (o := some this) G (Mo_nodesOf_fn this p1 S d) (JC_V (n := 1) G hRm cl_X10 q1929 q1931 qs80 q152 q1932 ⟨rfl, dd_X10_nodesOf⟩ ⟨by decide, by decide⟩ dX10_goes_2 hz1 rfl (Nat.le_of_ble_eq_true rfl)) rfl (fun r2 hr2 => ?_)
  refine JR_iconst (pc := 5) G ci_1 dX10_goes_5 ?_
  refine JR_isub (pc := 6) G dX10_goes_6 ?_
  refine J_nm (fun x3 hx3 => ?_)
  refine JR_istore_n (pc := 7) (k := 3) (i := 3) (lv' := [(3, .int x3), (0, va_rf (some this)), (1, .int p1), (2, .int p2)]) G rfl (by decide) rfl dX10_goes_7 ?_
  refine J_sub [1, 2, 3, 0] rfl ?_
  exact hMo_goes_h8 FU x3 d

def Mo_cost (this : Nat) (p1 : Int32) (p2 : Int32) (S : Sp) (d : Dt) : Option (Int32 × Dt) :=
  (isK S 9 (some this)).bind fun z1 =>
  (Mo_isTask this p1 S d).bind fun r2 =>
  if r2 = 0 then
    some ((-2), d)
  else
    (Mo_in (Int32.toInt64 p2) 0 1 S d).bind fun r3 =>
    if r3 = 0 then
      some ((-2), d)
    else
      bind2 (Mo_goes this p1 p2 S d) fun r4 d5 =>
      some (r4, d5)
set_option maxHeartbeats 4000000 in
theorem Mo_cost_fn (this : Nat) (p1 : Int32) (p2 : Int32) (S : Sp) (d : Dt) : Fn yX10_cost (ws_ yX10_cost cX10_cost 3 (some .int)) 4 93 [va_rf (some this), .int p1, .int p2] S d rvI Λw (Mo_cost this p1 p2 S d) := by
  refine Fn.ofJ (own := RX10) (lv := [(0, va_rf (some this)), (1, .int p1), (2, .int p2)]) (by decide +kernel) rfl (by simp [cat_i, cat_l, cat_f, cat_d, rf_cat]) (by simp [lv_args, cat_i, cat_l, cat_f, cat_d, rf_cat]) ?_
  intro X F G hRm hR hI
  unfold Mo_cost
  refine JR_aload_n (pc := 0) (k := 0) (i := 0) (o := some this) G rfl rfl dX10_cost_0 ?_
  refine JR_iload_n (pc := 1) (k := 1) (i := 1) G rfl rfl dX10_cost_1 ?_
  refine J_bd (fun z1 hz1 => ?_)
  refine JPV_I (pc := 2) (as := [.int p1]) (st' := []) (o := some this) G (Mo_isTask_fn this p1 S d) (JC_V (n := 1) G hRm cl_X10 q1916 q1918 qs78 q152 q1919 ⟨rfl, dd_X10_isTask⟩ ⟨by decide, by decide⟩ dX10_cost_2 hz1 rfl (Nat.le_of_ble_eq_true rfl)) rfl (fun r2 hr2 => ?_)
  refine JR_if_eq (pc := 5) (tgt := 27) G dX10_cost_5 (by decide) (fun c7 => ?_) (fun c7 => ?_)
  · refine JR_bipush (pc := 27) (v := (-2)) G (by decide) dX10_cost_27 ?_
    exact JR_iret (pc := 29) G hR dX10_cost_29 rfl rfl
  · refine JR_iload_n (pc := 8) (k := 2) (i := 2) G rfl rfl dX10_cost_8 ?_
    refine JR_i2l (pc := 9) G dX10_cost_9 ?_
    refine JR_lconst (pc := 10) G cl_0 dX10_cost_10 ?_
    refine JR_lconst (pc := 11) G cl_1 dX10_cost_11 ?_
    refine JPS_I (pc := 12) (as := [.long (Int32.toInt64 p2), .long 0, .long 1]) (st' := []) G (Mo_in_fn (Int32.toInt64 p2) 0 1 S d) (JC_S (n := 3) G hRm q1782 q1783 q152 q1784 dd_X10_in ⟨by decide, by decide⟩ dX10_cost_12 rfl (Nat.le_of_ble_eq_true rfl)) rfl (fun r3 hr3 => ?_)
    refine JR_if_eq (pc := 15) (tgt := 27) G dX10_cost_15 (by decide) (fun c6 => ?_) (fun c6 => ?_)
    · refine JR_bipush (pc := 27) (v := (-2)) G (by decide) dX10_cost_27 ?_
      exact JR_iret (pc := 29) G hR dX10_cost_29 rfl rfl
    · refine JR_aload_n (pc := 18) (k := 0) (i := 0) (o := some this) G rfl rfl dX10_cost_18 ?_
      refine JR_iload_n (pc := 19) (k := 1) (i := 1) G rfl rfl dX10_cost_19 ?_
      refine JR_iload_n (pc := 20) (k := 2) (i := 2) G rfl rfl dX10_cost_20 ?_
      refine JQV_I (pc := 21) (as := [.int p1, .int p2]) (st' := []) (o := some this) G (Mo_goes_fn this p1 p2 S d) (JC_V (n := 2) G hRm cl_X10 q1970 q1972 qs87 q152 q1973 ⟨rfl, dd_X10_goes⟩ ⟨by decide, by decide⟩ dX10_cost_21 hz1 rfl (Nat.le_of_ble_eq_true rfl)) rfl (fun _ _ => rfl) (fun r4 d5 hd5 => ?_)
      refine JR_goto (pc := 24) (tgt := 29) G dX10_cost_24 (by decide) ?_
      exact JR_iret (pc := 29) G hR dX10_cost_29 rfl rfl

def Mo_ways (this : Nat) (p1 : Int32) (S : Sp) (d : Dt) : Option (Int32 × Dt) :=
  (isK S 9 (some this)).bind fun z1 =>
  (Mo_isTask this p1 S d).bind fun r2 =>
  if r2 = 0 then
    some ((-2), d)
  else
    bind2 (Mo_goes this p1 2 S d) fun r3 d4 =>
    some (r3, d4)
set_option maxHeartbeats 4000000 in
theorem Mo_ways_fn (this : Nat) (p1 : Int32) (S : Sp) (d : Dt) : Fn yX10_ways (ws_ yX10_ways cX10_ways 2 (some .int)) 4 93 [va_rf (some this), .int p1] S d rvI Λw (Mo_ways this p1 S d) := by
  refine Fn.ofJ (own := RX10) (lv := [(0, va_rf (some this)), (1, .int p1)]) (by decide +kernel) rfl (by simp [cat_i, cat_l, cat_f, cat_d, rf_cat]) (by simp [lv_args, cat_i, cat_l, cat_f, cat_d, rf_cat]) ?_
  intro X F G hRm hR hI
  unfold Mo_ways
  refine JR_aload_n (pc := 0) (k := 0) (i := 0) (o := some this) G rfl rfl dX10_ways_0 ?_
  refine JR_iload_n (pc := 1) (k := 1) (i := 1) G rfl rfl dX10_ways_1 ?_
  refine J_bd (fun z1 hz1 => ?_)
  refine JPV_I (pc := 2) (as := [.int p1]) (st' := []) (o := some this) G (Mo_isTask_fn this p1 S d) (JC_V (n := 1) G hRm cl_X10 q1916 q1918 qs78 q152 q1919 ⟨rfl, dd_X10_isTask⟩ ⟨by decide, by decide⟩ dX10_ways_2 hz1 rfl (Nat.le_of_ble_eq_true rfl)) rfl (fun r2 hr2 => ?_)
  refine JR_if_eq (pc := 5) (tgt := 17) G dX10_ways_5 (by decide) (fun c5 => ?_) (fun c5 => ?_)
  · refine JR_bipush (pc := 17) (v := (-2)) G (by decide) dX10_ways_17 ?_
    exact JR_iret (pc := 19) G hR dX10_ways_19 rfl rfl
  · refine JR_aload_n (pc := 8) (k := 0) (i := 0) (o := some this) G rfl rfl dX10_ways_8 ?_
    refine JR_iload_n (pc := 9) (k := 1) (i := 1) G rfl rfl dX10_ways_9 ?_
    refine JR_iconst (pc := 10) G ci_2 dX10_ways_10 ?_
    refine JQV_I (pc := 11) (as := [.int p1, .int 2]) (st' := []) (o := some this) G (Mo_goes_fn this p1 2 S d) (JC_V (n := 2) G hRm cl_X10 q1970 q1972 qs87 q152 q1973 ⟨rfl, dd_X10_goes⟩ ⟨by decide, by decide⟩ dX10_ways_11 hz1 rfl (Nat.le_of_ble_eq_true rfl)) rfl (fun _ _ => rfl) (fun r3 d4 hd4 => ?_)
    refine JR_goto (pc := 14) (tgt := 19) G dX10_ways_14 (by decide) ?_
    exact JR_iret (pc := 19) G hR dX10_ways_19 rfl rfl

def Mo_laysCosts_h2 (this : Nat) (S : Sp) : Nat → Int32 → Dt → Option (Unit × Dt)
  | 0, _, _ => none
  | f + 1, v1, d =>
    (isK S 9 (some this)).bind fun z1 =>
    (aix S 50 (S.2.1 z1 1) 4).bind fun q2 =>
    if (d.1 q2.1 q2.2) ≤ v1 then
      some ((), d)
    else
      bind2 (Mo_goes this v1 0 S d) fun r3 d4 =>
      (aix S 50 (S.2.1 z1 17) v1).bind fun q5 =>
      (some (dI d4 q5.1 q5.2 r3)).bind fun d6 =>
      bind2 (Mo_goes this v1 1 S d6) fun r7 d8 =>
      (aix S 50 (S.2.1 z1 16) v1).bind fun q9 =>
      (some (dI d8 q9.1 q9.2 r7)).bind fun d10 =>
      (aix S 50 (S.2.1 z1 18) v1).bind fun q11 =>
      (some (dI d10 q11.1 q11.2 ((1 <<< (v1 &&& 31)) - 1))).bind fun d12 =>
      Mo_laysCosts_h2 this S f (v1 + 1) d12
def Mo_laysCosts (this : Nat) (S : Sp) (d : Dt) : Option (Unit × Dt) :=
  Mo_laysCosts_h2 this S FU 0 d
set_option maxHeartbeats 4000000 in
theorem Mo_laysCosts_fn (this : Nat) (S : Sp) (d : Dt) : Fn yX10_laysCosts (ws_ yX10_laysCosts cX10_laysCosts 2 none) 4 93 [va_rf (some this)] S d rvU Λw (Mo_laysCosts this S d) := by
  refine Fn.ofJ (own := RX10) (lv := [(0, va_rf (some this))]) (by decide +kernel) rfl (by simp [cat_i, cat_l, cat_f, cat_d, rf_cat]) (by simp [lv_args, cat_i, cat_l, cat_f, cat_d, rf_cat]) ?_
  intro X F G hRm hR hI
  have hMo_laysCosts_h2 : ∀ (f : Nat) (v1 : Int32) (d : Dt), J X F Λw S d 2 [(0, va_rf (some this)), (1, .int v1)] [] (Mo_laysCosts_h2 this S f v1 d) := by
    intro  f
    induction f with
    | zero => intro v1 d; exact J_no
    | succ f ih =>
      intro v1 d
      unfold Mo_laysCosts_h2
      refine JR_iload_n (pc := 2) (k := 1) (i := 1) G rfl rfl dX10_laysCosts_2 ?_
      refine JR_aload_n (pc := 3) (k := 0) (i := 0) (o := some this) G rfl rfl dX10_laysCosts_3 ?_
      refine J_bd (fun z1 hz1 => ?_)
      refine JR_gR (pc := 4) (k := 1) G cl_X10 in_X10 (by decide) (by decide) rfl (Or.inl rfl) q1589 hz1 dX10_laysCosts_4 ?_
      refine JR_iconst (pc := 7) G ci_4 dX10_laysCosts_7 ?_
      refine J_bd (fun q2 hq2 => ?_)
      refine JR_iaload (pc := 8) G hq2 dX10_laysCosts_8 ?_
      refine JR_icmp_ge (pc := 9) (tgt := 53) G dX10_laysCosts_9 (by decide) (fun c13 => ?_) (fun c13 => ?_)
      · exact JR_vret (pc := 53) G hR dX10_laysCosts_53 rfl rfl
      · refine JR_aload_n (pc := 12) (k := 0) (i := 0) (o := some this) G rfl rfl dX10_laysCosts_12 ?_
        refine JR_gR (pc := 13) (k := 17) G cl_X10 in_X10 (by decide) (by decide) rfl (Or.inl rfl) q1605 hz1 dX10_laysCosts_13 ?_
        refine JR_iload_n (pc := 16) (k := 1) (i := 1) G rfl rfl dX10_laysCosts_16 ?_
        refine JR_aload_n (pc := 17) (k := 0) (i := 0) (o := some this) G rfl rfl dX10_laysCosts_17 ?_
        refine JR_iload_n (pc := 18) (k := 1) (i := 1) G rfl rfl dX10_laysCosts_18 ?_
        refine JR_iconst (pc := 19) G ci_0 dX10_laysCosts_19 ?_
        refine JQV_I (pc := 20) (as := [.int v1, .int 0]) (st' := [.int v1, va_rf (S.2.1 z1 17)]) (o := some this) G (Mo_goes_fn this v1 0 S d) (JC_V (n := 2) G hRm cl_X10 q1970 q1972 qs87 q152 q1973 ⟨rfl, dd_X10_goes⟩ ⟨by decide, by decide⟩ dX10_laysCosts_20 hz1 rfl (Nat.le_of_ble_eq_true rfl)) rfl (fun _ _ => rfl) (fun r3 d4 hd4 => ?_)
        refine J_bd (fun q5 hq5 => ?_)
        refine JW_iastore (pc := 23) G hq5 (fun _ => rfl) dX10_laysCosts_23 ?_
        refine J_nmD (fun d6 hd6 => ?_)
        refine JR_aload_n (pc := 24) (k := 0) (i := 0) (o := some this) G rfl rfl dX10_laysCosts_24 ?_
        refine JR_gR (pc := 25) (k := 16) G cl_X10 in_X10 (by decide) (by decide) rfl (Or.inl rfl) q1604 hz1 dX10_laysCosts_25 ?_
        refine JR_iload_n (pc := 28) (k := 1) (i := 1) G rfl rfl dX10_laysCosts_28 ?_
        refine JR_aload_n (pc := 29) (k := 0) (i := 0) (o := some this) G rfl rfl dX10_laysCosts_29 ?_
        refine JR_iload_n (pc := 30) (k := 1) (i := 1) G rfl rfl dX10_laysCosts_30 ?_
        refine JR_iconst (pc := 31) G ci_1 dX10_laysCosts_31 ?_
        refine JQV_I (pc := 32) (as := [.int v1, .int 1]) (st' := [.int v1, va_rf (S.2.1 z1 16)]) (o := some this) G (Mo_goes_fn this v1 1 S d6) (JC_V (n := 2) G hRm cl_X10 q1970 q1972 qs87 q152 q1973 ⟨rfl, dd_X10_goes⟩ ⟨by decide, by decide⟩ dX10_laysCosts_32 hz1 rfl (Nat.le_of_ble_eq_true rfl)) rfl (fun _ _ => rfl) (fun r7 d8 hd8 => ?_)
        refine J_bd (fun q9 hq9 => ?_)
        refine JW_iastore (pc := 35) G hq9 (fun _ => rfl) dX10_laysCosts_35 ?_
        refine J_nmD (fun d10 hd10 => ?_)
        refine JR_aload_n (pc := 36) (k := 0) (i := 0) (o := some this) G rfl rfl dX10_laysCosts_36 ?_
        refine JR_gR (pc := 37) (k := 18) G cl_X10 in_X10 (by decide) (by decide) rfl (Or.inl rfl) q1606 hz1 dX10_laysCosts_37 ?_
        refine JR_iload_n (pc := 40) (k := 1) (i := 1) G rfl rfl dX10_laysCosts_40 ?_
        refine JR_iconst (pc := 41) G ci_1 dX10_laysCosts_41 ?_
        refine JR_iload_n (pc := 42) (k := 1) (i := 1) G rfl rfl dX10_laysCosts_42 ?_
        refine JR_ishl (pc := 43) G dX10_laysCosts_43 ?_
        refine JR_iconst (pc := 44) G ci_1 dX10_laysCosts_44 ?_
        refine JR_isub (pc := 45) G dX10_laysCosts_45 ?_
        refine J_bd (fun q11 hq11 => ?_)
        refine JW_iastore (pc := 46) G hq11 (fun _ => rfl) dX10_laysCosts_46 ?_
        refine J_nmD (fun d12 hd12 => ?_)
        refine JR_iinc (pc := 47) (i := 1) (v := v1 + 1) (lv' := [(1, .int (v1 + 1)), (0, va_rf (some this))]) G rfl (congrArg (fun z => v1 + z) (by decide)) (by decide) rfl dX10_laysCosts_47 ?_
        refine JR_goto (pc := 50) (tgt := 2) G dX10_laysCosts_50 (by decide) ?_
        refine J_sub [1, 0] rfl ?_
        exact ih (v1 + 1) d12
  unfold Mo_laysCosts
  refine JR_iconst (pc := 0) G ci_0 dX10_laysCosts_0 ?_
  refine JR_istore_n (pc := 1) (k := 1) (i := 1) (lv' := [(1, .int 0), (0, va_rf (some this))]) G rfl (by decide) rfl dX10_laysCosts_1 ?_
  refine J_sub [1, 0] rfl ?_
  exact hMo_laysCosts_h2 FU 0 d

def Mo_period (this : Nat) (p1 : Int32) (S : Sp) (d : Dt) : Option Int32 :=
  (isK S 9 (some this)).bind fun z1 =>
  (Mo_toldOf this p1 1 S d).bind fun r2 =>
  some r2
set_option maxHeartbeats 4000000 in
theorem Mo_period_fn (this : Nat) (p1 : Int32) (S : Sp) (d : Dt) : Fn yX10_period (ws_ yX10_period cX10_period 2 (some .int)) 1 22 [va_rf (some this), .int p1] S d rvI Λp (Mo_period this p1 S d) := by
  refine Fn.ofJ (own := RX10) (lv := [(0, va_rf (some this)), (1, .int p1)]) (by decide +kernel) rfl (by simp [cat_i, cat_l, cat_f, cat_d, rf_cat]) (by simp [lv_args, cat_i, cat_l, cat_f, cat_d, rf_cat]) ?_
  intro X F G hRm hR hI
  unfold Mo_period
  refine JR_aload_n (pc := 0) (k := 0) (i := 0) (o := some this) G rfl rfl dX10_period_0 ?_
  refine JR_iload_n (pc := 1) (k := 1) (i := 1) G rfl rfl dX10_period_1 ?_
  refine JR_iconst (pc := 2) G ci_1 dX10_period_2 ?_
  refine J_bd (fun z1 hz1 => ?_)
  refine JPV_I (pc := 3) (as := [.int p1, .int 1]) (st' := []) (o := some this) G (Mo_toldOf_fn this p1 1 S d) (JC_V (n := 2) G hRm cl_X10 q1921 q1923 qs79 q152 q1924 ⟨rfl, dd_X10_toldOf⟩ ⟨by decide, by decide⟩ dX10_period_3 hz1 rfl (Nat.le_of_ble_eq_true rfl)) rfl (fun r2 hr2 => ?_)
  exact JR_iret (pc := 6) G hR dX10_period_6 rfl rfl

def Mo_responseOf_b82 (this : Nat) (p1 : Int32) (S : Sp) (d : Dt) (k7 : Int32 → Option (Int32)) (k26 : Int32 → Int32 → Int32 → Option (Int32)) (v2 : Int32) (v4 : Int32) (s0 : Int32) (s1 : Int32) : Option Int32 :=
  (some (s1 + s0)).bind fun x19 =>
  k26 v2 x19 (v4 + 1)
def Mo_responseOf_h26 (this : Nat) (p1 : Int32) (S : Sp) (d : Dt) (k7 : Int32 → Option (Int32)) : Nat → Int32 → Int32 → Int32 → Option Int32
  | 0, _, _, _ => none
  | f + 1, v2, v3, v4 =>
    (isK S 9 (some this)).bind fun z9 =>
    (aix S 50 (S.2.1 z9 1) 4).bind fun q10 =>
    if (d.1 q10.1 q10.2) ≤ v4 then
      if ¬ v3 = v2 then
        k7 (v2 + 1)
      else
        some v2
    else
      (aix S 50 (S.2.1 z9 18) p1).bind fun q12 =>
      if ¬ (((d.1 q12.1 q12.2) >>> (v4 &&& 31)) &&& 1) = 1 then
        Mo_responseOf_b82 this p1 S d k7 (Mo_responseOf_h26 this p1 S d k7 f) v2 v4 0 v3
      else
        (Mo_period this v4 S d).bind fun r13 =>
        (Mo_period this v4 S d).bind fun r14 =>
        (gz r14).bind fun u15 =>
        (aix S 50 (S.2.1 z9 16) v4).bind fun q16 =>
        Mo_responseOf_b82 this p1 S d k7 (Mo_responseOf_h26 this p1 S d k7 f) v2 v4 ((((v2 + r13) - 1) / r14) * (d.1 q16.1 q16.2)) v3
def Mo_responseOf_h7 (this : Nat) (p1 : Int32) (S : Sp) (d : Dt) : Nat → Int32 → Option Int32
  | 0, _ => none
  | f + 1, v2 =>
    (isK S 9 (some this)).bind fun z4 =>
    (Mo_period this p1 S d).bind fun r5 =>
    if r5 < v2 then
      some ((-1))
    else
      (aix S 50 (S.2.1 z4 16) p1).bind fun q6 =>
      (some (d.1 q6.1 q6.2)).bind fun x7 =>
      Mo_responseOf_h26 this p1 S d (Mo_responseOf_h7 this p1 S d f) FU v2 x7 0
def Mo_responseOf (this : Nat) (p1 : Int32) (S : Sp) (d : Dt) : Option Int32 :=
  (isK S 9 (some this)).bind fun z1 =>
  (aix S 50 (S.2.1 z1 16) p1).bind fun q2 =>
  (some (d.1 q2.1 q2.2)).bind fun x3 =>
  Mo_responseOf_h7 this p1 S d FU x3
set_option maxHeartbeats 4000000 in
theorem Mo_responseOf_fn (this : Nat) (p1 : Int32) (S : Sp) (d : Dt) : Fn yX10_responseOf (ws_ yX10_responseOf cX10_responseOf 5 (some .int)) 2 43 [va_rf (some this), .int p1] S d rvI Λp (Mo_responseOf this p1 S d) := by
  refine Fn.ofJ (own := RX10) (lv := [(0, va_rf (some this)), (1, .int p1)]) (by decide +kernel) rfl (by simp [cat_i, cat_l, cat_f, cat_d, rf_cat]) (by simp [lv_args, cat_i, cat_l, cat_f, cat_d, rf_cat]) ?_
  intro X F G hRm hR hI
  have hMo_responseOf_b82 : ∀ (k7 : Int32 → Option (Int32)) (hk7 : ∀ (v2 : Int32), J X F Λp S d 7 [(0, va_rf (some this)), (1, .int p1), (2, .int v2)] [] (k7 v2)) (k26 : Int32 → Int32 → Int32 → Option (Int32)) (hk26 : ∀ (v2 : Int32) (v3 : Int32) (v4 : Int32), J X F Λp S d 26 [(0, va_rf (some this)), (1, .int p1), (2, .int v2), (3, .int v3), (4, .int v4)] [] (k26 v2 v3 v4)) (v2 : Int32) (v4 : Int32) (s0 : Int32) (s1 : Int32), J X F Λp S d 82 [(0, va_rf (some this)), (1, .int p1), (2, .int v2), (4, .int v4)] [.int s0, .int s1] (Mo_responseOf_b82 this p1 S d k7 k26 v2 v4 s0 s1) := by
    intro k7 hk7 k26 hk26 v2 v4 s0 s1
    unfold Mo_responseOf_b82
    refine JR_iadd (pc := 82) G dX10_responseOf_82 ?_
    refine J_nm (fun x19 hx19 => ?_)
    refine JR_istore_n (pc := 83) (k := 3) (i := 3) (lv' := [(3, .int x19), (0, va_rf (some this)), (1, .int p1), (2, .int v2), (4, .int v4)]) G rfl (by decide) rfl dX10_responseOf_83 ?_
    refine JR_iinc (pc := 84) (i := 4) (v := v4 + 1) (lv' := [(4, .int (v4 + 1)), (3, .int x19), (0, va_rf (some this)), (1, .int p1), (2, .int v2)]) G rfl (congrArg (fun z => v4 + z) (by decide)) (by decide) rfl dX10_responseOf_84 ?_
    refine JR_goto (pc := 87) (tgt := 26) G dX10_responseOf_87 (by decide) ?_
    refine J_sub [2, 3, 4, 1, 0] rfl ?_
    exact hk26 v2 x19 (v4 + 1)
  have hMo_responseOf_h26 : ∀ (k7 : Int32 → Option (Int32)) (hk7 : ∀ (v2 : Int32), J X F Λp S d 7 [(0, va_rf (some this)), (1, .int p1), (2, .int v2)] [] (k7 v2)) (f : Nat) (v2 : Int32) (v3 : Int32) (v4 : Int32), J X F Λp S d 26 [(0, va_rf (some this)), (1, .int p1), (2, .int v2), (3, .int v3), (4, .int v4)] [] (Mo_responseOf_h26 this p1 S d k7 f v2 v3 v4) := by
    intro k7 hk7 f
    induction f with
    | zero => intro v2 v3 v4; exact J_no
    | succ f ih =>
      intro v2 v3 v4
      unfold Mo_responseOf_h26
      refine JR_iload (pc := 26) (i := 4) G rfl dX10_responseOf_26 ?_
      refine JR_aload_n (pc := 28) (k := 0) (i := 0) (o := some this) G rfl rfl dX10_responseOf_28 ?_
      refine J_bd (fun z9 hz9 => ?_)
      refine JR_gR (pc := 29) (k := 1) G cl_X10 in_X10 (by decide) (by decide) rfl (Or.inl rfl) q1589 hz9 dX10_responseOf_29 ?_
      refine JR_iconst (pc := 32) G ci_4 dX10_responseOf_32 ?_
      refine J_bd (fun q10 hq10 => ?_)
      refine JR_iaload (pc := 33) G hq10 dX10_responseOf_33 ?_
      refine JR_icmp_ge (pc := 34) (tgt := 90) G dX10_responseOf_34 (by decide) (fun c18 => ?_) (fun c18 => ?_)
      · refine JR_iload_n (pc := 90) (k := 3) (i := 3) G rfl rfl dX10_responseOf_90 ?_
        refine JR_iload_n (pc := 91) (k := 2) (i := 2) G rfl rfl dX10_responseOf_91 ?_
        refine JR_icmp_ne (pc := 92) (tgt := 97) G dX10_responseOf_92 (by decide) (fun c11 => ?_) (fun c11 => ?_)
        · refine JR_iinc (pc := 97) (i := 2) (v := v2 + 1) (lv' := [(2, .int (v2 + 1)), (0, va_rf (some this)), (1, .int p1), (3, .int v3), (4, .int v4)]) G rfl (congrArg (fun z => v2 + z) (by decide)) (by decide) rfl dX10_responseOf_97 ?_
          refine JR_goto (pc := 100) (tgt := 7) G dX10_responseOf_100 (by decide) ?_
          refine J_sub [1, 2, 0] rfl ?_
          exact hk7 (v2 + 1)
        · refine JR_iload_n (pc := 95) (k := 2) (i := 2) G rfl rfl dX10_responseOf_95 ?_
          exact JR_iret (pc := 96) G hR dX10_responseOf_96 rfl rfl
      · refine JR_iload_n (pc := 37) (k := 3) (i := 3) G rfl rfl dX10_responseOf_37 ?_
        refine JR_aload_n (pc := 38) (k := 0) (i := 0) (o := some this) G rfl rfl dX10_responseOf_38 ?_
        refine JR_gR (pc := 39) (k := 18) G cl_X10 in_X10 (by decide) (by decide) rfl (Or.inl rfl) q1606 hz9 dX10_responseOf_39 ?_
        refine JR_iload_n (pc := 42) (k := 1) (i := 1) G rfl rfl dX10_responseOf_42 ?_
        refine J_bd (fun q12 hq12 => ?_)
        refine JR_iaload (pc := 43) G hq12 dX10_responseOf_43 ?_
        refine JR_iload (pc := 44) (i := 4) G rfl dX10_responseOf_44 ?_
        refine JR_ishr (pc := 46) G dX10_responseOf_46 ?_
        refine JR_iconst (pc := 47) G ci_1 dX10_responseOf_47 ?_
        refine JR_iand (pc := 48) G dX10_responseOf_48 ?_
        refine JR_iconst (pc := 49) G ci_1 dX10_responseOf_49 ?_
        refine JR_icmp_ne (pc := 50) (tgt := 81) G dX10_responseOf_50 (by decide) (fun c17 => ?_) (fun c17 => ?_)
        · refine JR_iconst (pc := 81) G ci_0 dX10_responseOf_81 ?_
          refine J_sub [0, 1, 2, 4] rfl ?_
          exact hMo_responseOf_b82 k7 hk7 (Mo_responseOf_h26 this p1 S d k7 f) ih v2 v4 0 v3
        · refine JR_iload_n (pc := 53) (k := 2) (i := 2) G rfl rfl dX10_responseOf_53 ?_
          refine JR_aload_n (pc := 54) (k := 0) (i := 0) (o := some this) G rfl rfl dX10_responseOf_54 ?_
          refine JR_iload (pc := 55) (i := 4) G rfl dX10_responseOf_55 ?_
          refine JPV_I (pc := 57) (as := [.int v4]) (st' := [.int v2, .int v3]) (o := some this) G (Mo_period_fn this v4 S d) (JC_V (n := 1) G hRm cl_X10 q1995 q1997 qs91 q152 q1998 ⟨rfl, dd_X10_period⟩ ⟨by decide, by decide⟩ dX10_responseOf_57 hz9 rfl (Nat.le_of_ble_eq_true rfl)) rfl (fun r13 hr13 => ?_)
          refine JR_iadd (pc := 60) G dX10_responseOf_60 ?_
          refine JR_iconst (pc := 61) G ci_1 dX10_responseOf_61 ?_
          refine JR_isub (pc := 62) G dX10_responseOf_62 ?_
          refine JR_aload_n (pc := 63) (k := 0) (i := 0) (o := some this) G rfl rfl dX10_responseOf_63 ?_
          refine JR_iload (pc := 64) (i := 4) G rfl dX10_responseOf_64 ?_
          refine JPV_I (pc := 66) (as := [.int v4]) (st' := [.int ((v2 + r13) - 1), .int v3]) (o := some this) G (Mo_period_fn this v4 S d) (JC_V (n := 1) G hRm cl_X10 q1995 q1997 qs91 q152 q1998 ⟨rfl, dd_X10_period⟩ ⟨by decide, by decide⟩ dX10_responseOf_66 hz9 rfl (Nat.le_of_ble_eq_true rfl)) rfl (fun r14 hr14 => ?_)
          refine J_bd (fun u15 hu15 => ?_)
          refine JR_idiv (pc := 69) G (gz_at hu15) dX10_responseOf_69 ?_
          refine JR_aload_n (pc := 70) (k := 0) (i := 0) (o := some this) G rfl rfl dX10_responseOf_70 ?_
          refine JR_gR (pc := 71) (k := 16) G cl_X10 in_X10 (by decide) (by decide) rfl (Or.inl rfl) q1604 hz9 dX10_responseOf_71 ?_
          refine JR_iload (pc := 74) (i := 4) G rfl dX10_responseOf_74 ?_
          refine J_bd (fun q16 hq16 => ?_)
          refine JR_iaload (pc := 76) G hq16 dX10_responseOf_76 ?_
          refine JR_imul (pc := 77) G dX10_responseOf_77 ?_
          refine JR_goto (pc := 78) (tgt := 82) G dX10_responseOf_78 (by decide) ?_
          refine J_sub [0, 1, 2, 4] rfl ?_
          exact hMo_responseOf_b82 k7 hk7 (Mo_responseOf_h26 this p1 S d k7 f) ih v2 v4 ((((v2 + r13) - 1) / r14) * (d.1 q16.1 q16.2)) v3
  have hMo_responseOf_h7 : ∀ (f : Nat) (v2 : Int32), J X F Λp S d 7 [(0, va_rf (some this)), (1, .int p1), (2, .int v2)] [] (Mo_responseOf_h7 this p1 S d f v2) := by
    intro  f
    induction f with
    | zero => intro v2; exact J_no
    | succ f ih =>
      intro v2
      unfold Mo_responseOf_h7
      refine JR_iload_n (pc := 7) (k := 2) (i := 2) G rfl rfl dX10_responseOf_7 ?_
      refine JR_aload_n (pc := 8) (k := 0) (i := 0) (o := some this) G rfl rfl dX10_responseOf_8 ?_
      refine JR_iload_n (pc := 9) (k := 1) (i := 1) G rfl rfl dX10_responseOf_9 ?_
      refine J_bd (fun z4 hz4 => ?_)
      refine JPV_I (pc := 10) (as := [.int p1]) (st' := [.int v2]) (o := some this) G (Mo_period_fn this p1 S d) (JC_V (n := 1) G hRm cl_X10 q1995 q1997 qs91 q152 q1998 ⟨rfl, dd_X10_period⟩ ⟨by decide, by decide⟩ dX10_responseOf_10 hz4 rfl (Nat.le_of_ble_eq_true rfl)) rfl (fun r5 hr5 => ?_)
      refine JR_icmp_gt (pc := 13) (tgt := 103) G dX10_responseOf_13 (by decide) (fun c8 => ?_) (fun c8 => ?_)
      · refine JR_iconst (pc := 103) G ci_m1 dX10_responseOf_103 ?_
        exact JR_iret (pc := 104) G hR dX10_responseOf_104 rfl rfl
      · refine JR_aload_n (pc := 16) (k := 0) (i := 0) (o := some this) G rfl rfl dX10_responseOf_16 ?_
        refine JR_gR (pc := 17) (k := 16) G cl_X10 in_X10 (by decide) (by decide) rfl (Or.inl rfl) q1604 hz4 dX10_responseOf_17 ?_
        refine JR_iload_n (pc := 20) (k := 1) (i := 1) G rfl rfl dX10_responseOf_20 ?_
        refine J_bd (fun q6 hq6 => ?_)
        refine JR_iaload (pc := 21) G hq6 dX10_responseOf_21 ?_
        refine J_nm (fun x7 hx7 => ?_)
        refine JR_istore_n (pc := 22) (k := 3) (i := 3) (lv' := [(3, .int x7), (0, va_rf (some this)), (1, .int p1), (2, .int v2)]) G rfl (by decide) rfl dX10_responseOf_22 ?_
        refine JR_iconst (pc := 23) G ci_0 dX10_responseOf_23 ?_
        refine JR_istore (pc := 24) (i := 4) (lv' := [(4, .int 0), (3, .int x7), (0, va_rf (some this)), (1, .int p1), (2, .int v2)]) G (by decide) rfl dX10_responseOf_24 ?_
        refine J_sub [2, 3, 4, 1, 0] rfl ?_
        exact hMo_responseOf_h26 (Mo_responseOf_h7 this p1 S d f) ih FU v2 x7 0
  unfold Mo_responseOf
  refine JR_aload_n (pc := 0) (k := 0) (i := 0) (o := some this) G rfl rfl dX10_responseOf_0 ?_
  refine J_bd (fun z1 hz1 => ?_)
  refine JR_gR (pc := 1) (k := 16) G cl_X10 in_X10 (by decide) (by decide) rfl (Or.inl rfl) q1604 hz1 dX10_responseOf_1 ?_
  refine JR_iload_n (pc := 4) (k := 1) (i := 1) G rfl rfl dX10_responseOf_4 ?_
  refine J_bd (fun q2 hq2 => ?_)
  refine JR_iaload (pc := 5) G hq2 dX10_responseOf_5 ?_
  refine J_nm (fun x3 hx3 => ?_)
  refine JR_istore_n (pc := 6) (k := 2) (i := 2) (lv' := [(2, .int x3), (0, va_rf (some this)), (1, .int p1)]) G rfl (by decide) rfl dX10_responseOf_6 ?_
  refine J_sub [1, 2, 0] rfl ?_
  exact hMo_responseOf_h7 FU x3

def Mo_response (this : Nat) (p1 : Int32) (S : Sp) (d : Dt) : Option (Int32 × Dt) :=
  (isK S 9 (some this)).bind fun z1 =>
  (Mo_isTask this p1 S d).bind fun r2 =>
  if ¬ r2 = 0 then
    bind2 (Mo_laysCosts this S d) fun _ d3 =>
    (Mo_responseOf this p1 S d3).bind fun r4 =>
    some (r4, d3)
  else
    some ((-2), d)
set_option maxHeartbeats 4000000 in
theorem Mo_response_fn (this : Nat) (p1 : Int32) (S : Sp) (d : Dt) : Fn yX10_response (ws_ yX10_response cX10_response 2 (some .int)) 5 114 [va_rf (some this), .int p1] S d rvI Λw (Mo_response this p1 S d) := by
  refine Fn.ofJ (own := RX10) (lv := [(0, va_rf (some this)), (1, .int p1)]) (by decide +kernel) rfl (by simp [cat_i, cat_l, cat_f, cat_d, rf_cat]) (by simp [lv_args, cat_i, cat_l, cat_f, cat_d, rf_cat]) ?_
  intro X F G hRm hR hI
  unfold Mo_response
  refine JR_aload_n (pc := 0) (k := 0) (i := 0) (o := some this) G rfl rfl dX10_response_0 ?_
  refine JR_iload_n (pc := 1) (k := 1) (i := 1) G rfl rfl dX10_response_1 ?_
  refine J_bd (fun z1 hz1 => ?_)
  refine JPV_I (pc := 2) (as := [.int p1]) (st' := []) (o := some this) G (Mo_isTask_fn this p1 S d) (JC_V (n := 1) G hRm cl_X10 q1916 q1918 qs78 q152 q1919 ⟨rfl, dd_X10_isTask⟩ ⟨by decide, by decide⟩ dX10_response_2 hz1 rfl (Nat.le_of_ble_eq_true rfl)) rfl (fun r2 hr2 => ?_)
  refine JR_if_ne (pc := 5) (tgt := 11) G dX10_response_5 (by decide) (fun c5 => ?_) (fun c5 => ?_)
  · refine JR_aload_n (pc := 11) (k := 0) (i := 0) (o := some this) G rfl rfl dX10_response_11 ?_
    refine JQV_U (pc := 12) (as := []) (st' := []) (o := some this) G (Mo_laysCosts_fn this S d) (JC_V (n := 0) G hRm cl_X10 q1987 q1989 qs89 q152 q1990 ⟨rfl, dd_X10_laysCosts⟩ ⟨by decide, by decide⟩ dX10_response_12 hz1 rfl (Nat.le_of_ble_eq_true rfl)) rfl (fun _ _ => rfl) (fun _ d3 hd3 => ?_)
    refine JR_aload_n (pc := 15) (k := 0) (i := 0) (o := some this) G rfl rfl dX10_response_15 ?_
    refine JR_iload_n (pc := 16) (k := 1) (i := 1) G rfl rfl dX10_response_16 ?_
    refine JPV_I (pc := 17) (as := [.int p1]) (st' := []) (o := some this) G (Mo_responseOf_fn this p1 S d3) (JC_V (n := 1) G hRm cl_X10 q1991 q1993 qs90 q152 q1994 ⟨rfl, dd_X10_responseOf⟩ ⟨by decide, by decide⟩ dX10_response_17 hz1 rfl (Nat.le_of_ble_eq_true rfl)) rfl (fun r4 hr4 => ?_)
    exact JR_iret (pc := 20) G hR dX10_response_20 rfl rfl
  · refine JR_bipush (pc := 8) (v := (-2)) G (by decide) dX10_response_8 ?_
    exact JR_iret (pc := 10) G hR dX10_response_10 rfl rfl

def Mo_boundOf (this : Nat) (p1 : Int32) (p2 : Int32) (S : Sp) (d : Dt) : Option Int32 :=
  (isK S 9 (some this)).bind fun z1 =>
  (Mo_responseOf this p1 S d).bind fun r2 =>
  (aix S 50 (S.2.1 z1 17) p1).bind fun q3 =>
  (some (r2 - (d.1 q3.1 q3.2))).bind fun x4 =>
  if p2 = nI 0 then
    (Mo_period this p1 S d).bind fun r5 =>
    some (r5 - x4)
  else
    if p2 = nI 1 then
      (Mo_period this p1 S d).bind fun r7 =>
      some (r7 + x4)
    else
      if p2 = nI 2 then
        (aix S 50 (S.2.1 z1 1) 1).bind fun q9 =>
        if x4 ≤ (d.1 q9.1 q9.2) then
          (Mo_period this p1 S d).bind fun r10 =>
          (gz r10).bind fun u11 =>
          some (((d.1 q9.1 q9.2) - x4) / r10)
        else
          some 0
      else
        (aix S 50 (S.2.1 z1 1) 1).bind fun q14 =>
        (Mo_period this p1 S d).bind fun r15 =>
        (Mo_period this p1 S d).bind fun r16 =>
        (gz r16).bind fun u17 =>
        some (((((d.1 q14.1 q14.2) + x4) + r15) - 1) / r16)
set_option maxHeartbeats 4000000 in
theorem Mo_boundOf_fn (this : Nat) (p1 : Int32) (p2 : Int32) (S : Sp) (d : Dt) : Fn yX10_boundOf (ws_ yX10_boundOf cX10_boundOf 4 (some .int)) 3 67 [va_rf (some this), .int p1, .int p2] S d rvI Λp (Mo_boundOf this p1 p2 S d) := by
  refine Fn.ofJ (own := RX10) (lv := [(0, va_rf (some this)), (1, .int p1), (2, .int p2)]) (by decide +kernel) rfl (by simp [cat_i, cat_l, cat_f, cat_d, rf_cat]) (by simp [lv_args, cat_i, cat_l, cat_f, cat_d, rf_cat]) ?_
  intro X F G hRm hR hI
  unfold Mo_boundOf
  refine JR_aload_n (pc := 0) (k := 0) (i := 0) (o := some this) G rfl rfl dX10_boundOf_0 ?_
  refine JR_iload_n (pc := 1) (k := 1) (i := 1) G rfl rfl dX10_boundOf_1 ?_
  refine J_bd (fun z1 hz1 => ?_)
  refine JPV_I (pc := 2) (as := [.int p1]) (st' := []) (o := some this) G (Mo_responseOf_fn this p1 S d) (JC_V (n := 1) G hRm cl_X10 q1991 q1993 qs90 q152 q1994 ⟨rfl, dd_X10_responseOf⟩ ⟨by decide, by decide⟩ dX10_boundOf_2 hz1 rfl (Nat.le_of_ble_eq_true rfl)) rfl (fun r2 hr2 => ?_)
  refine JR_aload_n (pc := 5) (k := 0) (i := 0) (o := some this) G rfl rfl dX10_boundOf_5 ?_
  refine JR_gR (pc := 6) (k := 17) G cl_X10 in_X10 (by decide) (by decide) rfl (Or.inl rfl) q1605 hz1 dX10_boundOf_6 ?_
  refine JR_iload_n (pc := 9) (k := 1) (i := 1) G rfl rfl dX10_boundOf_9 ?_
  refine J_bd (fun q3 hq3 => ?_)
  refine JR_iaload (pc := 10) G hq3 dX10_boundOf_10 ?_
  refine JR_isub (pc := 11) G dX10_boundOf_11 ?_
  refine J_nm (fun x4 hx4 => ?_)
  refine JR_istore_n (pc := 12) (k := 3) (i := 3) (lv' := [(3, .int x4), (0, va_rf (some this)), (1, .int p1), (2, .int p2)]) G rfl (by decide) rfl dX10_boundOf_12 ?_
  refine JR_iload_n (pc := 13) (k := 2) (i := 2) G rfl rfl dX10_boundOf_13 ?_
  refine J_if (fun c6 => ?_) (fun c6 => ?_)
  · refine JR_tsIn (pc := 14) (k := 0) (tgt := 40) G dX10_boundOf_14 c6 (by decide) (by decide) rfl (by decide) ?_
    refine JR_aload_n (pc := 40) (k := 0) (i := 0) (o := some this) G rfl rfl dX10_boundOf_40 ?_
    refine JR_iload_n (pc := 41) (k := 1) (i := 1) G rfl rfl dX10_boundOf_41 ?_
    refine JPV_I (pc := 42) (as := [.int p1]) (st' := []) (o := some this) G (Mo_period_fn this p1 S d) (JC_V (n := 1) G hRm cl_X10 q1995 q1997 qs91 q152 q1998 ⟨rfl, dd_X10_period⟩ ⟨by decide, by decide⟩ dX10_boundOf_42 hz1 rfl (Nat.le_of_ble_eq_true rfl)) rfl (fun r5 hr5 => ?_)
    refine JR_iload_n (pc := 45) (k := 3) (i := 3) G rfl rfl dX10_boundOf_45 ?_
    refine JR_isub (pc := 46) G dX10_boundOf_46 ?_
    exact JR_iret (pc := 47) G hR dX10_boundOf_47 rfl rfl
  · refine J_if (fun c8 => ?_) (fun c8 => ?_)
    · refine JR_tsIn (pc := 14) (k := 1) (tgt := 48) G dX10_boundOf_14 c8 (by decide) (by decide) rfl (by decide) ?_
      refine JR_aload_n (pc := 48) (k := 0) (i := 0) (o := some this) G rfl rfl dX10_boundOf_48 ?_
      refine JR_iload_n (pc := 49) (k := 1) (i := 1) G rfl rfl dX10_boundOf_49 ?_
      refine JPV_I (pc := 50) (as := [.int p1]) (st' := []) (o := some this) G (Mo_period_fn this p1 S d) (JC_V (n := 1) G hRm cl_X10 q1995 q1997 qs91 q152 q1998 ⟨rfl, dd_X10_period⟩ ⟨by decide, by decide⟩ dX10_boundOf_50 hz1 rfl (Nat.le_of_ble_eq_true rfl)) rfl (fun r7 hr7 => ?_)
      refine JR_iload_n (pc := 53) (k := 3) (i := 3) G rfl rfl dX10_boundOf_53 ?_
      refine JR_iadd (pc := 54) G dX10_boundOf_54 ?_
      exact JR_iret (pc := 55) G hR dX10_boundOf_55 rfl rfl
    · refine J_if (fun c13 => ?_) (fun c13 => ?_)
      · refine JR_tsIn (pc := 14) (k := 2) (tgt := 56) G dX10_boundOf_14 c13 (by decide) (by decide) rfl (by decide) ?_
        refine JR_aload_n (pc := 56) (k := 0) (i := 0) (o := some this) G rfl rfl dX10_boundOf_56 ?_
        refine JR_gR (pc := 57) (k := 1) G cl_X10 in_X10 (by decide) (by decide) rfl (Or.inl rfl) q1589 hz1 dX10_boundOf_57 ?_
        refine JR_iconst (pc := 60) G ci_1 dX10_boundOf_60 ?_
        refine J_bd (fun q9 hq9 => ?_)
        refine JR_iaload (pc := 61) G hq9 dX10_boundOf_61 ?_
        refine JR_iload_n (pc := 62) (k := 3) (i := 3) G rfl rfl dX10_boundOf_62 ?_
        refine JR_icmp_ge (pc := 63) (tgt := 70) G dX10_boundOf_63 (by decide) (fun c12 => ?_) (fun c12 => ?_)
        · refine JR_aload_n (pc := 70) (k := 0) (i := 0) (o := some this) G rfl rfl dX10_boundOf_70 ?_
          refine JR_gR (pc := 71) (k := 1) G cl_X10 in_X10 (by decide) (by decide) rfl (Or.inl rfl) q1589 hz1 dX10_boundOf_71 ?_
          refine JR_iconst (pc := 74) G ci_1 dX10_boundOf_74 ?_
          refine JR_iaload (pc := 75) G hq9 dX10_boundOf_75 ?_
          refine JR_iload_n (pc := 76) (k := 3) (i := 3) G rfl rfl dX10_boundOf_76 ?_
          refine JR_isub (pc := 77) G dX10_boundOf_77 ?_
          refine JR_aload_n (pc := 78) (k := 0) (i := 0) (o := some this) G rfl rfl dX10_boundOf_78 ?_
          refine JR_iload_n (pc := 79) (k := 1) (i := 1) G rfl rfl dX10_boundOf_79 ?_
          refine JPV_I (pc := 80) (as := [.int p1]) (st' := [.int ((d.1 q9.1 q9.2) - x4)]) (o := some this) G (Mo_period_fn this p1 S d) (JC_V (n := 1) G hRm cl_X10 q1995 q1997 qs91 q152 q1998 ⟨rfl, dd_X10_period⟩ ⟨by decide, by decide⟩ dX10_boundOf_80 hz1 rfl (Nat.le_of_ble_eq_true rfl)) rfl (fun r10 hr10 => ?_)
          refine J_bd (fun u11 hu11 => ?_)
          refine JR_idiv (pc := 83) G (gz_at hu11) dX10_boundOf_83 ?_
          exact JR_iret (pc := 84) G hR dX10_boundOf_84 rfl rfl
        · refine JR_iconst (pc := 66) G ci_0 dX10_boundOf_66 ?_
          refine JR_goto (pc := 67) (tgt := 84) G dX10_boundOf_67 (by decide) ?_
          exact JR_iret (pc := 84) G hR dX10_boundOf_84 rfl rfl
      · refine JR_tsOut (pc := 14) (tgt := 85) (n := 2) G dX10_boundOf_14 rfl (by decide) (fun k9 hk9 => by rcases (show k9 = 0 ∨ k9 = 1 ∨ k9 = 2 by omega) with rfl | rfl | rfl <;> assumption) (by decide) ?_
        refine JR_aload_n (pc := 85) (k := 0) (i := 0) (o := some this) G rfl rfl dX10_boundOf_85 ?_
        refine JR_gR (pc := 86) (k := 1) G cl_X10 in_X10 (by decide) (by decide) rfl (Or.inl rfl) q1589 hz1 dX10_boundOf_86 ?_
        refine JR_iconst (pc := 89) G ci_1 dX10_boundOf_89 ?_
        refine J_bd (fun q14 hq14 => ?_)
        refine JR_iaload (pc := 90) G hq14 dX10_boundOf_90 ?_
        refine JR_iload_n (pc := 91) (k := 3) (i := 3) G rfl rfl dX10_boundOf_91 ?_
        refine JR_iadd (pc := 92) G dX10_boundOf_92 ?_
        refine JR_aload_n (pc := 93) (k := 0) (i := 0) (o := some this) G rfl rfl dX10_boundOf_93 ?_
        refine JR_iload_n (pc := 94) (k := 1) (i := 1) G rfl rfl dX10_boundOf_94 ?_
        refine JPV_I (pc := 95) (as := [.int p1]) (st' := [.int ((d.1 q14.1 q14.2) + x4)]) (o := some this) G (Mo_period_fn this p1 S d) (JC_V (n := 1) G hRm cl_X10 q1995 q1997 qs91 q152 q1998 ⟨rfl, dd_X10_period⟩ ⟨by decide, by decide⟩ dX10_boundOf_95 hz1 rfl (Nat.le_of_ble_eq_true rfl)) rfl (fun r15 hr15 => ?_)
        refine JR_iadd (pc := 98) G dX10_boundOf_98 ?_
        refine JR_iconst (pc := 99) G ci_1 dX10_boundOf_99 ?_
        refine JR_isub (pc := 100) G dX10_boundOf_100 ?_
        refine JR_aload_n (pc := 101) (k := 0) (i := 0) (o := some this) G rfl rfl dX10_boundOf_101 ?_
        refine JR_iload_n (pc := 102) (k := 1) (i := 1) G rfl rfl dX10_boundOf_102 ?_
        refine JPV_I (pc := 103) (as := [.int p1]) (st' := [.int ((((d.1 q14.1 q14.2) + x4) + r15) - 1)]) (o := some this) G (Mo_period_fn this p1 S d) (JC_V (n := 1) G hRm cl_X10 q1995 q1997 qs91 q152 q1998 ⟨rfl, dd_X10_period⟩ ⟨by decide, by decide⟩ dX10_boundOf_103 hz1 rfl (Nat.le_of_ble_eq_true rfl)) rfl (fun r16 hr16 => ?_)
        refine J_bd (fun u17 hu17 => ?_)
        refine JR_idiv (pc := 106) G (gz_at hu17) dX10_boundOf_106 ?_
        exact JR_iret (pc := 107) G hR dX10_boundOf_107 rfl rfl

def Mo_least (this : Nat) (p1 : Int32) (p2 : Int32) (S : Sp) (d : Dt) : Option (Int32 × Dt) :=
  (isK S 9 (some this)).bind fun z1 =>
  (Mo_isTask this p1 S d).bind fun r2 =>
  if r2 = 0 then
    some ((-2), d)
  else
    (Mo_in (Int32.toInt64 p2) 0 3 S d).bind fun r3 =>
    if ¬ r3 = 0 then
      bind2 (Mo_laysCosts this S d) fun _ d4 =>
      (Mo_responseOf this p1 S d4).bind fun r5 =>
      if ¬ r5 = ((-1)) then
        (Mo_boundOf this p1 p2 S d4).bind fun r6 =>
        some (r6, d4)
      else
        some ((-1), d4)
    else
      some ((-2), d)
set_option maxHeartbeats 4000000 in
theorem Mo_least_fn (this : Nat) (p1 : Int32) (p2 : Int32) (S : Sp) (d : Dt) : Fn yX10_least (ws_ yX10_least cX10_least 3 (some .int)) 5 114 [va_rf (some this), .int p1, .int p2] S d rvI Λw (Mo_least this p1 p2 S d) := by
  refine Fn.ofJ (own := RX10) (lv := [(0, va_rf (some this)), (1, .int p1), (2, .int p2)]) (by decide +kernel) rfl (by simp [cat_i, cat_l, cat_f, cat_d, rf_cat]) (by simp [lv_args, cat_i, cat_l, cat_f, cat_d, rf_cat]) ?_
  intro X F G hRm hR hI
  unfold Mo_least
  refine JR_aload_n (pc := 0) (k := 0) (i := 0) (o := some this) G rfl rfl dX10_least_0 ?_
  refine JR_iload_n (pc := 1) (k := 1) (i := 1) G rfl rfl dX10_least_1 ?_
  refine J_bd (fun z1 hz1 => ?_)
  refine JPV_I (pc := 2) (as := [.int p1]) (st' := []) (o := some this) G (Mo_isTask_fn this p1 S d) (JC_V (n := 1) G hRm cl_X10 q1916 q1918 qs78 q152 q1919 ⟨rfl, dd_X10_isTask⟩ ⟨by decide, by decide⟩ dX10_least_2 hz1 rfl (Nat.le_of_ble_eq_true rfl)) rfl (fun r2 hr2 => ?_)
  refine JR_if_eq (pc := 5) (tgt := 20) G dX10_least_5 (by decide) (fun c9 => ?_) (fun c9 => ?_)
  · refine JR_bipush (pc := 20) (v := (-2)) G (by decide) dX10_least_20 ?_
    exact JR_iret (pc := 22) G hR dX10_least_22 rfl rfl
  · refine JR_iload_n (pc := 8) (k := 2) (i := 2) G rfl rfl dX10_least_8 ?_
    refine JR_i2l (pc := 9) G dX10_least_9 ?_
    refine JR_lconst (pc := 10) G cl_0 dX10_least_10 ?_
    refine JR_ldc2 (pc := 11) G q2003 dX10_least_11 ?_
    refine JPS_I (pc := 14) (as := [.long (Int32.toInt64 p2), .long 0, .long 3]) (st' := []) G (Mo_in_fn (Int32.toInt64 p2) 0 3 S d) (JC_S (n := 3) G hRm q1782 q1783 q152 q1784 dd_X10_in ⟨by decide, by decide⟩ dX10_least_14 rfl (Nat.le_of_ble_eq_true rfl)) rfl (fun r3 hr3 => ?_)
    refine JR_if_ne (pc := 17) (tgt := 23) G dX10_least_17 (by decide) (fun c8 => ?_) (fun c8 => ?_)
    · refine JR_aload_n (pc := 23) (k := 0) (i := 0) (o := some this) G rfl rfl dX10_least_23 ?_
      refine JQV_U (pc := 24) (as := []) (st' := []) (o := some this) G (Mo_laysCosts_fn this S d) (JC_V (n := 0) G hRm cl_X10 q1987 q1989 qs89 q152 q1990 ⟨rfl, dd_X10_laysCosts⟩ ⟨by decide, by decide⟩ dX10_least_24 hz1 rfl (Nat.le_of_ble_eq_true rfl)) rfl (fun _ _ => rfl) (fun _ d4 hd4 => ?_)
      refine JR_aload_n (pc := 27) (k := 0) (i := 0) (o := some this) G rfl rfl dX10_least_27 ?_
      refine JR_iload_n (pc := 28) (k := 1) (i := 1) G rfl rfl dX10_least_28 ?_
      refine JPV_I (pc := 29) (as := [.int p1]) (st' := []) (o := some this) G (Mo_responseOf_fn this p1 S d4) (JC_V (n := 1) G hRm cl_X10 q1991 q1993 qs90 q152 q1994 ⟨rfl, dd_X10_responseOf⟩ ⟨by decide, by decide⟩ dX10_least_29 hz1 rfl (Nat.le_of_ble_eq_true rfl)) rfl (fun r5 hr5 => ?_)
      refine JR_iconst (pc := 32) G ci_m1 dX10_least_32 ?_
      refine JR_icmp_ne (pc := 33) (tgt := 40) G dX10_least_33 (by decide) (fun c7 => ?_) (fun c7 => ?_)
      · refine JR_aload_n (pc := 40) (k := 0) (i := 0) (o := some this) G rfl rfl dX10_least_40 ?_
        refine JR_iload_n (pc := 41) (k := 1) (i := 1) G rfl rfl dX10_least_41 ?_
        refine JR_iload_n (pc := 42) (k := 2) (i := 2) G rfl rfl dX10_least_42 ?_
        refine JPV_I (pc := 43) (as := [.int p1, .int p2]) (st' := []) (o := some this) G (Mo_boundOf_fn this p1 p2 S d4) (JC_V (n := 2) G hRm cl_X10 q2004 q2006 qs92 q152 q2007 ⟨rfl, dd_X10_boundOf⟩ ⟨by decide, by decide⟩ dX10_least_43 hz1 rfl (Nat.le_of_ble_eq_true rfl)) rfl (fun r6 hr6 => ?_)
        exact JR_iret (pc := 46) G hR dX10_least_46 rfl rfl
      · refine JR_iconst (pc := 36) G ci_m1 dX10_least_36 ?_
        refine JR_goto (pc := 37) (tgt := 46) G dX10_least_37 (by decide) ?_
        exact JR_iret (pc := 46) G hR dX10_least_46 rfl rfl
    · refine JR_bipush (pc := 20) (v := (-2)) G (by decide) dX10_least_20 ?_
      exact JR_iret (pc := 22) G hR dX10_least_22 rfl rfl

def Mo_isBoard (this : Nat) (S : Sp) (d : Dt) : Option Int32 :=
  (isK S 9 (some this)).bind fun z1 =>
  (aix S 50 (S.2.1 z1 1) 7).bind fun q2 =>
  if (d.1 q2.1 q2.2) ≤ 0 then
    some 0
  else
    some 1
set_option maxHeartbeats 4000000 in
theorem Mo_isBoard_fn (this : Nat) (S : Sp) (d : Dt) : Fn yX10_isBoard (ws_ yX10_isBoard cX10_isBoard 1 (some .boolean)) 0 0 [va_rf (some this)] S d rvI Λp (Mo_isBoard this S d) := by
  refine Fn.ofJ (own := RX10) (lv := [(0, va_rf (some this))]) (by decide +kernel) rfl (by simp [cat_i, cat_l, cat_f, cat_d, rf_cat]) (by simp [lv_args, cat_i, cat_l, cat_f, cat_d, rf_cat]) ?_
  intro X F G hRm hR hI
  unfold Mo_isBoard
  refine JR_aload_n (pc := 0) (k := 0) (i := 0) (o := some this) G rfl rfl dX10_isBoard_0 ?_
  refine J_bd (fun z1 hz1 => ?_)
  refine JR_gR (pc := 1) (k := 1) G cl_X10 in_X10 (by decide) (by decide) rfl (Or.inl rfl) q1589 hz1 dX10_isBoard_1 ?_
  refine JR_bipush (pc := 4) (v := 7) G (by decide) dX10_isBoard_4 ?_
  refine J_bd (fun q2 hq2 => ?_)
  refine JR_iaload (pc := 6) G hq2 dX10_isBoard_6 ?_
  refine JR_if_le (pc := 7) (tgt := 14) G dX10_isBoard_7 (by decide) (fun c3 => ?_) (fun c3 => ?_)
  · refine JR_iconst (pc := 14) G ci_0 dX10_isBoard_14 ?_
    exact JR_zret (pc := 15) G hR dX10_isBoard_15 (Or.inl rfl) rfl rfl
  · refine JR_iconst (pc := 10) G ci_1 dX10_isBoard_10 ?_
    refine JR_goto (pc := 11) (tgt := 15) G dX10_isBoard_11 (by decide) ?_
    exact JR_zret (pc := 15) G hR dX10_isBoard_15 (Or.inr rfl) rfl rfl

def Mo_isLawful (this : Nat) (p1 : Int32) (S : Sp) (d : Dt) : Option Int32 :=
  (isK S 9 (some this)).bind fun z1 =>
  (Mo_responseOf this p1 S d).bind fun r2 =>
  if ¬ r2 = ((-1)) then
    (Mo_toldOf this p1 2 S d).bind fun r3 =>
    (Mo_boundOf this p1 0 S d).bind fun r4 =>
    if r4 < r3 then
      some 0
    else
      (Mo_toldOf this p1 3 S d).bind fun r5 =>
      (Mo_boundOf this p1 1 S d).bind fun r6 =>
      if r5 < r6 then
        some 0
      else
        (Mo_toldOf this p1 4 S d).bind fun r7 =>
        (Mo_boundOf this p1 2 S d).bind fun r8 =>
        if r8 < r7 then
          some 0
        else
          (Mo_toldOf this p1 5 S d).bind fun r9 =>
          (Mo_boundOf this p1 3 S d).bind fun r10 =>
          if r9 < r10 then
            some 0
          else
            some 1
  else
    some 0
set_option maxHeartbeats 4000000 in
theorem Mo_isLawful_fn (this : Nat) (p1 : Int32) (S : Sp) (d : Dt) : Fn yX10_isLawful (ws_ yX10_isLawful cX10_isLawful 2 (some .boolean)) 4 90 [va_rf (some this), .int p1] S d rvI Λp (Mo_isLawful this p1 S d) := by
  refine Fn.ofJ (own := RX10) (lv := [(0, va_rf (some this)), (1, .int p1)]) (by decide +kernel) rfl (by simp [cat_i, cat_l, cat_f, cat_d, rf_cat]) (by simp [lv_args, cat_i, cat_l, cat_f, cat_d, rf_cat]) ?_
  intro X F G hRm hR hI
  unfold Mo_isLawful
  refine JR_aload_n (pc := 0) (k := 0) (i := 0) (o := some this) G rfl rfl dX10_isLawful_0 ?_
  refine JR_iload_n (pc := 1) (k := 1) (i := 1) G rfl rfl dX10_isLawful_1 ?_
  refine J_bd (fun z1 hz1 => ?_)
  refine JPV_I (pc := 2) (as := [.int p1]) (st' := []) (o := some this) G (Mo_responseOf_fn this p1 S d) (JC_V (n := 1) G hRm cl_X10 q1991 q1993 qs90 q152 q1994 ⟨rfl, dd_X10_responseOf⟩ ⟨by decide, by decide⟩ dX10_isLawful_2 hz1 rfl (Nat.le_of_ble_eq_true rfl)) rfl (fun r2 hr2 => ?_)
  refine JR_iconst (pc := 5) G ci_m1 dX10_isLawful_5 ?_
  refine JR_icmp_ne (pc := 6) (tgt := 11) G dX10_isLawful_6 (by decide) (fun c15 => ?_) (fun c15 => ?_)
  · refine JR_aload_n (pc := 11) (k := 0) (i := 0) (o := some this) G rfl rfl dX10_isLawful_11 ?_
    refine JR_iload_n (pc := 12) (k := 1) (i := 1) G rfl rfl dX10_isLawful_12 ?_
    refine JR_iconst (pc := 13) G ci_2 dX10_isLawful_13 ?_
    refine JPV_I (pc := 14) (as := [.int p1, .int 2]) (st' := []) (o := some this) G (Mo_toldOf_fn this p1 2 S d) (JC_V (n := 2) G hRm cl_X10 q1921 q1923 qs79 q152 q1924 ⟨rfl, dd_X10_toldOf⟩ ⟨by decide, by decide⟩ dX10_isLawful_14 hz1 rfl (Nat.le_of_ble_eq_true rfl)) rfl (fun r3 hr3 => ?_)
    refine JR_aload_n (pc := 17) (k := 0) (i := 0) (o := some this) G rfl rfl dX10_isLawful_17 ?_
    refine JR_iload_n (pc := 18) (k := 1) (i := 1) G rfl rfl dX10_isLawful_18 ?_
    refine JR_iconst (pc := 19) G ci_0 dX10_isLawful_19 ?_
    refine JPV_I (pc := 20) (as := [.int p1, .int 0]) (st' := [.int r3]) (o := some this) G (Mo_boundOf_fn this p1 0 S d) (JC_V (n := 2) G hRm cl_X10 q2004 q2006 qs92 q152 q2007 ⟨rfl, dd_X10_boundOf⟩ ⟨by decide, by decide⟩ dX10_isLawful_20 hz1 rfl (Nat.le_of_ble_eq_true rfl)) rfl (fun r4 hr4 => ?_)
    refine JR_icmp_gt (pc := 23) (tgt := 75) G dX10_isLawful_23 (by decide) (fun c14 => ?_) (fun c14 => ?_)
    · refine JR_iconst (pc := 75) G ci_0 dX10_isLawful_75 ?_
      exact JR_zret (pc := 76) G hR dX10_isLawful_76 (Or.inl rfl) rfl rfl
    · refine JR_aload_n (pc := 26) (k := 0) (i := 0) (o := some this) G rfl rfl dX10_isLawful_26 ?_
      refine JR_iload_n (pc := 27) (k := 1) (i := 1) G rfl rfl dX10_isLawful_27 ?_
      refine JR_iconst (pc := 28) G ci_3 dX10_isLawful_28 ?_
      refine JPV_I (pc := 29) (as := [.int p1, .int 3]) (st' := []) (o := some this) G (Mo_toldOf_fn this p1 3 S d) (JC_V (n := 2) G hRm cl_X10 q1921 q1923 qs79 q152 q1924 ⟨rfl, dd_X10_toldOf⟩ ⟨by decide, by decide⟩ dX10_isLawful_29 hz1 rfl (Nat.le_of_ble_eq_true rfl)) rfl (fun r5 hr5 => ?_)
      refine JR_aload_n (pc := 32) (k := 0) (i := 0) (o := some this) G rfl rfl dX10_isLawful_32 ?_
      refine JR_iload_n (pc := 33) (k := 1) (i := 1) G rfl rfl dX10_isLawful_33 ?_
      refine JR_iconst (pc := 34) G ci_1 dX10_isLawful_34 ?_
      refine JPV_I (pc := 35) (as := [.int p1, .int 1]) (st' := [.int r5]) (o := some this) G (Mo_boundOf_fn this p1 1 S d) (JC_V (n := 2) G hRm cl_X10 q2004 q2006 qs92 q152 q2007 ⟨rfl, dd_X10_boundOf⟩ ⟨by decide, by decide⟩ dX10_isLawful_35 hz1 rfl (Nat.le_of_ble_eq_true rfl)) rfl (fun r6 hr6 => ?_)
      refine JR_icmp_lt (pc := 38) (tgt := 75) G dX10_isLawful_38 (by decide) (fun c13 => ?_) (fun c13 => ?_)
      · refine JR_iconst (pc := 75) G ci_0 dX10_isLawful_75 ?_
        exact JR_zret (pc := 76) G hR dX10_isLawful_76 (Or.inl rfl) rfl rfl
      · refine JR_aload_n (pc := 41) (k := 0) (i := 0) (o := some this) G rfl rfl dX10_isLawful_41 ?_
        refine JR_iload_n (pc := 42) (k := 1) (i := 1) G rfl rfl dX10_isLawful_42 ?_
        refine JR_iconst (pc := 43) G ci_4 dX10_isLawful_43 ?_
        refine JPV_I (pc := 44) (as := [.int p1, .int 4]) (st' := []) (o := some this) G (Mo_toldOf_fn this p1 4 S d) (JC_V (n := 2) G hRm cl_X10 q1921 q1923 qs79 q152 q1924 ⟨rfl, dd_X10_toldOf⟩ ⟨by decide, by decide⟩ dX10_isLawful_44 hz1 rfl (Nat.le_of_ble_eq_true rfl)) rfl (fun r7 hr7 => ?_)
        refine JR_aload_n (pc := 47) (k := 0) (i := 0) (o := some this) G rfl rfl dX10_isLawful_47 ?_
        refine JR_iload_n (pc := 48) (k := 1) (i := 1) G rfl rfl dX10_isLawful_48 ?_
        refine JR_iconst (pc := 49) G ci_2 dX10_isLawful_49 ?_
        refine JPV_I (pc := 50) (as := [.int p1, .int 2]) (st' := [.int r7]) (o := some this) G (Mo_boundOf_fn this p1 2 S d) (JC_V (n := 2) G hRm cl_X10 q2004 q2006 qs92 q152 q2007 ⟨rfl, dd_X10_boundOf⟩ ⟨by decide, by decide⟩ dX10_isLawful_50 hz1 rfl (Nat.le_of_ble_eq_true rfl)) rfl (fun r8 hr8 => ?_)
        refine JR_icmp_gt (pc := 53) (tgt := 75) G dX10_isLawful_53 (by decide) (fun c12 => ?_) (fun c12 => ?_)
        · refine JR_iconst (pc := 75) G ci_0 dX10_isLawful_75 ?_
          exact JR_zret (pc := 76) G hR dX10_isLawful_76 (Or.inl rfl) rfl rfl
        · refine JR_aload_n (pc := 56) (k := 0) (i := 0) (o := some this) G rfl rfl dX10_isLawful_56 ?_
          refine JR_iload_n (pc := 57) (k := 1) (i := 1) G rfl rfl dX10_isLawful_57 ?_
          refine JR_iconst (pc := 58) G ci_5 dX10_isLawful_58 ?_
          refine JPV_I (pc := 59) (as := [.int p1, .int 5]) (st' := []) (o := some this) G (Mo_toldOf_fn this p1 5 S d) (JC_V (n := 2) G hRm cl_X10 q1921 q1923 qs79 q152 q1924 ⟨rfl, dd_X10_toldOf⟩ ⟨by decide, by decide⟩ dX10_isLawful_59 hz1 rfl (Nat.le_of_ble_eq_true rfl)) rfl (fun r9 hr9 => ?_)
          refine JR_aload_n (pc := 62) (k := 0) (i := 0) (o := some this) G rfl rfl dX10_isLawful_62 ?_
          refine JR_iload_n (pc := 63) (k := 1) (i := 1) G rfl rfl dX10_isLawful_63 ?_
          refine JR_iconst (pc := 64) G ci_3 dX10_isLawful_64 ?_
          refine JPV_I (pc := 65) (as := [.int p1, .int 3]) (st' := [.int r9]) (o := some this) G (Mo_boundOf_fn this p1 3 S d) (JC_V (n := 2) G hRm cl_X10 q2004 q2006 qs92 q152 q2007 ⟨rfl, dd_X10_boundOf⟩ ⟨by decide, by decide⟩ dX10_isLawful_65 hz1 rfl (Nat.le_of_ble_eq_true rfl)) rfl (fun r10 hr10 => ?_)
          refine JR_icmp_lt (pc := 68) (tgt := 75) G dX10_isLawful_68 (by decide) (fun c11 => ?_) (fun c11 => ?_)
          · refine JR_iconst (pc := 75) G ci_0 dX10_isLawful_75 ?_
            exact JR_zret (pc := 76) G hR dX10_isLawful_76 (Or.inl rfl) rfl rfl
          · refine JR_iconst (pc := 71) G ci_1 dX10_isLawful_71 ?_
            refine JR_goto (pc := 72) (tgt := 76) G dX10_isLawful_72 (by decide) ?_
            exact JR_zret (pc := 76) G hR dX10_isLawful_76 (Or.inr rfl) rfl rfl
  · refine JR_iconst (pc := 9) G ci_0 dX10_isLawful_9 ?_
    exact JR_zret (pc := 10) G hR dX10_isLawful_10 (Or.inl rfl) rfl rfl

def Mo_lawfulNow_b30 (this : Nat) (S : Sp) (d : Dt) (k4 : Int32 → Int32 → Option (Int32)) (v2 : Int32) (s0 : Int32) (s1 : Int32) : Option Int32 :=
  (some (s1 ||| s0)).bind fun x6 =>
  k4 x6 (v2 + 1)
def Mo_lawfulNow_h4 (this : Nat) (S : Sp) (d : Dt) : Nat → Int32 → Int32 → Option Int32
  | 0, _, _ => none
  | f + 1, v1, v2 =>
    (isK S 9 (some this)).bind fun z1 =>
    (aix S 50 (S.2.1 z1 1) 4).bind fun q2 =>
    if (d.1 q2.1 q2.2) ≤ v2 then
      some v1
    else
      (Mo_isLawful this v2 S d).bind fun r3 =>
      Mo_lawfulNow_b30 this S d (Mo_lawfulNow_h4 this S d f) v2 (if r3 = 0 then 0 else 1 <<< (v2 &&& 31)) v1
def Mo_lawfulNow (this : Nat) (S : Sp) (d : Dt) : Option Int32 :=
  Mo_lawfulNow_h4 this S d FU 0 0
set_option maxHeartbeats 4000000 in
theorem Mo_lawfulNow_fn (this : Nat) (S : Sp) (d : Dt) : Fn yX10_lawfulNow (ws_ yX10_lawfulNow cX10_lawfulNow 3 (some .int)) 5 111 [va_rf (some this)] S d rvI Λp (Mo_lawfulNow this S d) := by
  refine Fn.ofJ (own := RX10) (lv := [(0, va_rf (some this))]) (by decide +kernel) rfl (by simp [cat_i, cat_l, cat_f, cat_d, rf_cat]) (by simp [lv_args, cat_i, cat_l, cat_f, cat_d, rf_cat]) ?_
  intro X F G hRm hR hI
  have hMo_lawfulNow_b30 : ∀ (k4 : Int32 → Int32 → Option (Int32)) (hk4 : ∀ (v1 : Int32) (v2 : Int32), J X F Λp S d 4 [(0, va_rf (some this)), (1, .int v1), (2, .int v2)] [] (k4 v1 v2)) (v2 : Int32) (s0 : Int32) (s1 : Int32), J X F Λp S d 30 [(0, va_rf (some this)), (2, .int v2)] [.int s0, .int s1] (Mo_lawfulNow_b30 this S d k4 v2 s0 s1) := by
    intro k4 hk4 v2 s0 s1
    unfold Mo_lawfulNow_b30
    refine JR_ior (pc := 30) G dX10_lawfulNow_30 ?_
    refine J_nm (fun x6 hx6 => ?_)
    refine JR_istore_n (pc := 31) (k := 1) (i := 1) (lv' := [(1, .int x6), (0, va_rf (some this)), (2, .int v2)]) G rfl (by decide) rfl dX10_lawfulNow_31 ?_
    refine JR_iinc (pc := 32) (i := 2) (v := v2 + 1) (lv' := [(2, .int (v2 + 1)), (1, .int x6), (0, va_rf (some this))]) G rfl (congrArg (fun z => v2 + z) (by decide)) (by decide) rfl dX10_lawfulNow_32 ?_
    refine JR_goto (pc := 35) (tgt := 4) G dX10_lawfulNow_35 (by decide) ?_
    refine J_sub [2, 1, 0] rfl ?_
    exact hk4 x6 (v2 + 1)
  have hMo_lawfulNow_h4 : ∀ (f : Nat) (v1 : Int32) (v2 : Int32), J X F Λp S d 4 [(0, va_rf (some this)), (1, .int v1), (2, .int v2)] [] (Mo_lawfulNow_h4 this S d f v1 v2) := by
    intro  f
    induction f with
    | zero => intro v1 v2; exact J_no
    | succ f ih =>
      intro v1 v2
      unfold Mo_lawfulNow_h4
      refine JR_iload_n (pc := 4) (k := 2) (i := 2) G rfl rfl dX10_lawfulNow_4 ?_
      refine JR_aload_n (pc := 5) (k := 0) (i := 0) (o := some this) G rfl rfl dX10_lawfulNow_5 ?_
      refine J_bd (fun z1 hz1 => ?_)
      refine JR_gR (pc := 6) (k := 1) G cl_X10 in_X10 (by decide) (by decide) rfl (Or.inl rfl) q1589 hz1 dX10_lawfulNow_6 ?_
      refine JR_iconst (pc := 9) G ci_4 dX10_lawfulNow_9 ?_
      refine J_bd (fun q2 hq2 => ?_)
      refine JR_iaload (pc := 10) G hq2 dX10_lawfulNow_10 ?_
      refine JR_icmp_ge (pc := 11) (tgt := 38) G dX10_lawfulNow_11 (by decide) (fun c5 => ?_) (fun c5 => ?_)
      · refine JR_iload_n (pc := 38) (k := 1) (i := 1) G rfl rfl dX10_lawfulNow_38 ?_
        exact JR_iret (pc := 39) G hR dX10_lawfulNow_39 rfl rfl
      · refine JR_iload_n (pc := 14) (k := 1) (i := 1) G rfl rfl dX10_lawfulNow_14 ?_
        refine JR_aload_n (pc := 15) (k := 0) (i := 0) (o := some this) G rfl rfl dX10_lawfulNow_15 ?_
        refine JR_iload_n (pc := 16) (k := 2) (i := 2) G rfl rfl dX10_lawfulNow_16 ?_
        refine JPV_I (pc := 17) (as := [.int v2]) (st' := [.int v1]) (o := some this) G (Mo_isLawful_fn this v2 S d) (JC_V (n := 1) G hRm cl_X10 q2020 q2022 qs95 q152 q2023 ⟨rfl, dd_X10_isLawful⟩ ⟨by decide, by decide⟩ dX10_lawfulNow_17 hz1 rfl (Nat.le_of_ble_eq_true rfl)) rfl (fun r3 hr3 => ?_)
        refine J_eq (r' := if r3 = 0 then Mo_lawfulNow_b30 this S d (Mo_lawfulNow_h4 this S d f) v2 0 v1 else Mo_lawfulNow_b30 this S d (Mo_lawfulNow_h4 this S d f) v2 (1 <<< (v2 &&& 31)) v1) (by split <;> rfl) ?_
        refine JR_if_eq (pc := 20) (tgt := 29) G dX10_lawfulNow_20 (by decide) (fun c4 => ?_) (fun c4 => ?_)
        · refine JR_iconst (pc := 29) G ci_0 dX10_lawfulNow_29 ?_
          refine J_sub [0, 2] rfl ?_
          exact hMo_lawfulNow_b30 (Mo_lawfulNow_h4 this S d f) ih v2 0 v1
        · refine JR_iconst (pc := 23) G ci_1 dX10_lawfulNow_23 ?_
          refine JR_iload_n (pc := 24) (k := 2) (i := 2) G rfl rfl dX10_lawfulNow_24 ?_
          refine JR_ishl (pc := 25) G dX10_lawfulNow_25 ?_
          refine JR_goto (pc := 26) (tgt := 30) G dX10_lawfulNow_26 (by decide) ?_
          refine J_sub [0, 2] rfl ?_
          exact hMo_lawfulNow_b30 (Mo_lawfulNow_h4 this S d f) ih v2 (1 <<< (v2 &&& 31)) v1
  unfold Mo_lawfulNow
  refine JR_iconst (pc := 0) G ci_0 dX10_lawfulNow_0 ?_
  refine JR_istore_n (pc := 1) (k := 1) (i := 1) (lv' := [(1, .int 0), (0, va_rf (some this))]) G rfl (by decide) rfl dX10_lawfulNow_1 ?_
  refine JR_iconst (pc := 2) G ci_0 dX10_lawfulNow_2 ?_
  refine JR_istore_n (pc := 3) (k := 2) (i := 2) (lv' := [(2, .int 0), (1, .int 0), (0, va_rf (some this))]) G rfl (by decide) rfl dX10_lawfulNow_3 ?_
  refine J_sub [2, 1, 0] rfl ?_
  exact hMo_lawfulNow_h4 FU 0 0

def Mo_lawful (this : Nat) (S : Sp) (d : Dt) : Option (Int32 × Dt) :=
  (isK S 9 (some this)).bind fun z1 =>
  (Mo_isBoard this S d).bind fun r2 =>
  if ¬ r2 = 0 then
    bind2 (Mo_laysCosts this S d) fun _ d3 =>
    (Mo_lawfulNow this S d3).bind fun r4 =>
    some (r4, d3)
  else
    some ((-2), d)
set_option maxHeartbeats 4000000 in
theorem Mo_lawful_fn (this : Nat) (S : Sp) (d : Dt) : Fn yX10_lawful (ws_ yX10_lawful cX10_lawful 1 (some .int)) 6 133 [va_rf (some this)] S d rvI Λw (Mo_lawful this S d) := by
  refine Fn.ofJ (own := RX10) (lv := [(0, va_rf (some this))]) (by decide +kernel) rfl (by simp [cat_i, cat_l, cat_f, cat_d, rf_cat]) (by simp [lv_args, cat_i, cat_l, cat_f, cat_d, rf_cat]) ?_
  intro X F G hRm hR hI
  unfold Mo_lawful
  refine JR_aload_n (pc := 0) (k := 0) (i := 0) (o := some this) G rfl rfl dX10_lawful_0 ?_
  refine J_bd (fun z1 hz1 => ?_)
  refine JPV_I (pc := 1) (as := []) (st' := []) (o := some this) G (Mo_isBoard_fn this S d) (JC_V (n := 0) G hRm cl_X10 q2012 q2014 qs93 q152 q2015 ⟨rfl, dd_X10_isBoard⟩ ⟨by decide, by decide⟩ dX10_lawful_1 hz1 rfl (Nat.le_of_ble_eq_true rfl)) rfl (fun r2 hr2 => ?_)
  refine JR_if_ne (pc := 4) (tgt := 10) G dX10_lawful_4 (by decide) (fun c5 => ?_) (fun c5 => ?_)
  · refine JR_aload_n (pc := 10) (k := 0) (i := 0) (o := some this) G rfl rfl dX10_lawful_10 ?_
    refine JQV_U (pc := 11) (as := []) (st' := []) (o := some this) G (Mo_laysCosts_fn this S d) (JC_V (n := 0) G hRm cl_X10 q1987 q1989 qs89 q152 q1990 ⟨rfl, dd_X10_laysCosts⟩ ⟨by decide, by decide⟩ dX10_lawful_11 hz1 rfl (Nat.le_of_ble_eq_true rfl)) rfl (fun _ _ => rfl) (fun _ d3 hd3 => ?_)
    refine JR_aload_n (pc := 14) (k := 0) (i := 0) (o := some this) G rfl rfl dX10_lawful_14 ?_
    refine JPV_I (pc := 15) (as := []) (st' := []) (o := some this) G (Mo_lawfulNow_fn this S d3) (JC_V (n := 0) G hRm cl_X10 q2016 q2018 qs94 q152 q2019 ⟨rfl, dd_X10_lawfulNow⟩ ⟨by decide, by decide⟩ dX10_lawful_15 hz1 rfl (Nat.le_of_ble_eq_true rfl)) rfl (fun r4 hr4 => ?_)
    exact JR_iret (pc := 18) G hR dX10_lawful_18 rfl rfl
  · refine JR_bipush (pc := 7) (v := (-2)) G (by decide) dX10_lawful_7 ?_
    exact JR_iret (pc := 9) G hR dX10_lawful_9 rfl rfl

def Mo_room_h25 (this : Nat) (p1 : Int32) (S : Sp) : Nat → Int32 → Int32 → Int32 → Dt → Option (Int32 × Dt)
  | 0, _, _, _, _ => none
  | f + 1, v2, v3, v4, d =>
    if 50 < v4 then
      some (v3, d)
    else
      (isK S 9 (some this)).bind fun z6 =>
      bind2 (Mo_laysCosts this S d) fun _ d7 =>
      (aix S 50 (S.2.1 z6 16) p1).bind fun q8 =>
      (some (dI d7 q8.1 q8.2 ((d7.1 q8.1 q8.2) + v4))).bind fun d9 =>
      (aix S 50 (S.2.1 z6 17) p1).bind fun q10 =>
      (some (dI d9 q10.1 q10.2 ((d9.1 q10.1 q10.2) + v4))).bind fun d11 =>
      (Mo_lawfulNow this S d11).bind fun r12 =>
      Mo_room_h25 this p1 S f v2 (if ¬ (v2 &&& (r12 ^^^ ((-1)))) = 0 then v3 else v4) (v4 + 1) d11
def Mo_room (this : Nat) (p1 : Int32) (S : Sp) (d : Dt) : Option (Int32 × Dt) :=
  (isK S 9 (some this)).bind fun z1 =>
  (Mo_isTask this p1 S d).bind fun r2 =>
  if ¬ r2 = 0 then
    bind2 (Mo_laysCosts this S d) fun _ d3 =>
    (Mo_lawfulNow this S d3).bind fun r4 =>
    Mo_room_h25 this p1 S FU r4 0 1 d3
  else
    some ((-2), d)
set_option maxHeartbeats 4000000 in
theorem Mo_room_fn (this : Nat) (p1 : Int32) (S : Sp) (d : Dt) : Fn yX10_room (ws_ yX10_room cX10_room 5 (some .int)) 6 133 [va_rf (some this), .int p1] S d rvI Λw (Mo_room this p1 S d) := by
  refine Fn.ofJ (own := RX10) (lv := [(0, va_rf (some this)), (1, .int p1)]) (by decide +kernel) rfl (by simp [cat_i, cat_l, cat_f, cat_d, rf_cat]) (by simp [lv_args, cat_i, cat_l, cat_f, cat_d, rf_cat]) ?_
  intro X F G hRm hR hI
  have hMo_room_h25 : ∀ (f : Nat) (v2 : Int32) (v3 : Int32) (v4 : Int32) (d : Dt), J X F Λw S d 25 [(0, va_rf (some this)), (1, .int p1), (2, .int v2), (3, .int v3), (4, .int v4)] [] (Mo_room_h25 this p1 S f v2 v3 v4 d) := by
    intro  f
    induction f with
    | zero => intro v2 v3 v4 d; exact J_no
    | succ f ih =>
      intro v2 v3 v4 d
      unfold Mo_room_h25
      refine JR_iload (pc := 25) (i := 4) G rfl dX10_room_25 ?_
      refine JR_bipush (pc := 27) (v := 50) G (by decide) dX10_room_27 ?_
      refine JR_icmp_gt (pc := 29) (tgt := 78) G dX10_room_29 (by decide) (fun c14 => ?_) (fun c14 => ?_)
      · refine JR_iload_n (pc := 78) (k := 3) (i := 3) G rfl rfl dX10_room_78 ?_
        exact JR_iret (pc := 79) G hR dX10_room_79 rfl rfl
      · refine JR_aload_n (pc := 32) (k := 0) (i := 0) (o := some this) G rfl rfl dX10_room_32 ?_
        refine J_bd (fun z6 hz6 => ?_)
        refine JQV_U (pc := 33) (as := []) (st' := []) (o := some this) G (Mo_laysCosts_fn this S d) (JC_V (n := 0) G hRm cl_X10 q1987 q1989 qs89 q152 q1990 ⟨rfl, dd_X10_laysCosts⟩ ⟨by decide, by decide⟩ dX10_room_33 hz6 rfl (Nat.le_of_ble_eq_true rfl)) rfl (fun _ _ => rfl) (fun _ d7 hd7 => ?_)
        refine JR_aload_n (pc := 36) (k := 0) (i := 0) (o := some this) G rfl rfl dX10_room_36 ?_
        refine JR_gR (pc := 37) (k := 16) G cl_X10 in_X10 (by decide) (by decide) rfl (Or.inl rfl) q1604 hz6 dX10_room_37 ?_
        refine JR_iload_n (pc := 40) (k := 1) (i := 1) G rfl rfl dX10_room_40 ?_
        refine JR_dup2 (pc := 41) G rfl (rf_cat _) dX10_room_41 ?_
        refine J_bd (fun q8 hq8 => ?_)
        refine JR_iaload (pc := 42) G hq8 dX10_room_42 ?_
        refine JR_iload (pc := 43) (i := 4) G rfl dX10_room_43 ?_
        refine JR_iadd (pc := 45) G dX10_room_45 ?_
        refine JW_iastore (pc := 46) G hq8 (fun _ => rfl) dX10_room_46 ?_
        refine J_nmD (fun d9 hd9 => ?_)
        refine JR_aload_n (pc := 47) (k := 0) (i := 0) (o := some this) G rfl rfl dX10_room_47 ?_
        refine JR_gR (pc := 48) (k := 17) G cl_X10 in_X10 (by decide) (by decide) rfl (Or.inl rfl) q1605 hz6 dX10_room_48 ?_
        refine JR_iload_n (pc := 51) (k := 1) (i := 1) G rfl rfl dX10_room_51 ?_
        refine JR_dup2 (pc := 52) G rfl (rf_cat _) dX10_room_52 ?_
        refine J_bd (fun q10 hq10 => ?_)
        refine JR_iaload (pc := 53) G hq10 dX10_room_53 ?_
        refine JR_iload (pc := 54) (i := 4) G rfl dX10_room_54 ?_
        refine JR_iadd (pc := 56) G dX10_room_56 ?_
        refine JW_iastore (pc := 57) G hq10 (fun _ => rfl) dX10_room_57 ?_
        refine J_nmD (fun d11 hd11 => ?_)
        refine JR_iload_n (pc := 58) (k := 2) (i := 2) G rfl rfl dX10_room_58 ?_
        refine JR_aload_n (pc := 59) (k := 0) (i := 0) (o := some this) G rfl rfl dX10_room_59 ?_
        refine JPV_I (pc := 60) (as := []) (st' := [.int v2]) (o := some this) G (Mo_lawfulNow_fn this S d11) (JC_V (n := 0) G hRm cl_X10 q2016 q2018 qs94 q152 q2019 ⟨rfl, dd_X10_lawfulNow⟩ ⟨by decide, by decide⟩ dX10_room_60 hz6 rfl (Nat.le_of_ble_eq_true rfl)) rfl (fun r12 hr12 => ?_)
        refine JR_iconst (pc := 63) G ci_m1 dX10_room_63 ?_
        refine JR_ixor (pc := 64) G dX10_room_64 ?_
        refine JR_iand (pc := 65) G dX10_room_65 ?_
        refine J_eq (r' := if ¬ (v2 &&& (r12 ^^^ ((-1)))) = 0 then Mo_room_h25 this p1 S f v2 v3 (v4 + 1) d11 else Mo_room_h25 this p1 S f v2 v4 (v4 + 1) d11) (by split <;> rfl) ?_
        refine JR_if_ne (pc := 66) (tgt := 72) G dX10_room_66 (by decide) (fun c13 => ?_) (fun c13 => ?_)
        · refine JR_iinc (pc := 72) (i := 4) (v := v4 + 1) (lv' := [(4, .int (v4 + 1)), (0, va_rf (some this)), (1, .int p1), (2, .int v2), (3, .int v3)]) G rfl (congrArg (fun z => v4 + z) (by decide)) (by decide) rfl dX10_room_72 ?_
          refine JR_goto (pc := 75) (tgt := 25) G dX10_room_75 (by decide) ?_
          refine J_sub [1, 2, 3, 4, 0] rfl ?_
          exact ih v2 v3 (v4 + 1) d11
        · refine JR_iload (pc := 69) (i := 4) G rfl dX10_room_69 ?_
          refine JR_istore_n (pc := 71) (k := 3) (i := 3) (lv' := [(3, .int v4), (0, va_rf (some this)), (1, .int p1), (2, .int v2), (4, .int v4)]) G rfl (by decide) rfl dX10_room_71 ?_
          refine JR_iinc (pc := 72) (i := 4) (v := v4 + 1) (lv' := [(4, .int (v4 + 1)), (3, .int v4), (0, va_rf (some this)), (1, .int p1), (2, .int v2)]) G rfl (congrArg (fun z => v4 + z) (by decide)) (by decide) rfl dX10_room_72 ?_
          refine JR_goto (pc := 75) (tgt := 25) G dX10_room_75 (by decide) ?_
          refine J_sub [2, 3, 4, 1, 0] rfl ?_
          exact ih v2 v4 (v4 + 1) d11
  unfold Mo_room
  refine JR_aload_n (pc := 0) (k := 0) (i := 0) (o := some this) G rfl rfl dX10_room_0 ?_
  refine JR_iload_n (pc := 1) (k := 1) (i := 1) G rfl rfl dX10_room_1 ?_
  refine J_bd (fun z1 hz1 => ?_)
  refine JPV_I (pc := 2) (as := [.int p1]) (st' := []) (o := some this) G (Mo_isTask_fn this p1 S d) (JC_V (n := 1) G hRm cl_X10 q1916 q1918 qs78 q152 q1919 ⟨rfl, dd_X10_isTask⟩ ⟨by decide, by decide⟩ dX10_room_2 hz1 rfl (Nat.le_of_ble_eq_true rfl)) rfl (fun r2 hr2 => ?_)
  refine JR_if_ne (pc := 5) (tgt := 11) G dX10_room_5 (by decide) (fun c5 => ?_) (fun c5 => ?_)
  · refine JR_aload_n (pc := 11) (k := 0) (i := 0) (o := some this) G rfl rfl dX10_room_11 ?_
    refine JQV_U (pc := 12) (as := []) (st' := []) (o := some this) G (Mo_laysCosts_fn this S d) (JC_V (n := 0) G hRm cl_X10 q1987 q1989 qs89 q152 q1990 ⟨rfl, dd_X10_laysCosts⟩ ⟨by decide, by decide⟩ dX10_room_12 hz1 rfl (Nat.le_of_ble_eq_true rfl)) rfl (fun _ _ => rfl) (fun _ d3 hd3 => ?_)
    refine JR_aload_n (pc := 15) (k := 0) (i := 0) (o := some this) G rfl rfl dX10_room_15 ?_
    refine JPV_I (pc := 16) (as := []) (st' := []) (o := some this) G (Mo_lawfulNow_fn this S d3) (JC_V (n := 0) G hRm cl_X10 q2016 q2018 qs94 q152 q2019 ⟨rfl, dd_X10_lawfulNow⟩ ⟨by decide, by decide⟩ dX10_room_16 hz1 rfl (Nat.le_of_ble_eq_true rfl)) rfl (fun r4 hr4 => ?_)
    refine JR_istore_n (pc := 19) (k := 2) (i := 2) (lv' := [(2, .int r4), (0, va_rf (some this)), (1, .int p1)]) G rfl (by decide) rfl dX10_room_19 ?_
    refine JR_iconst (pc := 20) G ci_0 dX10_room_20 ?_
    refine JR_istore_n (pc := 21) (k := 3) (i := 3) (lv' := [(3, .int 0), (2, .int r4), (0, va_rf (some this)), (1, .int p1)]) G rfl (by decide) rfl dX10_room_21 ?_
    refine JR_iconst (pc := 22) G ci_1 dX10_room_22 ?_
    refine JR_istore (pc := 23) (i := 4) (lv' := [(4, .int 1), (3, .int 0), (2, .int r4), (0, va_rf (some this)), (1, .int p1)]) G (by decide) rfl dX10_room_23 ?_
    refine J_sub [3, 4, 2, 1, 0] rfl ?_
    exact hMo_room_h25 FU r4 0 1 d3
  · refine JR_bipush (pc := 8) (v := (-2)) G (by decide) dX10_room_8 ?_
    exact JR_iret (pc := 10) G hR dX10_room_10 rfl rfl

def Mo_goesOrders_b60 (this : Nat) (p1 : Int32) (p2 : Int32) (rec : Nat → Int32 → Int32 → Sp → Dt → Option (Unit × Dt)) (S : Sp) (d : Dt) : Option (Unit × Dt) :=
  (isK S 9 (some this)).bind fun z16 =>
  (some (dI d z16 21 ((d.1 z16 21) + 1))).bind fun d17 =>
  some ((), d17)
def Mo_goesOrders_h37 (this : Nat) (p1 : Int32) (p2 : Int32) (rec : Nat → Int32 → Int32 → Sp → Dt → Option (Unit × Dt)) (S : Sp) : Nat → Int32 → Dt → Option (Unit × Dt)
  | 0, _, _ => none
  | f + 1, v3, d =>
    if p1 ≤ v3 then
      Mo_goesOrders_b60 this p1 p2 rec S d
    else
      (isK S 9 (some this)).bind fun z18 =>
      (aix S 50 (S.2.1 z18 19) v3).bind fun q19 =>
      (aix S 50 (S.2.1 z18 20) v3).bind fun q20 =>
      (some (dI d q20.1 q20.2 (d.1 q19.1 q19.2))).bind fun d21 =>
      Mo_goesOrders_h37 this p1 p2 rec S f (v3 + 1) d21
def Mo_goesOrders_h73 (this : Nat) (p1 : Int32) (p2 : Int32) (rec : Nat → Int32 → Int32 → Sp → Dt → Option (Unit × Dt)) (S : Sp) : Nat → Int32 → Dt → Option (Unit × Dt)
  | 0, _, _ => none
  | f + 1, v3, d =>
    (isK S 9 (some this)).bind fun z7 =>
    (aix S 50 (S.2.1 z7 1) 4).bind fun q8 =>
    if (d.1 q8.1 q8.2) ≤ v3 then
      some ((), d)
    else
      if ¬ ((p2 >>> (v3 &&& 31)) &&& 1) = 1 then
        (aix S 50 (S.2.1 z7 19) p1).bind fun q9 =>
        (some (dI d q9.1 q9.2 v3)).bind fun d10 =>
        (aix S 50 (S.2.1 z7 18) v3).bind fun q11 =>
        (some (dI d10 q11.1 q11.2 p2)).bind fun d12 =>
        bind2 (rec this (p1 + 1) (p2 ||| (1 <<< (v3 &&& 31))) S d12) fun _ d13 =>
        Mo_goesOrders_h73 this p1 p2 rec S f (v3 + 1) d13
      else
        Mo_goesOrders_h73 this p1 p2 rec S f (v3 + 1) d
def Mo_goesOrders : Nat → Nat → Int32 → Int32 → Sp → Dt → Option (Unit × Dt)
  | 0, _, _, _, _, _ => none
  | k + 1, this, p1, p2, S, d =>
    (isK S 9 (some this)).bind fun z1 =>
    (aix S 50 (S.2.1 z1 1) 4).bind fun q2 =>
    if ¬ p1 = (d.1 q2.1 q2.2) then
      Mo_goesOrders_h73 this p1 p2 (Mo_goesOrders k) S FU 0 d
    else
      (Mo_lawfulNow this S d).bind fun r3 =>
      if r3 = ((1 <<< ((d.1 q2.1 q2.2) &&& 31)) - 1) then
        if ¬ (d.1 z1 21) = 0 then
          Mo_goesOrders_b60 this p1 p2 (Mo_goesOrders k) S d
        else
          Mo_goesOrders_h37 this p1 p2 (Mo_goesOrders k) S FU 0 d
      else
        some ((), d)
set_option maxHeartbeats 4000000 in
theorem Mo_goesOrders_fn : ∀ (k : Nat) (this : Nat) (p1 : Int32) (p2 : Int32) (S : Sp) (d : Dt), Fn yX10_goesOrders (ws_ yX10_goesOrders cX10_goesOrders 4 none) (k + 6) (23 * k + 133) [va_rf (some this), .int p1, .int p2] S d rvU Λw (Mo_goesOrders k this p1 p2 S d) := by
  intro k
  induction k with
  | zero => intros; exact Fn_none
  | succ k ihk =>
    intro this p1 p2 S d
    refine Fn.ofJ (own := RX10) (lv := [(0, va_rf (some this)), (1, .int p1), (2, .int p2)]) (by decide +kernel) rfl (by simp [cat_i, cat_l, cat_f, cat_d, rf_cat]) (by simp [lv_args, cat_i, cat_l, cat_f, cat_d, rf_cat]) ?_
    intro X F G hRm hR hI
    have hMo_goesOrders_b60 : ∀ (d : Dt), J X F Λw S d 60 [(0, va_rf (some this)), (1, .int p1), (2, .int p2)] [] (Mo_goesOrders_b60 this p1 p2 (Mo_goesOrders k) S d) := by
      intro d
      unfold Mo_goesOrders_b60
      refine JR_aload_n (pc := 60) (k := 0) (i := 0) (o := some this) G rfl rfl dX10_goesOrders_60 ?_
      refine JR_dup (pc := 61) G (rf_cat _) dX10_goesOrders_61 ?_
      refine J_bd (fun z16 hz16 => ?_)
      refine JR_gI (pc := 62) (k := 21) G cl_X10 in_X10 (by decide) (by decide) rfl (Or.inl rfl) q1609 hz16 dX10_goesOrders_62 ?_
      refine JR_iconst (pc := 65) G ci_1 dX10_goesOrders_65 ?_
      refine JR_iadd (pc := 66) G dX10_goesOrders_66 ?_
      refine JW_pI (pc := 67) (k := 21) G cl_X10 in_X10 tyX10_ok nmX10 (by decide) (by decide) rfl (Or.inl rfl) rfl q1609 rfl rfl hz16 (fun _ => rfl) dX10_goesOrders_67 ?_
      refine J_nmD (fun d17 hd17 => ?_)
      exact JR_vret (pc := 70) G hR dX10_goesOrders_70 rfl rfl
    have hMo_goesOrders_h37 : ∀ (f : Nat) (v3 : Int32) (d : Dt), J X F Λw S d 37 [(0, va_rf (some this)), (1, .int p1), (2, .int p2), (3, .int v3)] [] (Mo_goesOrders_h37 this p1 p2 (Mo_goesOrders k) S f v3 d) := by
      intro  f
      induction f with
      | zero => intro v3 d; exact J_no
      | succ f ih =>
        intro v3 d
        unfold Mo_goesOrders_h37
        refine JR_iload_n (pc := 37) (k := 3) (i := 3) G rfl rfl dX10_goesOrders_37 ?_
        refine JR_iload_n (pc := 38) (k := 1) (i := 1) G rfl rfl dX10_goesOrders_38 ?_
        refine JR_icmp_ge (pc := 39) (tgt := 60) G dX10_goesOrders_39 (by decide) (fun c22 => ?_) (fun c22 => ?_)
        · refine J_sub [0, 1, 2] rfl ?_
          exact hMo_goesOrders_b60 d
        · refine JR_aload_n (pc := 42) (k := 0) (i := 0) (o := some this) G rfl rfl dX10_goesOrders_42 ?_
          refine J_bd (fun z18 hz18 => ?_)
          refine JR_gR (pc := 43) (k := 20) G cl_X10 in_X10 (by decide) (by decide) rfl (Or.inl rfl) q1608 hz18 dX10_goesOrders_43 ?_
          refine JR_iload_n (pc := 46) (k := 3) (i := 3) G rfl rfl dX10_goesOrders_46 ?_
          refine JR_aload_n (pc := 47) (k := 0) (i := 0) (o := some this) G rfl rfl dX10_goesOrders_47 ?_
          refine JR_gR (pc := 48) (k := 19) G cl_X10 in_X10 (by decide) (by decide) rfl (Or.inl rfl) q1607 hz18 dX10_goesOrders_48 ?_
          refine JR_iload_n (pc := 51) (k := 3) (i := 3) G rfl rfl dX10_goesOrders_51 ?_
          refine J_bd (fun q19 hq19 => ?_)
          refine JR_iaload (pc := 52) G hq19 dX10_goesOrders_52 ?_
          refine J_bd (fun q20 hq20 => ?_)
          refine JW_iastore (pc := 53) G hq20 (fun _ => rfl) dX10_goesOrders_53 ?_
          refine J_nmD (fun d21 hd21 => ?_)
          refine JR_iinc (pc := 54) (i := 3) (v := v3 + 1) (lv' := [(3, .int (v3 + 1)), (0, va_rf (some this)), (1, .int p1), (2, .int p2)]) G rfl (congrArg (fun z => v3 + z) (by decide)) (by decide) rfl dX10_goesOrders_54 ?_
          refine JR_goto (pc := 57) (tgt := 37) G dX10_goesOrders_57 (by decide) ?_
          refine J_sub [1, 2, 3, 0] rfl ?_
          exact ih (v3 + 1) d21
    have hMo_goesOrders_h73 : ∀ (f : Nat) (v3 : Int32) (d : Dt), J X F Λw S d 73 [(0, va_rf (some this)), (1, .int p1), (2, .int p2), (3, .int v3)] [] (Mo_goesOrders_h73 this p1 p2 (Mo_goesOrders k) S f v3 d) := by
      intro  f
      induction f with
      | zero => intro v3 d; exact J_no
      | succ f ih =>
        intro v3 d
        unfold Mo_goesOrders_h73
        refine JR_iload_n (pc := 73) (k := 3) (i := 3) G rfl rfl dX10_goesOrders_73 ?_
        refine JR_aload_n (pc := 74) (k := 0) (i := 0) (o := some this) G rfl rfl dX10_goesOrders_74 ?_
        refine J_bd (fun z7 hz7 => ?_)
        refine JR_gR (pc := 75) (k := 1) G cl_X10 in_X10 (by decide) (by decide) rfl (Or.inl rfl) q1589 hz7 dX10_goesOrders_75 ?_
        refine JR_iconst (pc := 78) G ci_4 dX10_goesOrders_78 ?_
        refine J_bd (fun q8 hq8 => ?_)
        refine JR_iaload (pc := 79) G hq8 dX10_goesOrders_79 ?_
        refine JR_icmp_ge (pc := 80) (tgt := 127) G dX10_goesOrders_80 (by decide) (fun c15 => ?_) (fun c15 => ?_)
        · exact JR_vret (pc := 127) G hR dX10_goesOrders_127 rfl rfl
        · refine JR_iload_n (pc := 83) (k := 2) (i := 2) G rfl rfl dX10_goesOrders_83 ?_
          refine JR_iload_n (pc := 84) (k := 3) (i := 3) G rfl rfl dX10_goesOrders_84 ?_
          refine JR_ishr (pc := 85) G dX10_goesOrders_85 ?_
          refine JR_iconst (pc := 86) G ci_1 dX10_goesOrders_86 ?_
          refine JR_iand (pc := 87) G dX10_goesOrders_87 ?_
          refine JR_iconst (pc := 88) G ci_1 dX10_goesOrders_88 ?_
          refine JR_icmp_ne (pc := 89) (tgt := 95) G dX10_goesOrders_89 (by decide) (fun c14 => ?_) (fun c14 => ?_)
          · refine JR_aload_n (pc := 95) (k := 0) (i := 0) (o := some this) G rfl rfl dX10_goesOrders_95 ?_
            refine JR_gR (pc := 96) (k := 19) G cl_X10 in_X10 (by decide) (by decide) rfl (Or.inl rfl) q1607 hz7 dX10_goesOrders_96 ?_
            refine JR_iload_n (pc := 99) (k := 1) (i := 1) G rfl rfl dX10_goesOrders_99 ?_
            refine JR_iload_n (pc := 100) (k := 3) (i := 3) G rfl rfl dX10_goesOrders_100 ?_
            refine J_bd (fun q9 hq9 => ?_)
            refine JW_iastore (pc := 101) G hq9 (fun _ => rfl) dX10_goesOrders_101 ?_
            refine J_nmD (fun d10 hd10 => ?_)
            refine JR_aload_n (pc := 102) (k := 0) (i := 0) (o := some this) G rfl rfl dX10_goesOrders_102 ?_
            refine JR_gR (pc := 103) (k := 18) G cl_X10 in_X10 (by decide) (by decide) rfl (Or.inl rfl) q1606 hz7 dX10_goesOrders_103 ?_
            refine JR_iload_n (pc := 106) (k := 3) (i := 3) G rfl rfl dX10_goesOrders_106 ?_
            refine JR_iload_n (pc := 107) (k := 2) (i := 2) G rfl rfl dX10_goesOrders_107 ?_
            refine J_bd (fun q11 hq11 => ?_)
            refine JW_iastore (pc := 108) G hq11 (fun _ => rfl) dX10_goesOrders_108 ?_
            refine J_nmD (fun d12 hd12 => ?_)
            refine JR_aload_n (pc := 109) (k := 0) (i := 0) (o := some this) G rfl rfl dX10_goesOrders_109 ?_
            refine JR_iload_n (pc := 110) (k := 1) (i := 1) G rfl rfl dX10_goesOrders_110 ?_
            refine JR_iconst (pc := 111) G ci_1 dX10_goesOrders_111 ?_
            refine JR_iadd (pc := 112) G dX10_goesOrders_112 ?_
            refine JR_iload_n (pc := 113) (k := 2) (i := 2) G rfl rfl dX10_goesOrders_113 ?_
            refine JR_iconst (pc := 114) G ci_1 dX10_goesOrders_114 ?_
            refine JR_iload_n (pc := 115) (k := 3) (i := 3) G rfl rfl dX10_goesOrders_115 ?_
            refine JR_ishl (pc := 116) G dX10_goesOrders_116 ?_
            refine JR_ior (pc := 117) G dX10_goesOrders_117 ?_
            refine JQV_U (pc := 118) (as := [.int (p1 + 1), .int (p2 ||| (1 <<< (v3 &&& 31)))]) (st' := []) (o := some this) G (ihk this (p1 + 1) (p2 ||| (1 <<< (v3 &&& 31))) S d12) (JC_V (n := 2) G hRm cl_X10 q2036 q2038 qs97 q152 q2039 ⟨rfl, dd_X10_goesOrders⟩ ⟨by omega, by omega⟩ dX10_goesOrders_118 hz7 rfl (Nat.le_of_ble_eq_true rfl)) rfl (fun _ _ => rfl) (fun _ d13 hd13 => ?_)
            refine JR_iinc (pc := 121) (i := 3) (v := v3 + 1) (lv' := [(3, .int (v3 + 1)), (0, va_rf (some this)), (1, .int p1), (2, .int p2)]) G rfl (congrArg (fun z => v3 + z) (by decide)) (by decide) rfl dX10_goesOrders_121 ?_
            refine JR_goto (pc := 124) (tgt := 73) G dX10_goesOrders_124 (by decide) ?_
            refine J_sub [1, 2, 3, 0] rfl ?_
            exact ih (v3 + 1) d13
          · refine JR_goto (pc := 92) (tgt := 121) G dX10_goesOrders_92 (by decide) ?_
            refine JR_iinc (pc := 121) (i := 3) (v := v3 + 1) (lv' := [(3, .int (v3 + 1)), (0, va_rf (some this)), (1, .int p1), (2, .int p2)]) G rfl (congrArg (fun z => v3 + z) (by decide)) (by decide) rfl dX10_goesOrders_121 ?_
            refine JR_goto (pc := 124) (tgt := 73) G dX10_goesOrders_124 (by decide) ?_
            refine J_sub [1, 2, 3, 0] rfl ?_
            exact ih (v3 + 1) d
    unfold Mo_goesOrders
    refine JR_iload_n (pc := 0) (k := 1) (i := 1) G rfl rfl dX10_goesOrders_0 ?_
    refine JR_aload_n (pc := 1) (k := 0) (i := 0) (o := some this) G rfl rfl dX10_goesOrders_1 ?_
    refine J_bd (fun z1 hz1 => ?_)
    refine JR_gR (pc := 2) (k := 1) G cl_X10 in_X10 (by decide) (by decide) rfl (Or.inl rfl) q1589 hz1 dX10_goesOrders_2 ?_
    refine JR_iconst (pc := 5) G ci_4 dX10_goesOrders_5 ?_
    refine J_bd (fun q2 hq2 => ?_)
    refine JR_iaload (pc := 6) G hq2 dX10_goesOrders_6 ?_
    refine JR_icmp_ne (pc := 7) (tgt := 71) G dX10_goesOrders_7 (by decide) (fun c6 => ?_) (fun c6 => ?_)
    · refine JR_iconst (pc := 71) G ci_0 dX10_goesOrders_71 ?_
      refine JR_istore_n (pc := 72) (k := 3) (i := 3) (lv' := [(3, .int 0), (0, va_rf (some this)), (1, .int p1), (2, .int p2)]) G rfl (by decide) rfl dX10_goesOrders_72 ?_
      refine J_sub [1, 2, 3, 0] rfl ?_
      exact hMo_goesOrders_h73 FU 0 d
    · refine JR_aload_n (pc := 10) (k := 0) (i := 0) (o := some this) G rfl rfl dX10_goesOrders_10 ?_
      refine JPV_I (pc := 11) (as := []) (st' := []) (o := some this) G (Mo_lawfulNow_fn this S d) (JC_V (n := 0) G hRm cl_X10 q2016 q2018 qs94 q152 q2019 ⟨rfl, dd_X10_lawfulNow⟩ ⟨by omega, by omega⟩ dX10_goesOrders_11 hz1 rfl (Nat.le_of_ble_eq_true rfl)) rfl (fun r3 hr3 => ?_)
      refine JR_iconst (pc := 14) G ci_1 dX10_goesOrders_14 ?_
      refine JR_aload_n (pc := 15) (k := 0) (i := 0) (o := some this) G rfl rfl dX10_goesOrders_15 ?_
      refine JR_gR (pc := 16) (k := 1) G cl_X10 in_X10 (by decide) (by decide) rfl (Or.inl rfl) q1589 hz1 dX10_goesOrders_16 ?_
      refine JR_iconst (pc := 19) G ci_4 dX10_goesOrders_19 ?_
      refine JR_iaload (pc := 20) G hq2 dX10_goesOrders_20 ?_
      refine JR_ishl (pc := 21) G dX10_goesOrders_21 ?_
      refine JR_iconst (pc := 22) G ci_1 dX10_goesOrders_22 ?_
      refine JR_isub (pc := 23) G dX10_goesOrders_23 ?_
      refine JR_icmp_eq (pc := 24) (tgt := 28) G dX10_goesOrders_24 (by decide) (fun c5 => ?_) (fun c5 => ?_)
      · refine JR_aload_n (pc := 28) (k := 0) (i := 0) (o := some this) G rfl rfl dX10_goesOrders_28 ?_
        refine JR_gI (pc := 29) (k := 21) G cl_X10 in_X10 (by decide) (by decide) rfl (Or.inl rfl) q1609 hz1 dX10_goesOrders_29 ?_
        refine JR_if_ne (pc := 32) (tgt := 60) G dX10_goesOrders_32 (by decide) (fun c4 => ?_) (fun c4 => ?_)
        · exact hMo_goesOrders_b60 d
        · refine JR_iconst (pc := 35) G ci_0 dX10_goesOrders_35 ?_
          refine JR_istore_n (pc := 36) (k := 3) (i := 3) (lv' := [(3, .int 0), (0, va_rf (some this)), (1, .int p1), (2, .int p2)]) G rfl (by decide) rfl dX10_goesOrders_36 ?_
          refine J_sub [1, 2, 3, 0] rfl ?_
          exact hMo_goesOrders_h37 FU 0 d
      · exact JR_vret (pc := 27) G hR dX10_goesOrders_27 rfl rfl

def Mo_laysOrders (this : Nat) (S : Sp) (d : Dt) : Option (Unit × Dt) :=
  (isK S 9 (some this)).bind fun z1 =>
  bind2 (Mo_laysCosts this S d) fun _ d2 =>
  (some (dI d2 z1 21 0)).bind fun d3 =>
  bind2 (Mo_goesOrders 8 this 0 0 S d3) fun _ d4 =>
  some ((), d4)
set_option maxHeartbeats 4000000 in
theorem Mo_laysOrders_fn (this : Nat) (S : Sp) (d : Dt) : Fn yX10_laysOrders (ws_ yX10_laysOrders cX10_laysOrders 1 none) 15 340 [va_rf (some this)] S d rvU Λw (Mo_laysOrders this S d) := by
  refine Fn.ofJ (own := RX10) (lv := [(0, va_rf (some this))]) (by decide +kernel) rfl (by simp [cat_i, cat_l, cat_f, cat_d, rf_cat]) (by simp [lv_args, cat_i, cat_l, cat_f, cat_d, rf_cat]) ?_
  intro X F G hRm hR hI
  unfold Mo_laysOrders
  refine JR_aload_n (pc := 0) (k := 0) (i := 0) (o := some this) G rfl rfl dX10_laysOrders_0 ?_
  refine J_bd (fun z1 hz1 => ?_)
  refine JQV_U (pc := 1) (as := []) (st' := []) (o := some this) G (Mo_laysCosts_fn this S d) (JC_V (n := 0) G hRm cl_X10 q1987 q1989 qs89 q152 q1990 ⟨rfl, dd_X10_laysCosts⟩ ⟨by decide, by decide⟩ dX10_laysOrders_1 hz1 rfl (Nat.le_of_ble_eq_true rfl)) rfl (fun _ _ => rfl) (fun _ d2 hd2 => ?_)
  refine JR_aload_n (pc := 4) (k := 0) (i := 0) (o := some this) G rfl rfl dX10_laysOrders_4 ?_
  refine JR_iconst (pc := 5) G ci_0 dX10_laysOrders_5 ?_
  refine JW_pI (pc := 6) (k := 21) G cl_X10 in_X10 tyX10_ok nmX10 (by decide) (by decide) rfl (Or.inl rfl) rfl q1609 rfl rfl hz1 (fun _ => rfl) dX10_laysOrders_6 ?_
  refine J_nmD (fun d3 hd3 => ?_)
  refine JR_aload_n (pc := 9) (k := 0) (i := 0) (o := some this) G rfl rfl dX10_laysOrders_9 ?_
  refine JR_iconst (pc := 10) G ci_0 dX10_laysOrders_10 ?_
  refine JR_iconst (pc := 11) G ci_0 dX10_laysOrders_11 ?_
  refine JQV_U (pc := 12) (as := [.int 0, .int 0]) (st' := []) (o := some this) G (Mo_goesOrders_fn 8 this 0 0 S d3) (JC_V (n := 2) G hRm cl_X10 q2036 q2038 qs97 q152 q2039 ⟨rfl, dd_X10_goesOrders⟩ ⟨by decide, by decide⟩ dX10_laysOrders_12 hz1 rfl (Nat.le_of_ble_eq_true rfl)) rfl (fun _ _ => rfl) (fun _ d4 hd4 => ?_)
  exact JR_vret (pc := 15) G hR dX10_laysOrders_15 rfl rfl

def Mo_orders (this : Nat) (S : Sp) (d : Dt) : Option (Int32 × Dt) :=
  (isK S 9 (some this)).bind fun z1 =>
  (Mo_isBoard this S d).bind fun r2 =>
  if ¬ r2 = 0 then
    bind2 (Mo_laysOrders this S d) fun _ d3 =>
    some (d3.1 z1 21, d3)
  else
    some ((-2), d)
set_option maxHeartbeats 4000000 in
theorem Mo_orders_fn (this : Nat) (S : Sp) (d : Dt) : Fn yX10_orders (ws_ yX10_orders cX10_orders 1 (some .int)) 16 360 [va_rf (some this)] S d rvI Λw (Mo_orders this S d) := by
  refine Fn.ofJ (own := RX10) (lv := [(0, va_rf (some this))]) (by decide +kernel) rfl (by simp [cat_i, cat_l, cat_f, cat_d, rf_cat]) (by simp [lv_args, cat_i, cat_l, cat_f, cat_d, rf_cat]) ?_
  intro X F G hRm hR hI
  unfold Mo_orders
  refine JR_aload_n (pc := 0) (k := 0) (i := 0) (o := some this) G rfl rfl dX10_orders_0 ?_
  refine J_bd (fun z1 hz1 => ?_)
  refine JPV_I (pc := 1) (as := []) (st' := []) (o := some this) G (Mo_isBoard_fn this S d) (JC_V (n := 0) G hRm cl_X10 q2012 q2014 qs93 q152 q2015 ⟨rfl, dd_X10_isBoard⟩ ⟨by decide, by decide⟩ dX10_orders_1 hz1 rfl (Nat.le_of_ble_eq_true rfl)) rfl (fun r2 hr2 => ?_)
  refine JR_if_ne (pc := 4) (tgt := 10) G dX10_orders_4 (by decide) (fun c4 => ?_) (fun c4 => ?_)
  · refine JR_aload_n (pc := 10) (k := 0) (i := 0) (o := some this) G rfl rfl dX10_orders_10 ?_
    refine JQV_U (pc := 11) (as := []) (st' := []) (o := some this) G (Mo_laysOrders_fn this S d) (JC_V (n := 0) G hRm cl_X10 q2032 q2034 qs96 q152 q2035 ⟨rfl, dd_X10_laysOrders⟩ ⟨by decide, by decide⟩ dX10_orders_11 hz1 rfl (Nat.le_of_ble_eq_true rfl)) rfl (fun _ _ => rfl) (fun _ d3 hd3 => ?_)
    refine JR_aload_n (pc := 14) (k := 0) (i := 0) (o := some this) G rfl rfl dX10_orders_14 ?_
    refine JR_gI (pc := 15) (k := 21) G cl_X10 in_X10 (by decide) (by decide) rfl (Or.inl rfl) q1609 hz1 dX10_orders_15 ?_
    exact JR_iret (pc := 18) G hR dX10_orders_18 rfl rfl
  · refine JR_bipush (pc := 7) (v := (-2)) G (by decide) dX10_orders_7 ?_
    exact JR_iret (pc := 9) G hR dX10_orders_9 rfl rfl

def Mo_order (this : Nat) (p1 : Int32) (S : Sp) (d : Dt) : Option (Int32 × Dt) :=
  (isK S 9 (some this)).bind fun z1 =>
  (Mo_isBoard this S d).bind fun r2 =>
  if ¬ r2 = 0 then
    bind2 (Mo_laysOrders this S d) fun _ d3 =>
    if (d3.1 z1 21) ≤ 0 then
      some ((-1), d3)
    else
      (aix S 50 (S.2.1 z1 1) 4).bind fun q4 =>
      (Mo_in (Int32.toInt64 p1) 0 (Int32.toInt64 ((d3.1 q4.1 q4.2) - 1)) S d3).bind fun r5 =>
      if r5 = 0 then
        some ((-1), d3)
      else
        (aix S 50 (S.2.1 z1 20) p1).bind fun q6 =>
        some (d3.1 q6.1 q6.2, d3)
  else
    some ((-2), d)
set_option maxHeartbeats 4000000 in
theorem Mo_order_fn (this : Nat) (p1 : Int32) (S : Sp) (d : Dt) : Fn yX10_order (ws_ yX10_order cX10_order 2 (some .int)) 16 360 [va_rf (some this), .int p1] S d rvI Λw (Mo_order this p1 S d) := by
  refine Fn.ofJ (own := RX10) (lv := [(0, va_rf (some this)), (1, .int p1)]) (by decide +kernel) rfl (by simp [cat_i, cat_l, cat_f, cat_d, rf_cat]) (by simp [lv_args, cat_i, cat_l, cat_f, cat_d, rf_cat]) ?_
  intro X F G hRm hR hI
  unfold Mo_order
  refine JR_aload_n (pc := 0) (k := 0) (i := 0) (o := some this) G rfl rfl dX10_order_0 ?_
  refine J_bd (fun z1 hz1 => ?_)
  refine JPV_I (pc := 1) (as := []) (st' := []) (o := some this) G (Mo_isBoard_fn this S d) (JC_V (n := 0) G hRm cl_X10 q2012 q2014 qs93 q152 q2015 ⟨rfl, dd_X10_isBoard⟩ ⟨by decide, by decide⟩ dX10_order_1 hz1 rfl (Nat.le_of_ble_eq_true rfl)) rfl (fun r2 hr2 => ?_)
  refine JR_if_ne (pc := 4) (tgt := 10) G dX10_order_4 (by decide) (fun c9 => ?_) (fun c9 => ?_)
  · refine JR_aload_n (pc := 10) (k := 0) (i := 0) (o := some this) G rfl rfl dX10_order_10 ?_
    refine JQV_U (pc := 11) (as := []) (st' := []) (o := some this) G (Mo_laysOrders_fn this S d) (JC_V (n := 0) G hRm cl_X10 q2032 q2034 qs96 q152 q2035 ⟨rfl, dd_X10_laysOrders⟩ ⟨by decide, by decide⟩ dX10_order_11 hz1 rfl (Nat.le_of_ble_eq_true rfl)) rfl (fun _ _ => rfl) (fun _ d3 hd3 => ?_)
    refine JR_aload_n (pc := 14) (k := 0) (i := 0) (o := some this) G rfl rfl dX10_order_14 ?_
    refine JR_gI (pc := 15) (k := 21) G cl_X10 in_X10 (by decide) (by decide) rfl (Or.inl rfl) q1609 hz1 dX10_order_15 ?_
    refine JR_if_le (pc := 18) (tgt := 48) G dX10_order_18 (by decide) (fun c8 => ?_) (fun c8 => ?_)
    · refine JR_iconst (pc := 48) G ci_m1 dX10_order_48 ?_
      exact JR_iret (pc := 49) G hR dX10_order_49 rfl rfl
    · refine JR_iload_n (pc := 21) (k := 1) (i := 1) G rfl rfl dX10_order_21 ?_
      refine JR_i2l (pc := 22) G dX10_order_22 ?_
      refine JR_lconst (pc := 23) G cl_0 dX10_order_23 ?_
      refine JR_aload_n (pc := 24) (k := 0) (i := 0) (o := some this) G rfl rfl dX10_order_24 ?_
      refine JR_gR (pc := 25) (k := 1) G cl_X10 in_X10 (by decide) (by decide) rfl (Or.inl rfl) q1589 hz1 dX10_order_25 ?_
      refine JR_iconst (pc := 28) G ci_4 dX10_order_28 ?_
      refine J_bd (fun q4 hq4 => ?_)
      refine JR_iaload (pc := 29) G hq4 dX10_order_29 ?_
      refine JR_iconst (pc := 30) G ci_1 dX10_order_30 ?_
      refine JR_isub (pc := 31) G dX10_order_31 ?_
      refine JR_i2l (pc := 32) G dX10_order_32 ?_
      refine JPS_I (pc := 33) (as := [.long (Int32.toInt64 p1), .long 0, .long (Int32.toInt64 ((d3.1 q4.1 q4.2) - 1))]) (st' := []) G (Mo_in_fn (Int32.toInt64 p1) 0 (Int32.toInt64 ((d3.1 q4.1 q4.2) - 1)) S d3) (JC_S (n := 3) G hRm q1782 q1783 q152 q1784 dd_X10_in ⟨by decide, by decide⟩ dX10_order_33 rfl (Nat.le_of_ble_eq_true rfl)) rfl (fun r5 hr5 => ?_)
      refine JR_if_eq (pc := 36) (tgt := 48) G dX10_order_36 (by decide) (fun c7 => ?_) (fun c7 => ?_)
      · refine JR_iconst (pc := 48) G ci_m1 dX10_order_48 ?_
        exact JR_iret (pc := 49) G hR dX10_order_49 rfl rfl
      · refine JR_aload_n (pc := 39) (k := 0) (i := 0) (o := some this) G rfl rfl dX10_order_39 ?_
        refine JR_gR (pc := 40) (k := 20) G cl_X10 in_X10 (by decide) (by decide) rfl (Or.inl rfl) q1608 hz1 dX10_order_40 ?_
        refine JR_iload_n (pc := 43) (k := 1) (i := 1) G rfl rfl dX10_order_43 ?_
        refine J_bd (fun q6 hq6 => ?_)
        refine JR_iaload (pc := 44) G hq6 dX10_order_44 ?_
        refine JR_goto (pc := 45) (tgt := 49) G dX10_order_45 (by decide) ?_
        exact JR_iret (pc := 49) G hR dX10_order_49 rfl rfl
  · refine JR_bipush (pc := 7) (v := (-2)) G (by decide) dX10_order_7 ?_
    exact JR_iret (pc := 9) G hR dX10_order_9 rfl rfl

def Mo_load_h18 (this : Nat) (S : Sp) : Nat → UInt32 → Int32 → Dt → Option (Int32 × Dt)
  | 0, _, _, _ => none
  | f + 1, v1, v2, d =>
    (isK S 9 (some this)).bind fun z5 =>
    (aix S 50 (S.2.1 z5 1) 4).bind fun q6 =>
    if (d.1 q6.1 q6.2) ≤ v2 then
      (Jf_floatToIntBits v1 S d).bind fun r7 =>
      some (r7, d)
    else
      (aix S 50 (S.2.1 z5 16) v2).bind fun q8 =>
      (Mo_period this v2 S d).bind fun r9 =>
      (gf (FP.fdiv (FP.i2f (d.1 q8.1 q8.2)) (FP.i2f r9))).bind fun g10 =>
      (gf (FP.fadd v1 g10)).bind fun g11 =>
      Mo_load_h18 this S f g11 (v2 + 1) d
def Mo_load (this : Nat) (S : Sp) (d : Dt) : Option (Int32 × Dt) :=
  (isK S 9 (some this)).bind fun z1 =>
  (Mo_isBoard this S d).bind fun r2 =>
  if ¬ r2 = 0 then
    bind2 (Mo_laysCosts this S d) fun _ d3 =>
    Mo_load_h18 this S FU FP.fconst0 0 d3
  else
    some ((-2), d)
set_option maxHeartbeats 4000000 in
theorem Mo_load_fn (this : Nat) (S : Sp) (d : Dt) : Fn yX10_load (ws_ yX10_load cX10_load 3 (some .int)) 5 114 [va_rf (some this)] S d rvI Λw (Mo_load this S d) := by
  refine Fn.ofJ (own := RX10) (lv := [(0, va_rf (some this))]) (by decide +kernel) rfl (by simp [cat_i, cat_l, cat_f, cat_d, rf_cat]) (by simp [lv_args, cat_i, cat_l, cat_f, cat_d, rf_cat]) ?_
  intro X F G hRm hR hI
  have hMo_load_h18 : ∀ (f : Nat) (v1 : UInt32) (v2 : Int32) (d : Dt), J X F Λw S d 18 [(0, va_rf (some this)), (1, .float v1), (2, .int v2)] [] (Mo_load_h18 this S f v1 v2 d) := by
    intro  f
    induction f with
    | zero => intro v1 v2 d; exact J_no
    | succ f ih =>
      intro v1 v2 d
      unfold Mo_load_h18
      refine JR_iload_n (pc := 18) (k := 2) (i := 2) G rfl rfl dX10_load_18 ?_
      refine JR_aload_n (pc := 19) (k := 0) (i := 0) (o := some this) G rfl rfl dX10_load_19 ?_
      refine J_bd (fun z5 hz5 => ?_)
      refine JR_gR (pc := 20) (k := 1) G cl_X10 in_X10 (by decide) (by decide) rfl (Or.inl rfl) q1589 hz5 dX10_load_20 ?_
      refine JR_iconst (pc := 23) G ci_4 dX10_load_23 ?_
      refine J_bd (fun q6 hq6 => ?_)
      refine JR_iaload (pc := 24) G hq6 dX10_load_24 ?_
      refine JR_icmp_ge (pc := 25) (tgt := 51) G dX10_load_25 (by decide) (fun c12 => ?_) (fun c12 => ?_)
      · refine JR_fload_n (pc := 51) (k := 1) (i := 1) G rfl rfl dX10_load_51 ?_
        refine JPS_I (pc := 52) (as := [.float v1]) (st' := []) G (Jf_floatToIntBits_fn v1 S d) (JC_S (n := 1) G hRm q2048 q1134 q169 q1135 dd_J15_floatToIntBits ⟨by decide, by decide⟩ dX10_load_52 rfl (Nat.le_of_ble_eq_true rfl)) rfl (fun r7 hr7 => ?_)
        exact JR_iret (pc := 55) G hR dX10_load_55 rfl rfl
      · refine JR_fload_n (pc := 28) (k := 1) (i := 1) G rfl rfl dX10_load_28 ?_
        refine JR_aload_n (pc := 29) (k := 0) (i := 0) (o := some this) G rfl rfl dX10_load_29 ?_
        refine JR_gR (pc := 30) (k := 16) G cl_X10 in_X10 (by decide) (by decide) rfl (Or.inl rfl) q1604 hz5 dX10_load_30 ?_
        refine JR_iload_n (pc := 33) (k := 2) (i := 2) G rfl rfl dX10_load_33 ?_
        refine J_bd (fun q8 hq8 => ?_)
        refine JR_iaload (pc := 34) G hq8 dX10_load_34 ?_
        refine JR_i2f (pc := 35) G dX10_load_35 ?_
        refine JR_aload_n (pc := 36) (k := 0) (i := 0) (o := some this) G rfl rfl dX10_load_36 ?_
        refine JR_iload_n (pc := 37) (k := 2) (i := 2) G rfl rfl dX10_load_37 ?_
        refine JPV_I (pc := 38) (as := [.int v2]) (st' := [.float (FP.i2f (d.1 q8.1 q8.2)), .float v1]) (o := some this) G (Mo_period_fn this v2 S d) (JC_V (n := 1) G hRm cl_X10 q1995 q1997 qs91 q152 q1998 ⟨rfl, dd_X10_period⟩ ⟨by decide, by decide⟩ dX10_load_38 hz5 rfl (Nat.le_of_ble_eq_true rfl)) rfl (fun r9 hr9 => ?_)
        refine JR_i2f (pc := 41) G dX10_load_41 ?_
        refine J_bd (fun g10 hg10 => ?_)
        refine JR_fdiv (pc := 42) G hg10 dX10_load_42 ?_
        refine J_bd (fun g11 hg11 => ?_)
        refine JR_fadd (pc := 43) G hg11 dX10_load_43 ?_
        refine JR_fstore_n (pc := 44) (k := 1) (i := 1) (lv' := [(1, .float g11), (0, va_rf (some this)), (2, .int v2)]) G rfl (by decide) rfl dX10_load_44 ?_
        refine JR_iinc (pc := 45) (i := 2) (v := v2 + 1) (lv' := [(2, .int (v2 + 1)), (1, .float g11), (0, va_rf (some this))]) G rfl (congrArg (fun z => v2 + z) (by decide)) (by decide) rfl dX10_load_45 ?_
        refine JR_goto (pc := 48) (tgt := 18) G dX10_load_48 (by decide) ?_
        refine J_sub [2, 1, 0] rfl ?_
        exact ih g11 (v2 + 1) d
  unfold Mo_load
  refine JR_aload_n (pc := 0) (k := 0) (i := 0) (o := some this) G rfl rfl dX10_load_0 ?_
  refine J_bd (fun z1 hz1 => ?_)
  refine JPV_I (pc := 1) (as := []) (st' := []) (o := some this) G (Mo_isBoard_fn this S d) (JC_V (n := 0) G hRm cl_X10 q2012 q2014 qs93 q152 q2015 ⟨rfl, dd_X10_isBoard⟩ ⟨by decide, by decide⟩ dX10_load_1 hz1 rfl (Nat.le_of_ble_eq_true rfl)) rfl (fun r2 hr2 => ?_)
  refine JR_if_ne (pc := 4) (tgt := 10) G dX10_load_4 (by decide) (fun c4 => ?_) (fun c4 => ?_)
  · refine JR_aload_n (pc := 10) (k := 0) (i := 0) (o := some this) G rfl rfl dX10_load_10 ?_
    refine JQV_U (pc := 11) (as := []) (st' := []) (o := some this) G (Mo_laysCosts_fn this S d) (JC_V (n := 0) G hRm cl_X10 q1987 q1989 qs89 q152 q1990 ⟨rfl, dd_X10_laysCosts⟩ ⟨by decide, by decide⟩ dX10_load_11 hz1 rfl (Nat.le_of_ble_eq_true rfl)) rfl (fun _ _ => rfl) (fun _ d3 hd3 => ?_)
    refine JR_fconst0 (pc := 14) G dX10_load_14 ?_
    refine JR_fstore_n (pc := 15) (k := 1) (i := 1) (lv' := [(1, .float FP.fconst0), (0, va_rf (some this))]) G rfl (by decide) rfl dX10_load_15 ?_
    refine JR_iconst (pc := 16) G ci_0 dX10_load_16 ?_
    refine JR_istore_n (pc := 17) (k := 2) (i := 2) (lv' := [(2, .int 0), (1, .float FP.fconst0), (0, va_rf (some this))]) G rfl (by decide) rfl dX10_load_17 ?_
    refine J_sub [2, 1, 0] rfl ?_
    exact hMo_load_h18 FU FP.fconst0 0 d3
  · refine JR_bipush (pc := 7) (v := (-2)) G (by decide) dX10_load_7 ?_
    exact JR_iret (pc := 9) G hR dX10_load_9 rfl rfl

def Mo_follower_b42 (this : Nat) (p1 : Int32) (p2 : Int32) (p3 : Int32) (S : Sp) (d : Dt) (k8 : Int32 → Int32 → Option (Int32)) (v5 : Int32) (s0 : Int32) (s1 : Int32) : Option Int32 :=
  (some (s1 - s0)).bind fun x9 =>
  k8 x9 (v5 + 1)
def Mo_follower_b24 (this : Nat) (p1 : Int32) (p2 : Int32) (p3 : Int32) (S : Sp) (d : Dt) (k8 : Int32 → Int32 → Option (Int32)) (v4 : Int32) (v5 : Int32) : Option Int32 :=
  (isK S 9 (some this)).bind fun z6 =>
  (Mo_isBehind this p1 v5 p2 S d).bind fun r7 =>
  Mo_follower_b42 this p1 p2 p3 S d k8 v5 (if r7 = 0 then 0 else 1) v4
def Mo_follower_h8 (this : Nat) (p1 : Int32) (p2 : Int32) (p3 : Int32) (S : Sp) (d : Dt) : Nat → Int32 → Int32 → Option Int32
  | 0, _, _ => none
  | f + 1, v4, v5 =>
    (isK S 9 (some this)).bind fun z2 =>
    (Mo_isBehind this p1 v5 p2 S d).bind fun r3 =>
    if r3 = 0 then
      Mo_follower_b24 this p1 p2 p3 S d (Mo_follower_h8 this p1 p2 p3 S d f) v4 v5
    else
      if v4 ≤ 0 then
        some v5
      else
        Mo_follower_b24 this p1 p2 p3 S d (Mo_follower_h8 this p1 p2 p3 S d f) v4 v5
def Mo_follower (this : Nat) (p1 : Int32) (p2 : Int32) (p3 : Int32) (S : Sp) (d : Dt) : Option Int32 :=
  (some (p2 + 1)).bind fun x1 =>
  Mo_follower_h8 this p1 p2 p3 S d FU p3 x1
set_option maxHeartbeats 4000000 in
theorem Mo_follower_fn (this : Nat) (p1 : Int32) (p2 : Int32) (p3 : Int32) (S : Sp) (d : Dt) : Fn yX10_follower (ws_ yX10_follower cX10_follower 6 (some .int)) 1 23 [va_rf (some this), .int p1, .int p2, .int p3] S d rvI Λp (Mo_follower this p1 p2 p3 S d) := by
  refine Fn.ofJ (own := RX10) (lv := [(0, va_rf (some this)), (1, .int p1), (2, .int p2), (3, .int p3)]) (by decide +kernel) rfl (by simp [cat_i, cat_l, cat_f, cat_d, rf_cat]) (by simp [lv_args, cat_i, cat_l, cat_f, cat_d, rf_cat]) ?_
  intro X F G hRm hR hI
  have hMo_follower_b42 : ∀ (k8 : Int32 → Int32 → Option (Int32)) (hk8 : ∀ (v4 : Int32) (v5 : Int32), J X F Λp S d 8 [(0, va_rf (some this)), (1, .int p1), (2, .int p2), (3, .int p3), (4, .int v4), (5, .int v5)] [] (k8 v4 v5)) (v5 : Int32) (s0 : Int32) (s1 : Int32), J X F Λp S d 42 [(0, va_rf (some this)), (1, .int p1), (2, .int p2), (3, .int p3), (5, .int v5)] [.int s0, .int s1] (Mo_follower_b42 this p1 p2 p3 S d k8 v5 s0 s1) := by
    intro k8 hk8 v5 s0 s1
    unfold Mo_follower_b42
    refine JR_isub (pc := 42) G dX10_follower_42 ?_
    refine J_nm (fun x9 hx9 => ?_)
    refine JR_istore (pc := 43) (i := 4) (lv' := [(4, .int x9), (0, va_rf (some this)), (1, .int p1), (2, .int p2), (3, .int p3), (5, .int v5)]) G (by decide) rfl dX10_follower_43 ?_
    refine JR_iinc (pc := 45) (i := 5) (v := v5 + 1) (lv' := [(5, .int (v5 + 1)), (4, .int x9), (0, va_rf (some this)), (1, .int p1), (2, .int p2), (3, .int p3)]) G rfl (congrArg (fun z => v5 + z) (by decide)) (by decide) rfl dX10_follower_45 ?_
    refine JR_goto (pc := 48) (tgt := 8) G dX10_follower_48 (by decide) ?_
    refine J_sub [2, 3, 4, 5, 1, 0] rfl ?_
    exact hk8 x9 (v5 + 1)
  have hMo_follower_b24 : ∀ (k8 : Int32 → Int32 → Option (Int32)) (hk8 : ∀ (v4 : Int32) (v5 : Int32), J X F Λp S d 8 [(0, va_rf (some this)), (1, .int p1), (2, .int p2), (3, .int p3), (4, .int v4), (5, .int v5)] [] (k8 v4 v5)) (v4 : Int32) (v5 : Int32), J X F Λp S d 24 [(0, va_rf (some this)), (1, .int p1), (2, .int p2), (3, .int p3), (4, .int v4), (5, .int v5)] [] (Mo_follower_b24 this p1 p2 p3 S d k8 v4 v5) := by
    intro k8 hk8 v4 v5
    unfold Mo_follower_b24
    refine JR_iload (pc := 24) (i := 4) G rfl dX10_follower_24 ?_
    refine JR_aload_n (pc := 26) (k := 0) (i := 0) (o := some this) G rfl rfl dX10_follower_26 ?_
    refine JR_iload_n (pc := 27) (k := 1) (i := 1) G rfl rfl dX10_follower_27 ?_
    refine JR_iload (pc := 28) (i := 5) G rfl dX10_follower_28 ?_
    refine JR_iload_n (pc := 30) (k := 2) (i := 2) G rfl rfl dX10_follower_30 ?_
    refine J_bd (fun z6 hz6 => ?_)
    refine JPV_I (pc := 31) (as := [.int p1, .int v5, .int p2]) (st' := [.int v4]) (o := some this) G (Mo_isBehind_fn this p1 v5 p2 S d) (JC_V (n := 3) G hRm cl_X10 q1941 q1943 qs83 q152 q1944 ⟨rfl, dd_X10_isBehind⟩ ⟨by decide, by decide⟩ dX10_follower_31 hz6 rfl (Nat.le_of_ble_eq_true rfl)) rfl (fun r7 hr7 => ?_)
    refine J_eq (r' := if r7 = 0 then Mo_follower_b42 this p1 p2 p3 S d k8 v5 0 v4 else Mo_follower_b42 this p1 p2 p3 S d k8 v5 1 v4) (by split <;> rfl) ?_
    refine JR_if_eq (pc := 34) (tgt := 41) G dX10_follower_34 (by decide) (fun c8 => ?_) (fun c8 => ?_)
    · refine JR_iconst (pc := 41) G ci_0 dX10_follower_41 ?_
      refine J_sub [0, 1, 2, 3, 5] rfl ?_
      exact hMo_follower_b42 k8 hk8 v5 0 v4
    · refine JR_iconst (pc := 37) G ci_1 dX10_follower_37 ?_
      refine JR_goto (pc := 38) (tgt := 42) G dX10_follower_38 (by decide) ?_
      refine J_sub [0, 1, 2, 3, 5] rfl ?_
      exact hMo_follower_b42 k8 hk8 v5 1 v4
  have hMo_follower_h8 : ∀ (f : Nat) (v4 : Int32) (v5 : Int32), J X F Λp S d 8 [(0, va_rf (some this)), (1, .int p1), (2, .int p2), (3, .int p3), (4, .int v4), (5, .int v5)] [] (Mo_follower_h8 this p1 p2 p3 S d f v4 v5) := by
    intro  f
    induction f with
    | zero => intro v4 v5; exact J_no
    | succ f ih =>
      intro v4 v5
      unfold Mo_follower_h8
      refine JR_aload_n (pc := 8) (k := 0) (i := 0) (o := some this) G rfl rfl dX10_follower_8 ?_
      refine JR_iload_n (pc := 9) (k := 1) (i := 1) G rfl rfl dX10_follower_9 ?_
      refine JR_iload (pc := 10) (i := 5) G rfl dX10_follower_10 ?_
      refine JR_iload_n (pc := 12) (k := 2) (i := 2) G rfl rfl dX10_follower_12 ?_
      refine J_bd (fun z2 hz2 => ?_)
      refine JPV_I (pc := 13) (as := [.int p1, .int v5, .int p2]) (st' := []) (o := some this) G (Mo_isBehind_fn this p1 v5 p2 S d) (JC_V (n := 3) G hRm cl_X10 q1941 q1943 qs83 q152 q1944 ⟨rfl, dd_X10_isBehind⟩ ⟨by decide, by decide⟩ dX10_follower_13 hz2 rfl (Nat.le_of_ble_eq_true rfl)) rfl (fun r3 hr3 => ?_)
      refine JR_if_eq (pc := 16) (tgt := 24) G dX10_follower_16 (by decide) (fun c5 => ?_) (fun c5 => ?_)
      · exact hMo_follower_b24 (Mo_follower_h8 this p1 p2 p3 S d f) ih v4 v5
      · refine JR_iload (pc := 19) (i := 4) G rfl dX10_follower_19 ?_
        refine JR_if_le (pc := 21) (tgt := 51) G dX10_follower_21 (by decide) (fun c4 => ?_) (fun c4 => ?_)
        · refine JR_iload (pc := 51) (i := 5) G rfl dX10_follower_51 ?_
          exact JR_iret (pc := 53) G hR dX10_follower_53 rfl rfl
        · exact hMo_follower_b24 (Mo_follower_h8 this p1 p2 p3 S d f) ih v4 v5
  unfold Mo_follower
  refine JR_iload_n (pc := 0) (k := 3) (i := 3) G rfl rfl dX10_follower_0 ?_
  refine JR_istore (pc := 1) (i := 4) (lv' := [(4, .int p3), (0, va_rf (some this)), (1, .int p1), (2, .int p2), (3, .int p3)]) G (by decide) rfl dX10_follower_1 ?_
  refine JR_iload_n (pc := 3) (k := 2) (i := 2) G rfl rfl dX10_follower_3 ?_
  refine JR_iconst (pc := 4) G ci_1 dX10_follower_4 ?_
  refine JR_iadd (pc := 5) G dX10_follower_5 ?_
  refine J_nm (fun x1 hx1 => ?_)
  refine JR_istore (pc := 6) (i := 5) (lv' := [(5, .int x1), (4, .int p3), (0, va_rf (some this)), (1, .int p1), (2, .int p2), (3, .int p3)]) G (by decide) rfl dX10_follower_6 ?_
  refine J_sub [2, 3, 4, 5, 1, 0] rfl ?_
  exact hMo_follower_h8 FU p3 x1

def Mo_path_h33 (this : Nat) (p1 : Int32) (p2 : Int32) (p3 : Int32) (S : Sp) (d : Dt) : Nat → Int32 → Int32 → Option Int32
  | 0, _, _ => none
  | f + 1, v4, v5 =>
    if p3 ≤ v5 then
      some v4
    else
      (isK S 9 (some this)).bind fun z7 =>
      (Mo_followers this p1 v4 S d).bind fun r8 =>
      if ¬ r8 = 0 then
        (Mo_followers this p1 v4 S d).bind fun r9 =>
        (gz r9).bind fun u10 =>
        (Mo_follower this p1 v4 (irm p2 r9) S d).bind fun r11 =>
        Mo_path_h33 this p1 p2 p3 S d f r11 (v5 + 1)
      else
        some ((-1))
def Mo_path (this : Nat) (p1 : Int32) (p2 : Int32) (p3 : Int32) (S : Sp) (d : Dt) : Option Int32 :=
  (isK S 9 (some this)).bind fun z1 =>
  (Mo_isTask this p1 S d).bind fun r2 =>
  if r2 = 0 then
    some ((-2))
  else
    (Mo_in (Int32.toInt64 p2) 0 50 S d).bind fun r3 =>
    if r3 = 0 then
      some ((-2))
    else
      if 0 ≤ p3 then
        Mo_path_h33 this p1 p2 p3 S d FU 0 0
      else
        some ((-2))
set_option maxHeartbeats 4000000 in
theorem Mo_path_fn (this : Nat) (p1 : Int32) (p2 : Int32) (p3 : Int32) (S : Sp) (d : Dt) : Fn yX10_path (ws_ yX10_path cX10_path 6 (some .int)) 3 67 [va_rf (some this), .int p1, .int p2, .int p3] S d rvI Λp (Mo_path this p1 p2 p3 S d) := by
  refine Fn.ofJ (own := RX10) (lv := [(0, va_rf (some this)), (1, .int p1), (2, .int p2), (3, .int p3)]) (by decide +kernel) rfl (by simp [cat_i, cat_l, cat_f, cat_d, rf_cat]) (by simp [lv_args, cat_i, cat_l, cat_f, cat_d, rf_cat]) ?_
  intro X F G hRm hR hI
  have hMo_path_h33 : ∀ (f : Nat) (v4 : Int32) (v5 : Int32), J X F Λp S d 33 [(0, va_rf (some this)), (1, .int p1), (2, .int p2), (3, .int p3), (4, .int v4), (5, .int v5)] [] (Mo_path_h33 this p1 p2 p3 S d f v4 v5) := by
    intro  f
    induction f with
    | zero => intro v4 v5; exact J_no
    | succ f ih =>
      intro v4 v5
      unfold Mo_path_h33
      refine JR_iload (pc := 33) (i := 5) G rfl dX10_path_33 ?_
      refine JR_iload_n (pc := 35) (k := 3) (i := 3) G rfl rfl dX10_path_35 ?_
      refine JR_icmp_ge (pc := 36) (tgt := 75) G dX10_path_36 (by decide) (fun c13 => ?_) (fun c13 => ?_)
      · refine JR_iload (pc := 75) (i := 4) G rfl dX10_path_75 ?_
        exact JR_iret (pc := 77) G hR dX10_path_77 rfl rfl
      · refine JR_aload_n (pc := 39) (k := 0) (i := 0) (o := some this) G rfl rfl dX10_path_39 ?_
        refine JR_iload_n (pc := 40) (k := 1) (i := 1) G rfl rfl dX10_path_40 ?_
        refine JR_iload (pc := 41) (i := 4) G rfl dX10_path_41 ?_
        refine J_bd (fun z7 hz7 => ?_)
        refine JPV_I (pc := 43) (as := [.int p1, .int v4]) (st' := []) (o := some this) G (Mo_followers_fn this p1 v4 S d) (JC_V (n := 2) G hRm cl_X10 q1974 q1976 qs88 q152 q1977 ⟨rfl, dd_X10_followers⟩ ⟨by decide, by decide⟩ dX10_path_43 hz7 rfl (Nat.le_of_ble_eq_true rfl)) rfl (fun r8 hr8 => ?_)
        refine JR_if_ne (pc := 46) (tgt := 51) G dX10_path_46 (by decide) (fun c12 => ?_) (fun c12 => ?_)
        · refine JR_aload_n (pc := 51) (k := 0) (i := 0) (o := some this) G rfl rfl dX10_path_51 ?_
          refine JR_iload_n (pc := 52) (k := 1) (i := 1) G rfl rfl dX10_path_52 ?_
          refine JR_iload (pc := 53) (i := 4) G rfl dX10_path_53 ?_
          refine JR_iload_n (pc := 55) (k := 2) (i := 2) G rfl rfl dX10_path_55 ?_
          refine JR_aload_n (pc := 56) (k := 0) (i := 0) (o := some this) G rfl rfl dX10_path_56 ?_
          refine JR_iload_n (pc := 57) (k := 1) (i := 1) G rfl rfl dX10_path_57 ?_
          refine JR_iload (pc := 58) (i := 4) G rfl dX10_path_58 ?_
          refine JPV_I (pc := 60) (as := [.int p1, .int v4]) (st' := [.int p2, .int v4, .int p1, va_rf (some this)]) (o := some this) G (Mo_followers_fn this p1 v4 S d) (JC_V (n := 2) G hRm cl_X10 q1974 q1976 qs88 q152 q1977 ⟨rfl, dd_X10_followers⟩ ⟨by decide, by decide⟩ dX10_path_60 hz7 rfl (Nat.le_of_ble_eq_true rfl)) rfl (fun r9 hr9 => ?_)
          refine J_bd (fun u10 hu10 => ?_)
          refine JR_irem (pc := 63) G (gz_at hu10) dX10_path_63 ?_
          refine JPV_I (pc := 64) (as := [.int p1, .int v4, .int (irm p2 r9)]) (st' := []) (o := some this) G (Mo_follower_fn this p1 v4 (irm p2 r9) S d) (JC_V (n := 3) G hRm cl_X10 q2054 q2056 qs98 q152 q2057 ⟨rfl, dd_X10_follower⟩ ⟨by decide, by decide⟩ dX10_path_64 hz7 rfl (Nat.le_of_ble_eq_true rfl)) rfl (fun r11 hr11 => ?_)
          refine JR_istore (pc := 67) (i := 4) (lv' := [(4, .int r11), (0, va_rf (some this)), (1, .int p1), (2, .int p2), (3, .int p3), (5, .int v5)]) G (by decide) rfl dX10_path_67 ?_
          refine JR_iinc (pc := 69) (i := 5) (v := v5 + 1) (lv' := [(5, .int (v5 + 1)), (4, .int r11), (0, va_rf (some this)), (1, .int p1), (2, .int p2), (3, .int p3)]) G rfl (congrArg (fun z => v5 + z) (by decide)) (by decide) rfl dX10_path_69 ?_
          refine JR_goto (pc := 72) (tgt := 33) G dX10_path_72 (by decide) ?_
          refine J_sub [2, 3, 4, 5, 1, 0] rfl ?_
          exact ih r11 (v5 + 1)
        · refine JR_iconst (pc := 49) G ci_m1 dX10_path_49 ?_
          exact JR_iret (pc := 50) G hR dX10_path_50 rfl rfl
  unfold Mo_path
  refine JR_aload_n (pc := 0) (k := 0) (i := 0) (o := some this) G rfl rfl dX10_path_0 ?_
  refine JR_iload_n (pc := 1) (k := 1) (i := 1) G rfl rfl dX10_path_1 ?_
  refine J_bd (fun z1 hz1 => ?_)
  refine JPV_I (pc := 2) (as := [.int p1]) (st' := []) (o := some this) G (Mo_isTask_fn this p1 S d) (JC_V (n := 1) G hRm cl_X10 q1916 q1918 qs78 q152 q1919 ⟨rfl, dd_X10_isTask⟩ ⟨by decide, by decide⟩ dX10_path_2 hz1 rfl (Nat.le_of_ble_eq_true rfl)) rfl (fun r2 hr2 => ?_)
  refine JR_if_eq (pc := 5) (tgt := 24) G dX10_path_5 (by decide) (fun c6 => ?_) (fun c6 => ?_)
  · refine JR_bipush (pc := 24) (v := (-2)) G (by decide) dX10_path_24 ?_
    exact JR_iret (pc := 26) G hR dX10_path_26 rfl rfl
  · refine JR_iload_n (pc := 8) (k := 2) (i := 2) G rfl rfl dX10_path_8 ?_
    refine JR_i2l (pc := 9) G dX10_path_9 ?_
    refine JR_lconst (pc := 10) G cl_0 dX10_path_10 ?_
    refine JR_ldc2 (pc := 11) G q2053 dX10_path_11 ?_
    refine JPS_I (pc := 14) (as := [.long (Int32.toInt64 p2), .long 0, .long 50]) (st' := []) G (Mo_in_fn (Int32.toInt64 p2) 0 50 S d) (JC_S (n := 3) G hRm q1782 q1783 q152 q1784 dd_X10_in ⟨by decide, by decide⟩ dX10_path_14 rfl (Nat.le_of_ble_eq_true rfl)) rfl (fun r3 hr3 => ?_)
    refine JR_if_eq (pc := 17) (tgt := 24) G dX10_path_17 (by decide) (fun c5 => ?_) (fun c5 => ?_)
    · refine JR_bipush (pc := 24) (v := (-2)) G (by decide) dX10_path_24 ?_
      exact JR_iret (pc := 26) G hR dX10_path_26 rfl rfl
    · refine JR_iload_n (pc := 20) (k := 3) (i := 3) G rfl rfl dX10_path_20 ?_
      refine JR_if_ge (pc := 21) (tgt := 27) G dX10_path_21 (by decide) (fun c4 => ?_) (fun c4 => ?_)
      · refine JR_iconst (pc := 27) G ci_0 dX10_path_27 ?_
        refine JR_istore (pc := 28) (i := 4) (lv' := [(4, .int 0), (0, va_rf (some this)), (1, .int p1), (2, .int p2), (3, .int p3)]) G (by decide) rfl dX10_path_28 ?_
        refine JR_iconst (pc := 30) G ci_0 dX10_path_30 ?_
        refine JR_istore (pc := 31) (i := 5) (lv' := [(5, .int 0), (4, .int 0), (0, va_rf (some this)), (1, .int p1), (2, .int p2), (3, .int p3)]) G (by decide) rfl dX10_path_31 ?_
        refine J_sub [2, 3, 4, 5, 1, 0] rfl ?_
        exact hMo_path_h33 FU 0 0
      · refine JR_bipush (pc := 24) (v := (-2)) G (by decide) dX10_path_24 ?_
        exact JR_iret (pc := 26) G hR dX10_path_26 rfl rfl

def Mo_answered (p0 : Int32) (p1 : Int32) (S : Sp) (d : Dt) : Option Int32 :=
  some (irm (((5 * p0) + p1) + 1) 64)
set_option maxHeartbeats 4000000 in
theorem Mo_answered_fn (p0 : Int32) (p1 : Int32) (S : Sp) (d : Dt) : Fn yX10_answered (ws_ yX10_answered cX10_answered 2 (some .int)) 0 0 [.int p0, .int p1] S d rvI Λp (Mo_answered p0 p1 S d) := by
  refine Fn.ofJ (own := RX10) (lv := [(0, .int p0), (1, .int p1)]) (by decide +kernel) rfl (by simp [cat_i, cat_l, cat_f, cat_d, rf_cat]) (by simp [lv_args, cat_i, cat_l, cat_f, cat_d, rf_cat]) ?_
  intro X F G hRm hR hI
  unfold Mo_answered
  refine JR_iconst (pc := 0) G ci_5 dX10_answered_0 ?_
  refine JR_iload_n (pc := 1) (k := 0) (i := 0) G rfl rfl dX10_answered_1 ?_
  refine JR_imul (pc := 2) G dX10_answered_2 ?_
  refine JR_iload_n (pc := 3) (k := 1) (i := 1) G rfl rfl dX10_answered_3 ?_
  refine JR_iadd (pc := 4) G dX10_answered_4 ?_
  refine JR_iconst (pc := 5) G ci_1 dX10_answered_5 ?_
  refine JR_iadd (pc := 6) G dX10_answered_6 ?_
  refine JR_bipush (pc := 7) (v := 64) G (by decide) dX10_answered_7 ?_
  refine JR_irem (pc := 9) G (by decide) dX10_answered_9 ?_
  exact JR_iret (pc := 10) G hR dX10_answered_10 rfl rfl

def Mo_answer_h45 (this : Nat) (p1 : Int32) (p2 : Int32) (p3 : Int32) (S : Sp) (d : Dt) : Nat → Int32 → Int32 → Option Int32
  | 0, _, _ => none
  | f + 1, v4, v5 =>
    (isK S 9 (some this)).bind fun z9 =>
    (Mo_followers this p1 v4 S d).bind fun r10 =>
    if r10 ≤ 0 then
      some v5
    else
      (Mo_followers this p1 v4 S d).bind fun r11 =>
      (gz r11).bind fun u12 =>
      (Mo_follower this p1 v4 (irm p2 r11) S d).bind fun r13 =>
      (Mo_answered v5 r13 S d).bind fun r14 =>
      Mo_answer_h45 this p1 p2 p3 S d f r13 r14
def Mo_answer (this : Nat) (p1 : Int32) (p2 : Int32) (p3 : Int32) (S : Sp) (d : Dt) : Option Int32 :=
  (isK S 9 (some this)).bind fun z1 =>
  (Mo_isTask this p1 S d).bind fun r2 =>
  if r2 = 0 then
    some ((-2))
  else
    (Mo_in (Int32.toInt64 p2) 0 50 S d).bind fun r3 =>
    if r3 = 0 then
      some ((-2))
    else
      (Mo_in (Int32.toInt64 p3) 0 63 S d).bind fun r4 =>
      if ¬ r4 = 0 then
        (Mo_answered p3 0 S d).bind fun r5 =>
        Mo_answer_h45 this p1 p2 p3 S d FU 0 r5
      else
        some ((-2))
set_option maxHeartbeats 4000000 in
theorem Mo_answer_fn (this : Nat) (p1 : Int32) (p2 : Int32) (p3 : Int32) (S : Sp) (d : Dt) : Fn yX10_answer (ws_ yX10_answer cX10_answer 6 (some .int)) 3 67 [va_rf (some this), .int p1, .int p2, .int p3] S d rvI Λp (Mo_answer this p1 p2 p3 S d) := by
  refine Fn.ofJ (own := RX10) (lv := [(0, va_rf (some this)), (1, .int p1), (2, .int p2), (3, .int p3)]) (by decide +kernel) rfl (by simp [cat_i, cat_l, cat_f, cat_d, rf_cat]) (by simp [lv_args, cat_i, cat_l, cat_f, cat_d, rf_cat]) ?_
  intro X F G hRm hR hI
  have hMo_answer_h45 : ∀ (f : Nat) (v4 : Int32) (v5 : Int32), J X F Λp S d 45 [(0, va_rf (some this)), (1, .int p1), (2, .int p2), (3, .int p3), (4, .int v4), (5, .int v5)] [] (Mo_answer_h45 this p1 p2 p3 S d f v4 v5) := by
    intro  f
    induction f with
    | zero => intro v4 v5; exact J_no
    | succ f ih =>
      intro v4 v5
      unfold Mo_answer_h45
      refine JR_aload_n (pc := 45) (k := 0) (i := 0) (o := some this) G rfl rfl dX10_answer_45 ?_
      refine JR_iload_n (pc := 46) (k := 1) (i := 1) G rfl rfl dX10_answer_46 ?_
      refine JR_iload (pc := 47) (i := 4) G rfl dX10_answer_47 ?_
      refine J_bd (fun z9 hz9 => ?_)
      refine JPV_I (pc := 49) (as := [.int p1, .int v4]) (st' := []) (o := some this) G (Mo_followers_fn this p1 v4 S d) (JC_V (n := 2) G hRm cl_X10 q1974 q1976 qs88 q152 q1977 ⟨rfl, dd_X10_followers⟩ ⟨by decide, by decide⟩ dX10_answer_49 hz9 rfl (Nat.le_of_ble_eq_true rfl)) rfl (fun r10 hr10 => ?_)
      refine JR_if_le (pc := 52) (tgt := 85) G dX10_answer_52 (by decide) (fun c15 => ?_) (fun c15 => ?_)
      · refine JR_iload (pc := 85) (i := 5) G rfl dX10_answer_85 ?_
        exact JR_iret (pc := 87) G hR dX10_answer_87 rfl rfl
      · refine JR_aload_n (pc := 55) (k := 0) (i := 0) (o := some this) G rfl rfl dX10_answer_55 ?_
        refine JR_iload_n (pc := 56) (k := 1) (i := 1) G rfl rfl dX10_answer_56 ?_
        refine JR_iload (pc := 57) (i := 4) G rfl dX10_answer_57 ?_
        refine JR_iload_n (pc := 59) (k := 2) (i := 2) G rfl rfl dX10_answer_59 ?_
        refine JR_aload_n (pc := 60) (k := 0) (i := 0) (o := some this) G rfl rfl dX10_answer_60 ?_
        refine JR_iload_n (pc := 61) (k := 1) (i := 1) G rfl rfl dX10_answer_61 ?_
        refine JR_iload (pc := 62) (i := 4) G rfl dX10_answer_62 ?_
        refine JPV_I (pc := 64) (as := [.int p1, .int v4]) (st' := [.int p2, .int v4, .int p1, va_rf (some this)]) (o := some this) G (Mo_followers_fn this p1 v4 S d) (JC_V (n := 2) G hRm cl_X10 q1974 q1976 qs88 q152 q1977 ⟨rfl, dd_X10_followers⟩ ⟨by decide, by decide⟩ dX10_answer_64 hz9 rfl (Nat.le_of_ble_eq_true rfl)) rfl (fun r11 hr11 => ?_)
        refine J_bd (fun u12 hu12 => ?_)
        refine JR_irem (pc := 67) G (gz_at hu12) dX10_answer_67 ?_
        refine JPV_I (pc := 68) (as := [.int p1, .int v4, .int (irm p2 r11)]) (st' := []) (o := some this) G (Mo_follower_fn this p1 v4 (irm p2 r11) S d) (JC_V (n := 3) G hRm cl_X10 q2054 q2056 qs98 q152 q2057 ⟨rfl, dd_X10_follower⟩ ⟨by decide, by decide⟩ dX10_answer_68 hz9 rfl (Nat.le_of_ble_eq_true rfl)) rfl (fun r13 hr13 => ?_)
        refine JR_istore (pc := 71) (i := 4) (lv' := [(4, .int r13), (0, va_rf (some this)), (1, .int p1), (2, .int p2), (3, .int p3), (5, .int v5)]) G (by decide) rfl dX10_answer_71 ?_
        refine JR_iload (pc := 73) (i := 5) G rfl dX10_answer_73 ?_
        refine JR_iload (pc := 75) (i := 4) G rfl dX10_answer_75 ?_
        refine JPS_I (pc := 77) (as := [.int v5, .int r13]) (st' := []) G (Mo_answered_fn v5 r13 S d) (JC_S (n := 2) G hRm q2063 q2064 q152 q2065 dd_X10_answered ⟨by decide, by decide⟩ dX10_answer_77 rfl (Nat.le_of_ble_eq_true rfl)) rfl (fun r14 hr14 => ?_)
        refine JR_istore (pc := 80) (i := 5) (lv' := [(5, .int r14), (4, .int r13), (0, va_rf (some this)), (1, .int p1), (2, .int p2), (3, .int p3)]) G (by decide) rfl dX10_answer_80 ?_
        refine JR_goto (pc := 82) (tgt := 45) G dX10_answer_82 (by decide) ?_
        refine J_sub [2, 3, 4, 5, 1, 0] rfl ?_
        exact ih r13 r14
  unfold Mo_answer
  refine JR_aload_n (pc := 0) (k := 0) (i := 0) (o := some this) G rfl rfl dX10_answer_0 ?_
  refine JR_iload_n (pc := 1) (k := 1) (i := 1) G rfl rfl dX10_answer_1 ?_
  refine J_bd (fun z1 hz1 => ?_)
  refine JPV_I (pc := 2) (as := [.int p1]) (st' := []) (o := some this) G (Mo_isTask_fn this p1 S d) (JC_V (n := 1) G hRm cl_X10 q1916 q1918 qs78 q152 q1919 ⟨rfl, dd_X10_isTask⟩ ⟨by decide, by decide⟩ dX10_answer_2 hz1 rfl (Nat.le_of_ble_eq_true rfl)) rfl (fun r2 hr2 => ?_)
  refine JR_if_eq (pc := 5) (tgt := 32) G dX10_answer_5 (by decide) (fun c8 => ?_) (fun c8 => ?_)
  · refine JR_bipush (pc := 32) (v := (-2)) G (by decide) dX10_answer_32 ?_
    exact JR_iret (pc := 34) G hR dX10_answer_34 rfl rfl
  · refine JR_iload_n (pc := 8) (k := 2) (i := 2) G rfl rfl dX10_answer_8 ?_
    refine JR_i2l (pc := 9) G dX10_answer_9 ?_
    refine JR_lconst (pc := 10) G cl_0 dX10_answer_10 ?_
    refine JR_ldc2 (pc := 11) G q2053 dX10_answer_11 ?_
    refine JPS_I (pc := 14) (as := [.long (Int32.toInt64 p2), .long 0, .long 50]) (st' := []) G (Mo_in_fn (Int32.toInt64 p2) 0 50 S d) (JC_S (n := 3) G hRm q1782 q1783 q152 q1784 dd_X10_in ⟨by decide, by decide⟩ dX10_answer_14 rfl (Nat.le_of_ble_eq_true rfl)) rfl (fun r3 hr3 => ?_)
    refine JR_if_eq (pc := 17) (tgt := 32) G dX10_answer_17 (by decide) (fun c7 => ?_) (fun c7 => ?_)
    · refine JR_bipush (pc := 32) (v := (-2)) G (by decide) dX10_answer_32 ?_
      exact JR_iret (pc := 34) G hR dX10_answer_34 rfl rfl
    · refine JR_iload_n (pc := 20) (k := 3) (i := 3) G rfl rfl dX10_answer_20 ?_
      refine JR_i2l (pc := 21) G dX10_answer_21 ?_
      refine JR_lconst (pc := 22) G cl_0 dX10_answer_22 ?_
      refine JR_ldc2 (pc := 23) G q2062 dX10_answer_23 ?_
      refine JPS_I (pc := 26) (as := [.long (Int32.toInt64 p3), .long 0, .long 63]) (st' := []) G (Mo_in_fn (Int32.toInt64 p3) 0 63 S d) (JC_S (n := 3) G hRm q1782 q1783 q152 q1784 dd_X10_in ⟨by decide, by decide⟩ dX10_answer_26 rfl (Nat.le_of_ble_eq_true rfl)) rfl (fun r4 hr4 => ?_)
      refine JR_if_ne (pc := 29) (tgt := 35) G dX10_answer_29 (by decide) (fun c6 => ?_) (fun c6 => ?_)
      · refine JR_iconst (pc := 35) G ci_0 dX10_answer_35 ?_
        refine JR_istore (pc := 36) (i := 4) (lv' := [(4, .int 0), (0, va_rf (some this)), (1, .int p1), (2, .int p2), (3, .int p3)]) G (by decide) rfl dX10_answer_36 ?_
        refine JR_iload_n (pc := 38) (k := 3) (i := 3) G rfl rfl dX10_answer_38 ?_
        refine JR_iconst (pc := 39) G ci_0 dX10_answer_39 ?_
        refine JPS_I (pc := 40) (as := [.int p3, .int 0]) (st' := []) G (Mo_answered_fn p3 0 S d) (JC_S (n := 2) G hRm q2063 q2064 q152 q2065 dd_X10_answered ⟨by decide, by decide⟩ dX10_answer_40 rfl (Nat.le_of_ble_eq_true rfl)) rfl (fun r5 hr5 => ?_)
        refine JR_istore (pc := 43) (i := 5) (lv' := [(5, .int r5), (4, .int 0), (0, va_rf (some this)), (1, .int p1), (2, .int p2), (3, .int p3)]) G (by decide) rfl dX10_answer_43 ?_
        refine J_sub [2, 3, 4, 5, 1, 0] rfl ?_
        exact hMo_answer_h45 FU 0 r5
      · refine JR_bipush (pc := 32) (v := (-2)) G (by decide) dX10_answer_32 ?_
        exact JR_iret (pc := 34) G hR dX10_answer_34 rfl rfl

def Mo_goesWays_h32 (this : Nat) (p1 : Int32) (p2 : Int32) (p3 : Int32) (rec : Nat → Int32 → Int32 → Int32 → Sp → Dt → Option (Unit × Dt)) (S : Sp) : Nat → Int32 → Int32 → Dt → Option (Unit × Dt)
  | 0, _, _, _ => none
  | f + 1, v4, v5, d =>
    (isK S 9 (some this)).bind fun z8 =>
    (Mo_nodesOf this p1 S d).bind fun r9 =>
    if r9 ≤ v5 then
      some ((), d)
    else
      (Mo_isBehind this p1 v5 p2 S d).bind fun r10 =>
      if r10 = 0 then
        Mo_goesWays_h32 this p1 p2 p3 rec S f v4 (v5 + 1) d
      else
        bind2 (rec this p1 v5 v4 S d) fun _ d11 =>
        Mo_goesWays_h32 this p1 p2 p3 rec S f v4 (v5 + 1) d11
def Mo_goesWays_b27 (this : Nat) (p1 : Int32) (p2 : Int32) (p3 : Int32) (rec : Nat → Int32 → Int32 → Int32 → Sp → Dt → Option (Unit × Dt)) (S : Sp) (v4 : Int32) (d : Dt) : Option (Unit × Dt) :=
  (some (p2 + 1)).bind fun x7 =>
  Mo_goesWays_h32 this p1 p2 p3 rec S FU v4 x7 d
def Mo_goesWays : Nat → Nat → Int32 → Int32 → Int32 → Sp → Dt → Option (Unit × Dt)
  | 0, _, _, _, _, _, _ => none
  | k + 1, this, p1, p2, p3, S, d =>
    (Mo_answered p3 p2 S d).bind fun r1 =>
    (isK S 9 (some this)).bind fun z2 =>
    (Mo_followers this p1 p2 S d).bind fun r3 =>
    if ¬ r3 = 0 then
      Mo_goesWays_b27 this p1 p2 p3 (Mo_goesWays k) S r1 d
    else
      (aix S 50 (S.2.1 z2 22) r1).bind fun q4 =>
      (some (dI d q4.1 q4.2 ((d.1 q4.1 q4.2) + 1))).bind fun d5 =>
      Mo_goesWays_b27 this p1 p2 p3 (Mo_goesWays k) S r1 d5
set_option maxHeartbeats 4000000 in
theorem Mo_goesWays_fn : ∀ (k : Nat) (this : Nat) (p1 : Int32) (p2 : Int32) (p3 : Int32) (S : Sp) (d : Dt), Fn yX10_goesWays (ws_ yX10_goesWays cX10_goesWays 6 none) (k + 3) (25 * k + 67) [va_rf (some this), .int p1, .int p2, .int p3] S d rvU Λw (Mo_goesWays k this p1 p2 p3 S d) := by
  intro k
  induction k with
  | zero => intros; exact Fn_none
  | succ k ihk =>
    intro this p1 p2 p3 S d
    refine Fn.ofJ (own := RX10) (lv := [(0, va_rf (some this)), (1, .int p1), (2, .int p2), (3, .int p3)]) (by decide +kernel) rfl (by simp [cat_i, cat_l, cat_f, cat_d, rf_cat]) (by simp [lv_args, cat_i, cat_l, cat_f, cat_d, rf_cat]) ?_
    intro X F G hRm hR hI
    have hMo_goesWays_h32 : ∀ (f : Nat) (v4 : Int32) (v5 : Int32) (d : Dt), J X F Λw S d 32 [(0, va_rf (some this)), (1, .int p1), (2, .int p2), (3, .int p3), (4, .int v4), (5, .int v5)] [] (Mo_goesWays_h32 this p1 p2 p3 (Mo_goesWays k) S f v4 v5 d) := by
      intro  f
      induction f with
      | zero => intro v4 v5 d; exact J_no
      | succ f ih =>
        intro v4 v5 d
        unfold Mo_goesWays_h32
        refine JR_iload (pc := 32) (i := 5) G rfl dX10_goesWays_32 ?_
        refine JR_aload_n (pc := 34) (k := 0) (i := 0) (o := some this) G rfl rfl dX10_goesWays_34 ?_
        refine JR_iload_n (pc := 35) (k := 1) (i := 1) G rfl rfl dX10_goesWays_35 ?_
        refine J_bd (fun z8 hz8 => ?_)
        refine JPV_I (pc := 36) (as := [.int p1]) (st' := [.int v5]) (o := some this) G (Mo_nodesOf_fn this p1 S d) (JC_V (n := 1) G hRm cl_X10 q1929 q1931 qs80 q152 q1932 ⟨rfl, dd_X10_nodesOf⟩ ⟨by omega, by omega⟩ dX10_goesWays_36 hz8 rfl (Nat.le_of_ble_eq_true rfl)) rfl (fun r9 hr9 => ?_)
        refine JR_icmp_ge (pc := 39) (tgt := 68) G dX10_goesWays_39 (by decide) (fun c13 => ?_) (fun c13 => ?_)
        · exact JR_vret (pc := 68) G hR dX10_goesWays_68 rfl rfl
        · refine JR_aload_n (pc := 42) (k := 0) (i := 0) (o := some this) G rfl rfl dX10_goesWays_42 ?_
          refine JR_iload_n (pc := 43) (k := 1) (i := 1) G rfl rfl dX10_goesWays_43 ?_
          refine JR_iload (pc := 44) (i := 5) G rfl dX10_goesWays_44 ?_
          refine JR_iload_n (pc := 46) (k := 2) (i := 2) G rfl rfl dX10_goesWays_46 ?_
          refine JPV_I (pc := 47) (as := [.int p1, .int v5, .int p2]) (st' := []) (o := some this) G (Mo_isBehind_fn this p1 v5 p2 S d) (JC_V (n := 3) G hRm cl_X10 q1941 q1943 qs83 q152 q1944 ⟨rfl, dd_X10_isBehind⟩ ⟨by omega, by omega⟩ dX10_goesWays_47 hz8 rfl (Nat.le_of_ble_eq_true rfl)) rfl (fun r10 hr10 => ?_)
          refine JR_if_eq (pc := 50) (tgt := 62) G dX10_goesWays_50 (by decide) (fun c12 => ?_) (fun c12 => ?_)
          · refine JR_iinc (pc := 62) (i := 5) (v := v5 + 1) (lv' := [(5, .int (v5 + 1)), (0, va_rf (some this)), (1, .int p1), (2, .int p2), (3, .int p3), (4, .int v4)]) G rfl (congrArg (fun z => v5 + z) (by decide)) (by decide) rfl dX10_goesWays_62 ?_
            refine JR_goto (pc := 65) (tgt := 32) G dX10_goesWays_65 (by decide) ?_
            refine J_sub [1, 2, 3, 4, 5, 0] rfl ?_
            exact ih v4 (v5 + 1) d
          · refine JR_aload_n (pc := 53) (k := 0) (i := 0) (o := some this) G rfl rfl dX10_goesWays_53 ?_
            refine JR_iload_n (pc := 54) (k := 1) (i := 1) G rfl rfl dX10_goesWays_54 ?_
            refine JR_iload (pc := 55) (i := 5) G rfl dX10_goesWays_55 ?_
            refine JR_iload (pc := 57) (i := 4) G rfl dX10_goesWays_57 ?_
            refine JQV_U (pc := 59) (as := [.int p1, .int v5, .int v4]) (st' := []) (o := some this) G (ihk this p1 v5 v4 S d) (JC_V (n := 3) G hRm cl_X10 q2070 q2072 qs99 q152 q2073 ⟨rfl, dd_X10_goesWays⟩ ⟨by omega, by omega⟩ dX10_goesWays_59 hz8 rfl (Nat.le_of_ble_eq_true rfl)) rfl (fun _ _ => rfl) (fun _ d11 hd11 => ?_)
            refine JR_iinc (pc := 62) (i := 5) (v := v5 + 1) (lv' := [(5, .int (v5 + 1)), (0, va_rf (some this)), (1, .int p1), (2, .int p2), (3, .int p3), (4, .int v4)]) G rfl (congrArg (fun z => v5 + z) (by decide)) (by decide) rfl dX10_goesWays_62 ?_
            refine JR_goto (pc := 65) (tgt := 32) G dX10_goesWays_65 (by decide) ?_
            refine J_sub [1, 2, 3, 4, 5, 0] rfl ?_
            exact ih v4 (v5 + 1) d11
    have hMo_goesWays_b27 : ∀ (v4 : Int32) (d : Dt), J X F Λw S d 27 [(0, va_rf (some this)), (1, .int p1), (2, .int p2), (3, .int p3), (4, .int v4)] [] (Mo_goesWays_b27 this p1 p2 p3 (Mo_goesWays k) S v4 d) := by
      intro v4 d
      unfold Mo_goesWays_b27
      refine JR_iload_n (pc := 27) (k := 2) (i := 2) G rfl rfl dX10_goesWays_27 ?_
      refine JR_iconst (pc := 28) G ci_1 dX10_goesWays_28 ?_
      refine JR_iadd (pc := 29) G dX10_goesWays_29 ?_
      refine J_nm (fun x7 hx7 => ?_)
      refine JR_istore (pc := 30) (i := 5) (lv' := [(5, .int x7), (0, va_rf (some this)), (1, .int p1), (2, .int p2), (3, .int p3), (4, .int v4)]) G (by decide) rfl dX10_goesWays_30 ?_
      refine J_sub [1, 2, 3, 4, 5, 0] rfl ?_
      exact hMo_goesWays_h32 FU v4 x7 d
    unfold Mo_goesWays
    refine JR_iload_n (pc := 0) (k := 3) (i := 3) G rfl rfl dX10_goesWays_0 ?_
    refine JR_iload_n (pc := 1) (k := 2) (i := 2) G rfl rfl dX10_goesWays_1 ?_
    refine JPS_I (pc := 2) (as := [.int p3, .int p2]) (st' := []) G (Mo_answered_fn p3 p2 S d) (JC_S (n := 2) G hRm q2063 q2064 q152 q2065 dd_X10_answered ⟨by omega, by omega⟩ dX10_goesWays_2 rfl (Nat.le_of_ble_eq_true rfl)) rfl (fun r1 hr1 => ?_)
    refine JR_istore (pc := 5) (i := 4) (lv' := [(4, .int r1), (0, va_rf (some this)), (1, .int p1), (2, .int p2), (3, .int p3)]) G (by decide) rfl dX10_goesWays_5 ?_
    refine JR_aload_n (pc := 7) (k := 0) (i := 0) (o := some this) G rfl rfl dX10_goesWays_7 ?_
    refine JR_iload_n (pc := 8) (k := 1) (i := 1) G rfl rfl dX10_goesWays_8 ?_
    refine JR_iload_n (pc := 9) (k := 2) (i := 2) G rfl rfl dX10_goesWays_9 ?_
    refine J_bd (fun z2 hz2 => ?_)
    refine JPV_I (pc := 10) (as := [.int p1, .int p2]) (st' := []) (o := some this) G (Mo_followers_fn this p1 p2 S d) (JC_V (n := 2) G hRm cl_X10 q1974 q1976 qs88 q152 q1977 ⟨rfl, dd_X10_followers⟩ ⟨by omega, by omega⟩ dX10_goesWays_10 hz2 rfl (Nat.le_of_ble_eq_true rfl)) rfl (fun r3 hr3 => ?_)
    refine JR_if_ne (pc := 13) (tgt := 27) G dX10_goesWays_13 (by decide) (fun c6 => ?_) (fun c6 => ?_)
    · refine J_sub [1, 2, 3, 4, 0] rfl ?_
      exact hMo_goesWays_b27 r1 d
    · refine JR_aload_n (pc := 16) (k := 0) (i := 0) (o := some this) G rfl rfl dX10_goesWays_16 ?_
      refine JR_gR (pc := 17) (k := 22) G cl_X10 in_X10 (by decide) (by decide) rfl (Or.inl rfl) q1610 hz2 dX10_goesWays_17 ?_
      refine JR_iload (pc := 20) (i := 4) G rfl dX10_goesWays_20 ?_
      refine JR_dup2 (pc := 22) G rfl (rf_cat _) dX10_goesWays_22 ?_
      refine J_bd (fun q4 hq4 => ?_)
      refine JR_iaload (pc := 23) G hq4 dX10_goesWays_23 ?_
      refine JR_iconst (pc := 24) G ci_1 dX10_goesWays_24 ?_
      refine JR_iadd (pc := 25) G dX10_goesWays_25 ?_
      refine JW_iastore (pc := 26) G hq4 (fun _ => rfl) dX10_goesWays_26 ?_
      refine J_nmD (fun d5 hd5 => ?_)
      refine J_sub [1, 2, 3, 4, 0] rfl ?_
      exact hMo_goesWays_b27 r1 d5

def Mo_alike_h56 (this : Nat) (p1 : Int32) (p2 : Int32) (S : Sp) : Nat → Int32 → Int32 → Dt → Option (Int32 × Dt)
  | 0, _, _, _ => none
  | f + 1, v3, v4, d =>
    if 64 ≤ v4 then
      some (v3, d)
    else
      (isK S 9 (some this)).bind fun z12 =>
      (aix S 50 (S.2.1 z12 22) v4).bind fun q13 =>
      (some (v3 + (((d.1 q13.1 q13.2) * ((d.1 q13.1 q13.2) - 1)) / 2))).bind fun x14 =>
      Mo_alike_h56 this p1 p2 S f x14 (v4 + 1) d
def Mo_alike_h25 (this : Nat) (p1 : Int32) (p2 : Int32) (S : Sp) : Nat → Int32 → Dt → Option (Int32 × Dt)
  | 0, _, _ => none
  | f + 1, v3, d =>
    if 64 ≤ v3 then
      (isK S 9 (some this)).bind fun z6 =>
      bind2 (Mo_goesWays 8 this p1 0 p2 S d) fun _ d7 =>
      Mo_alike_h56 this p1 p2 S FU 0 0 d7
    else
      (isK S 9 (some this)).bind fun z8 =>
      (aix S 50 (S.2.1 z8 22) v3).bind fun q9 =>
      (some (dI d q9.1 q9.2 0)).bind fun d10 =>
      Mo_alike_h25 this p1 p2 S f (v3 + 1) d10
def Mo_alike (this : Nat) (p1 : Int32) (p2 : Int32) (S : Sp) (d : Dt) : Option (Int32 × Dt) :=
  (isK S 9 (some this)).bind fun z1 =>
  (Mo_isTask this p1 S d).bind fun r2 =>
  if r2 = 0 then
    some ((-2), d)
  else
    (Mo_in (Int32.toInt64 p2) 0 63 S d).bind fun r3 =>
    if ¬ r3 = 0 then
      Mo_alike_h25 this p1 p2 S FU 0 d
    else
      some ((-2), d)
set_option maxHeartbeats 4000000 in
theorem Mo_alike_fn (this : Nat) (p1 : Int32) (p2 : Int32) (S : Sp) (d : Dt) : Fn yX10_alike (ws_ yX10_alike cX10_alike 5 (some .int)) 12 292 [va_rf (some this), .int p1, .int p2] S d rvI Λw (Mo_alike this p1 p2 S d) := by
  refine Fn.ofJ (own := RX10) (lv := [(0, va_rf (some this)), (1, .int p1), (2, .int p2)]) (by decide +kernel) rfl (by simp [cat_i, cat_l, cat_f, cat_d, rf_cat]) (by simp [lv_args, cat_i, cat_l, cat_f, cat_d, rf_cat]) ?_
  intro X F G hRm hR hI
  have hMo_alike_h56 : ∀ (f : Nat) (v3 : Int32) (v4 : Int32) (d : Dt), J X F Λw S d 56 [(0, va_rf (some this)), (1, .int p1), (2, .int p2), (3, .int v3), (4, .int v4)] [] (Mo_alike_h56 this p1 p2 S f v3 v4 d) := by
    intro  f
    induction f with
    | zero => intro v3 v4 d; exact J_no
    | succ f ih =>
      intro v3 v4 d
      unfold Mo_alike_h56
      refine JR_iload (pc := 56) (i := 4) G rfl dX10_alike_56 ?_
      refine JR_bipush (pc := 58) (v := 64) G (by decide) dX10_alike_58 ?_
      refine JR_icmp_ge (pc := 60) (tgt := 91) G dX10_alike_60 (by decide) (fun c15 => ?_) (fun c15 => ?_)
      · refine JR_iload_n (pc := 91) (k := 3) (i := 3) G rfl rfl dX10_alike_91 ?_
        exact JR_iret (pc := 92) G hR dX10_alike_92 rfl rfl
      · refine JR_iload_n (pc := 63) (k := 3) (i := 3) G rfl rfl dX10_alike_63 ?_
        refine JR_aload_n (pc := 64) (k := 0) (i := 0) (o := some this) G rfl rfl dX10_alike_64 ?_
        refine J_bd (fun z12 hz12 => ?_)
        refine JR_gR (pc := 65) (k := 22) G cl_X10 in_X10 (by decide) (by decide) rfl (Or.inl rfl) q1610 hz12 dX10_alike_65 ?_
        refine JR_iload (pc := 68) (i := 4) G rfl dX10_alike_68 ?_
        refine J_bd (fun q13 hq13 => ?_)
        refine JR_iaload (pc := 70) G hq13 dX10_alike_70 ?_
        refine JR_aload_n (pc := 71) (k := 0) (i := 0) (o := some this) G rfl rfl dX10_alike_71 ?_
        refine JR_gR (pc := 72) (k := 22) G cl_X10 in_X10 (by decide) (by decide) rfl (Or.inl rfl) q1610 hz12 dX10_alike_72 ?_
        refine JR_iload (pc := 75) (i := 4) G rfl dX10_alike_75 ?_
        refine JR_iaload (pc := 77) G hq13 dX10_alike_77 ?_
        refine JR_iconst (pc := 78) G ci_1 dX10_alike_78 ?_
        refine JR_isub (pc := 79) G dX10_alike_79 ?_
        refine JR_imul (pc := 80) G dX10_alike_80 ?_
        refine JR_iconst (pc := 81) G ci_2 dX10_alike_81 ?_
        refine JR_idiv (pc := 82) G (by decide) dX10_alike_82 ?_
        refine JR_iadd (pc := 83) G dX10_alike_83 ?_
        refine J_nm (fun x14 hx14 => ?_)
        refine JR_istore_n (pc := 84) (k := 3) (i := 3) (lv' := [(3, .int x14), (0, va_rf (some this)), (1, .int p1), (2, .int p2), (4, .int v4)]) G rfl (by decide) rfl dX10_alike_84 ?_
        refine JR_iinc (pc := 85) (i := 4) (v := v4 + 1) (lv' := [(4, .int (v4 + 1)), (3, .int x14), (0, va_rf (some this)), (1, .int p1), (2, .int p2)]) G rfl (congrArg (fun z => v4 + z) (by decide)) (by decide) rfl dX10_alike_85 ?_
        refine JR_goto (pc := 88) (tgt := 56) G dX10_alike_88 (by decide) ?_
        refine J_sub [2, 3, 4, 1, 0] rfl ?_
        exact ih x14 (v4 + 1) d
  have hMo_alike_h25 : ∀ (f : Nat) (v3 : Int32) (d : Dt), J X F Λw S d 25 [(0, va_rf (some this)), (1, .int p1), (2, .int p2), (3, .int v3)] [] (Mo_alike_h25 this p1 p2 S f v3 d) := by
    intro  f
    induction f with
    | zero => intro v3 d; exact J_no
    | succ f ih =>
      intro v3 d
      unfold Mo_alike_h25
      refine JR_iload_n (pc := 25) (k := 3) (i := 3) G rfl rfl dX10_alike_25 ?_
      refine JR_bipush (pc := 26) (v := 64) G (by decide) dX10_alike_26 ?_
      refine JR_icmp_ge (pc := 28) (tgt := 44) G dX10_alike_28 (by decide) (fun c11 => ?_) (fun c11 => ?_)
      · refine JR_aload_n (pc := 44) (k := 0) (i := 0) (o := some this) G rfl rfl dX10_alike_44 ?_
        refine JR_iload_n (pc := 45) (k := 1) (i := 1) G rfl rfl dX10_alike_45 ?_
        refine JR_iconst (pc := 46) G ci_0 dX10_alike_46 ?_
        refine JR_iload_n (pc := 47) (k := 2) (i := 2) G rfl rfl dX10_alike_47 ?_
        refine J_bd (fun z6 hz6 => ?_)
        refine JQV_U (pc := 48) (as := [.int p1, .int 0, .int p2]) (st' := []) (o := some this) G (Mo_goesWays_fn 8 this p1 0 p2 S d) (JC_V (n := 3) G hRm cl_X10 q2070 q2072 qs99 q152 q2073 ⟨rfl, dd_X10_goesWays⟩ ⟨by decide, by decide⟩ dX10_alike_48 hz6 rfl (Nat.le_of_ble_eq_true rfl)) rfl (fun _ _ => rfl) (fun _ d7 hd7 => ?_)
        refine JR_iconst (pc := 51) G ci_0 dX10_alike_51 ?_
        refine JR_istore_n (pc := 52) (k := 3) (i := 3) (lv' := [(3, .int 0), (0, va_rf (some this)), (1, .int p1), (2, .int p2)]) G rfl (by decide) rfl dX10_alike_52 ?_
        refine JR_iconst (pc := 53) G ci_0 dX10_alike_53 ?_
        refine JR_istore (pc := 54) (i := 4) (lv' := [(4, .int 0), (3, .int 0), (0, va_rf (some this)), (1, .int p1), (2, .int p2)]) G (by decide) rfl dX10_alike_54 ?_
        refine J_sub [2, 3, 4, 1, 0] rfl ?_
        exact hMo_alike_h56 FU 0 0 d7
      · refine JR_aload_n (pc := 31) (k := 0) (i := 0) (o := some this) G rfl rfl dX10_alike_31 ?_
        refine J_bd (fun z8 hz8 => ?_)
        refine JR_gR (pc := 32) (k := 22) G cl_X10 in_X10 (by decide) (by decide) rfl (Or.inl rfl) q1610 hz8 dX10_alike_32 ?_
        refine JR_iload_n (pc := 35) (k := 3) (i := 3) G rfl rfl dX10_alike_35 ?_
        refine JR_iconst (pc := 36) G ci_0 dX10_alike_36 ?_
        refine J_bd (fun q9 hq9 => ?_)
        refine JW_iastore (pc := 37) G hq9 (fun _ => rfl) dX10_alike_37 ?_
        refine J_nmD (fun d10 hd10 => ?_)
        refine JR_iinc (pc := 38) (i := 3) (v := v3 + 1) (lv' := [(3, .int (v3 + 1)), (0, va_rf (some this)), (1, .int p1), (2, .int p2)]) G rfl (congrArg (fun z => v3 + z) (by decide)) (by decide) rfl dX10_alike_38 ?_
        refine JR_goto (pc := 41) (tgt := 25) G dX10_alike_41 (by decide) ?_
        refine J_sub [1, 2, 3, 0] rfl ?_
        exact ih (v3 + 1) d10
  unfold Mo_alike
  refine JR_aload_n (pc := 0) (k := 0) (i := 0) (o := some this) G rfl rfl dX10_alike_0 ?_
  refine JR_iload_n (pc := 1) (k := 1) (i := 1) G rfl rfl dX10_alike_1 ?_
  refine J_bd (fun z1 hz1 => ?_)
  refine JPV_I (pc := 2) (as := [.int p1]) (st' := []) (o := some this) G (Mo_isTask_fn this p1 S d) (JC_V (n := 1) G hRm cl_X10 q1916 q1918 qs78 q152 q1919 ⟨rfl, dd_X10_isTask⟩ ⟨by decide, by decide⟩ dX10_alike_2 hz1 rfl (Nat.le_of_ble_eq_true rfl)) rfl (fun r2 hr2 => ?_)
  refine JR_if_eq (pc := 5) (tgt := 20) G dX10_alike_5 (by decide) (fun c5 => ?_) (fun c5 => ?_)
  · refine JR_bipush (pc := 20) (v := (-2)) G (by decide) dX10_alike_20 ?_
    exact JR_iret (pc := 22) G hR dX10_alike_22 rfl rfl
  · refine JR_iload_n (pc := 8) (k := 2) (i := 2) G rfl rfl dX10_alike_8 ?_
    refine JR_i2l (pc := 9) G dX10_alike_9 ?_
    refine JR_lconst (pc := 10) G cl_0 dX10_alike_10 ?_
    refine JR_ldc2 (pc := 11) G q2062 dX10_alike_11 ?_
    refine JPS_I (pc := 14) (as := [.long (Int32.toInt64 p2), .long 0, .long 63]) (st' := []) G (Mo_in_fn (Int32.toInt64 p2) 0 63 S d) (JC_S (n := 3) G hRm q1782 q1783 q152 q1784 dd_X10_in ⟨by decide, by decide⟩ dX10_alike_14 rfl (Nat.le_of_ble_eq_true rfl)) rfl (fun r3 hr3 => ?_)
    refine JR_if_ne (pc := 17) (tgt := 23) G dX10_alike_17 (by decide) (fun c4 => ?_) (fun c4 => ?_)
    · refine JR_iconst (pc := 23) G ci_0 dX10_alike_23 ?_
      refine JR_istore_n (pc := 24) (k := 3) (i := 3) (lv' := [(3, .int 0), (0, va_rf (some this)), (1, .int p1), (2, .int p2)]) G rfl (by decide) rfl dX10_alike_24 ?_
      refine J_sub [1, 2, 3, 0] rfl ?_
      exact hMo_alike_h25 FU 0 d
    · refine JR_bipush (pc := 20) (v := (-2)) G (by decide) dX10_alike_20 ?_
      exact JR_iret (pc := 22) G hR dX10_alike_22 rfl rfl

def Mo_asTold (this : Nat) (S : Sp) (d : Dt) : Option (Unit × Dt) :=
  (isK S 9 (some this)).bind fun z1 =>
  (some (dI d z1 23 ((-1)))).bind fun d2 =>
  (some (dI d2 z1 24 ((-1)))).bind fun d3 =>
  (some (dI d3 z1 27 0)).bind fun d4 =>
  some ((), d4)
set_option maxHeartbeats 4000000 in
theorem Mo_asTold_fn (this : Nat) (S : Sp) (d : Dt) : Fn yX10_asTold (ws_ yX10_asTold cX10_asTold 1 none) 0 0 [va_rf (some this)] S d rvU Λw (Mo_asTold this S d) := by
  refine Fn.ofJ (own := RX10) (lv := [(0, va_rf (some this))]) (by decide +kernel) rfl (by simp [cat_i, cat_l, cat_f, cat_d, rf_cat]) (by simp [lv_args, cat_i, cat_l, cat_f, cat_d, rf_cat]) ?_
  intro X F G hRm hR hI
  unfold Mo_asTold
  refine JR_aload_n (pc := 0) (k := 0) (i := 0) (o := some this) G rfl rfl dX10_asTold_0 ?_
  refine JR_iconst (pc := 1) G ci_m1 dX10_asTold_1 ?_
  refine J_bd (fun z1 hz1 => ?_)
  refine JW_pI (pc := 2) (k := 23) G cl_X10 in_X10 tyX10_ok nmX10 (by decide) (by decide) rfl (Or.inl rfl) rfl q1611 rfl rfl hz1 (fun _ => rfl) dX10_asTold_2 ?_
  refine J_nmD (fun d2 hd2 => ?_)
  refine JR_aload_n (pc := 5) (k := 0) (i := 0) (o := some this) G rfl rfl dX10_asTold_5 ?_
  refine JR_iconst (pc := 6) G ci_m1 dX10_asTold_6 ?_
  refine JW_pI (pc := 7) (k := 24) G cl_X10 in_X10 tyX10_ok nmX10 (by decide) (by decide) rfl (Or.inl rfl) rfl q1612 rfl rfl hz1 (fun _ => rfl) dX10_asTold_7 ?_
  refine J_nmD (fun d3 hd3 => ?_)
  refine JR_aload_n (pc := 10) (k := 0) (i := 0) (o := some this) G rfl rfl dX10_asTold_10 ?_
  refine JR_iconst (pc := 11) G ci_0 dX10_asTold_11 ?_
  refine JW_pI (pc := 12) (k := 27) G cl_X10 in_X10 tyX10_ok nmX10 (by decide) (by decide) rfl (Or.inl rfl) rfl q1615 rfl rfl hz1 (fun _ => rfl) dX10_asTold_12 ?_
  refine J_nmD (fun d4 hd4 => ?_)
  exact JR_vret (pc := 15) G hR dX10_asTold_15 rfl rfl

def Mo_beginRun_h190 (this : Nat) (S : Sp) : Nat → Int32 → Dt → Option (Unit × Dt)
  | 0, _, _ => none
  | f + 1, v1, d =>
    if 200 ≤ v1 then
      (isK S 9 (some this)).bind fun z47 =>
      (some (dI d z47 56 0)).bind fun d48 =>
      (some (dI d48 z47 57 0)).bind fun d49 =>
      (some (dI d49 z47 59 ((-1)))).bind fun d50 =>
      some ((), d50)
    else
      (isK S 9 (some this)).bind fun z51 =>
      (aix S 50 (S.2.1 z51 51) v1).bind fun q52 =>
      (some (dI d q52.1 q52.2 ((-1)))).bind fun d53 =>
      Mo_beginRun_h190 this S f (v1 + 1) d53
def Mo_beginRun_h163 (this : Nat) (S : Sp) : Nat → Int32 → Dt → Option (Unit × Dt)
  | 0, _, _ => none
  | f + 1, v1, d =>
    if 3 ≤ v1 then
      Mo_beginRun_h190 this S FU 0 d
    else
      (isK S 9 (some this)).bind fun z41 =>
      (aix S 51 (S.2.1 z41 49) v1).bind fun q42 =>
      (some (dI d q42.1 q42.2 (vp_nar .boolean 0))).bind fun d43 =>
      (aix S 51 (S.2.1 z41 50) v1).bind fun q44 =>
      (some (dI d43 q44.1 q44.2 (vp_nar .boolean 0))).bind fun d45 =>
      Mo_beginRun_h163 this S f (v1 + 1) d45
def Mo_beginRun_h142 (this : Nat) (S : Sp) : Nat → Int32 → Dt → Option (Unit × Dt)
  | 0, _, _ => none
  | f + 1, v1, d =>
    if 18 < v1 then
      Mo_beginRun_h163 this S FU 0 d
    else
      (isK S 9 (some this)).bind fun z37 =>
      (aix S 51 (S.2.1 z37 48) v1).bind fun q38 =>
      (some (dI d q38.1 q38.2 (vp_nar .boolean 0))).bind fun d39 =>
      Mo_beginRun_h142 this S f (v1 + 1) d39
def Mo_beginRun_h120 (this : Nat) (S : Sp) : Nat → Int32 → Dt → Option (Unit × Dt)
  | 0, _, _ => none
  | f + 1, v1, d =>
    if 255 ≤ v1 then
      Mo_beginRun_h142 this S FU 0 d
    else
      (isK S 9 (some this)).bind fun z33 =>
      (aix S 50 (S.2.1 z33 47) v1).bind fun q34 =>
      (some (dI d q34.1 q34.2 ((-1)))).bind fun d35 =>
      Mo_beginRun_h120 this S f (v1 + 1) d35
def Mo_beginRun_h2 (this : Nat) (S : Sp) : Nat → Int32 → Dt → Option (Unit × Dt)
  | 0, _, _ => none
  | f + 1, v1, d =>
    if 5 ≤ v1 then
      Mo_beginRun_h120 this S FU 0 d
    else
      (isK S 9 (some this)).bind fun z1 =>
      (aix S 50 (S.2.1 z1 28) v1).bind fun q2 =>
      (some (dI d q2.1 q2.2 0)).bind fun d3 =>
      (aix S 50 (S.2.1 z1 29) v1).bind fun q4 =>
      (some (dI d3 q4.1 q4.2 ((-1)))).bind fun d5 =>
      (aix S 50 (S.2.1 z1 30) v1).bind fun q6 =>
      (some (dI d5 q6.1 q6.2 0)).bind fun d7 =>
      (aix S 50 (S.2.1 z1 33) v1).bind fun q8 =>
      (some (dI d7 q8.1 q8.2 1)).bind fun d9 =>
      (aix S 50 (S.2.1 z1 34) v1).bind fun q10 =>
      (some (dI d9 q10.1 q10.2 ((-1)))).bind fun d11 =>
      (aix S 51 (S.2.1 z1 35) v1).bind fun q12 =>
      (some (dI d11 q12.1 q12.2 (vp_nar .boolean 0))).bind fun d13 =>
      (aix S 50 (S.2.1 z1 36) v1).bind fun q14 =>
      (some (dI d13 q14.1 q14.2 0)).bind fun d15 =>
      (aix S 50 (S.2.1 z1 37) v1).bind fun q16 =>
      (some (dI d15 q16.1 q16.2 0)).bind fun d17 =>
      (aix S 53 (S.2.1 z1 38) v1).bind fun q18 =>
      (some (dF d17 q18.1 q18.2 FP.fconst1)).bind fun d19 =>
      (aix S 50 (S.2.1 z1 39) v1).bind fun q20 =>
      (some (dI d19 q20.1 q20.2 0)).bind fun d21 =>
      (aix S 51 (S.2.1 z1 40) v1).bind fun q22 =>
      (some (dI d21 q22.1 q22.2 (vp_nar .boolean 0))).bind fun d23 =>
      (aix S 50 (S.2.1 z1 41) v1).bind fun q24 =>
      (some (dI d23 q24.1 q24.2 0)).bind fun d25 =>
      (aix S 50 (S.2.1 z1 42) v1).bind fun q26 =>
      (some (dI d25 q26.1 q26.2 ((-1)))).bind fun d27 =>
      (aix S 54 (S.2.1 z1 44) v1).bind fun q28 =>
      (some (dD d27 q28.1 q28.2 FP.dconst0)).bind fun d29 =>
      (aix S 50 (S.2.1 z1 45) v1).bind fun q30 =>
      (some (dI d29 q30.1 q30.2 0)).bind fun d31 =>
      Mo_beginRun_h2 this S f (v1 + 1) d31
def Mo_beginRun (this : Nat) (S : Sp) (d : Dt) : Option (Unit × Dt) :=
  Mo_beginRun_h2 this S FU 0 d
set_option maxHeartbeats 4000000 in
theorem Mo_beginRun_fn (this : Nat) (S : Sp) (d : Dt) : Fn yX10_beginRun (ws_ yX10_beginRun cX10_beginRun 2 none) 0 0 [va_rf (some this)] S d rvU Λw (Mo_beginRun this S d) := by
  refine Fn.ofJ (own := RX10) (lv := [(0, va_rf (some this))]) (by decide +kernel) rfl (by simp [cat_i, cat_l, cat_f, cat_d, rf_cat]) (by simp [lv_args, cat_i, cat_l, cat_f, cat_d, rf_cat]) ?_
  intro X F G hRm hR hI
  have hMo_beginRun_h190 : ∀ (f : Nat) (v1 : Int32) (d : Dt), J X F Λw S d 190 [(0, va_rf (some this)), (1, .int v1)] [] (Mo_beginRun_h190 this S f v1 d) := by
    intro  f
    induction f with
    | zero => intro v1 d; exact J_no
    | succ f ih =>
      intro v1 d
      unfold Mo_beginRun_h190
      refine JR_iload_n (pc := 190) (k := 1) (i := 1) G rfl rfl dX10_beginRun_190 ?_
      refine JR_sipush (pc := 191) (v := 200) G (by decide) dX10_beginRun_191 ?_
      refine JR_icmp_ge (pc := 194) (tgt := 210) G dX10_beginRun_194 (by decide) (fun c54 => ?_) (fun c54 => ?_)
      · refine JR_aload_n (pc := 210) (k := 0) (i := 0) (o := some this) G rfl rfl dX10_beginRun_210 ?_
        refine JR_iconst (pc := 211) G ci_0 dX10_beginRun_211 ?_
        refine J_bd (fun z47 hz47 => ?_)
        refine JW_pI (pc := 212) (k := 56) G cl_X10 in_X10 tyX10_ok nmX10 (by decide) (by decide) rfl (Or.inl rfl) rfl q1644 rfl rfl hz47 (fun _ => rfl) dX10_beginRun_212 ?_
        refine J_nmD (fun d48 hd48 => ?_)
        refine JR_aload_n (pc := 215) (k := 0) (i := 0) (o := some this) G rfl rfl dX10_beginRun_215 ?_
        refine JR_iconst (pc := 216) G ci_0 dX10_beginRun_216 ?_
        refine JW_pI (pc := 217) (k := 57) G cl_X10 in_X10 tyX10_ok nmX10 (by decide) (by decide) rfl (Or.inl rfl) rfl q1645 rfl rfl hz47 (fun _ => rfl) dX10_beginRun_217 ?_
        refine J_nmD (fun d49 hd49 => ?_)
        refine JR_aload_n (pc := 220) (k := 0) (i := 0) (o := some this) G rfl rfl dX10_beginRun_220 ?_
        refine JR_iconst (pc := 221) G ci_m1 dX10_beginRun_221 ?_
        refine JW_pI (pc := 222) (k := 59) G cl_X10 in_X10 tyX10_ok nmX10 (by decide) (by decide) rfl (Or.inl rfl) rfl q1647 rfl rfl hz47 (fun _ => rfl) dX10_beginRun_222 ?_
        refine J_nmD (fun d50 hd50 => ?_)
        exact JR_vret (pc := 225) G hR dX10_beginRun_225 rfl rfl
      · refine JR_aload_n (pc := 197) (k := 0) (i := 0) (o := some this) G rfl rfl dX10_beginRun_197 ?_
        refine J_bd (fun z51 hz51 => ?_)
        refine JR_gR (pc := 198) (k := 51) G cl_X10 in_X10 (by decide) (by decide) rfl (Or.inl rfl) q1639 hz51 dX10_beginRun_198 ?_
        refine JR_iload_n (pc := 201) (k := 1) (i := 1) G rfl rfl dX10_beginRun_201 ?_
        refine JR_iconst (pc := 202) G ci_m1 dX10_beginRun_202 ?_
        refine J_bd (fun q52 hq52 => ?_)
        refine JW_iastore (pc := 203) G hq52 (fun _ => rfl) dX10_beginRun_203 ?_
        refine J_nmD (fun d53 hd53 => ?_)
        refine JR_iinc (pc := 204) (i := 1) (v := v1 + 1) (lv' := [(1, .int (v1 + 1)), (0, va_rf (some this))]) G rfl (congrArg (fun z => v1 + z) (by decide)) (by decide) rfl dX10_beginRun_204 ?_
        refine JR_goto (pc := 207) (tgt := 190) G dX10_beginRun_207 (by decide) ?_
        refine J_sub [1, 0] rfl ?_
        exact ih (v1 + 1) d53
  have hMo_beginRun_h163 : ∀ (f : Nat) (v1 : Int32) (d : Dt), J X F Λw S d 163 [(0, va_rf (some this)), (1, .int v1)] [] (Mo_beginRun_h163 this S f v1 d) := by
    intro  f
    induction f with
    | zero => intro v1 d; exact J_no
    | succ f ih =>
      intro v1 d
      unfold Mo_beginRun_h163
      refine JR_iload_n (pc := 163) (k := 1) (i := 1) G rfl rfl dX10_beginRun_163 ?_
      refine JR_iconst (pc := 164) G ci_3 dX10_beginRun_164 ?_
      refine JR_icmp_ge (pc := 165) (tgt := 188) G dX10_beginRun_165 (by decide) (fun c46 => ?_) (fun c46 => ?_)
      · refine JR_iconst (pc := 188) G ci_0 dX10_beginRun_188 ?_
        refine JR_istore_n (pc := 189) (k := 1) (i := 1) (lv' := [(1, .int 0), (0, va_rf (some this))]) G rfl (by decide) rfl dX10_beginRun_189 ?_
        refine J_sub [1, 0] rfl ?_
        exact hMo_beginRun_h190 FU 0 d
      · refine JR_aload_n (pc := 168) (k := 0) (i := 0) (o := some this) G rfl rfl dX10_beginRun_168 ?_
        refine J_bd (fun z41 hz41 => ?_)
        refine JR_gR (pc := 169) (k := 49) G cl_X10 in_X10 (by decide) (by decide) rfl (Or.inl rfl) q1637 hz41 dX10_beginRun_169 ?_
        refine JR_iload_n (pc := 172) (k := 1) (i := 1) G rfl rfl dX10_beginRun_172 ?_
        refine JR_iconst (pc := 173) G ci_0 dX10_beginRun_173 ?_
        refine J_bd (fun q42 hq42 => ?_)
        refine JW_zastore (pc := 174) G hq42 (fun _ => rfl) dX10_beginRun_174 ?_
        refine J_nmD (fun d43 hd43 => ?_)
        refine JR_aload_n (pc := 175) (k := 0) (i := 0) (o := some this) G rfl rfl dX10_beginRun_175 ?_
        refine JR_gR (pc := 176) (k := 50) G cl_X10 in_X10 (by decide) (by decide) rfl (Or.inl rfl) q1638 hz41 dX10_beginRun_176 ?_
        refine JR_iload_n (pc := 179) (k := 1) (i := 1) G rfl rfl dX10_beginRun_179 ?_
        refine JR_iconst (pc := 180) G ci_0 dX10_beginRun_180 ?_
        refine J_bd (fun q44 hq44 => ?_)
        refine JW_zastore (pc := 181) G hq44 (fun _ => rfl) dX10_beginRun_181 ?_
        refine J_nmD (fun d45 hd45 => ?_)
        refine JR_iinc (pc := 182) (i := 1) (v := v1 + 1) (lv' := [(1, .int (v1 + 1)), (0, va_rf (some this))]) G rfl (congrArg (fun z => v1 + z) (by decide)) (by decide) rfl dX10_beginRun_182 ?_
        refine JR_goto (pc := 185) (tgt := 163) G dX10_beginRun_185 (by decide) ?_
        refine J_sub [1, 0] rfl ?_
        exact ih (v1 + 1) d45
  have hMo_beginRun_h142 : ∀ (f : Nat) (v1 : Int32) (d : Dt), J X F Λw S d 142 [(0, va_rf (some this)), (1, .int v1)] [] (Mo_beginRun_h142 this S f v1 d) := by
    intro  f
    induction f with
    | zero => intro v1 d; exact J_no
    | succ f ih =>
      intro v1 d
      unfold Mo_beginRun_h142
      refine JR_iload_n (pc := 142) (k := 1) (i := 1) G rfl rfl dX10_beginRun_142 ?_
      refine JR_bipush (pc := 143) (v := 18) G (by decide) dX10_beginRun_143 ?_
      refine JR_icmp_gt (pc := 145) (tgt := 161) G dX10_beginRun_145 (by decide) (fun c40 => ?_) (fun c40 => ?_)
      · refine JR_iconst (pc := 161) G ci_0 dX10_beginRun_161 ?_
        refine JR_istore_n (pc := 162) (k := 1) (i := 1) (lv' := [(1, .int 0), (0, va_rf (some this))]) G rfl (by decide) rfl dX10_beginRun_162 ?_
        refine J_sub [1, 0] rfl ?_
        exact hMo_beginRun_h163 FU 0 d
      · refine JR_aload_n (pc := 148) (k := 0) (i := 0) (o := some this) G rfl rfl dX10_beginRun_148 ?_
        refine J_bd (fun z37 hz37 => ?_)
        refine JR_gR (pc := 149) (k := 48) G cl_X10 in_X10 (by decide) (by decide) rfl (Or.inl rfl) q1636 hz37 dX10_beginRun_149 ?_
        refine JR_iload_n (pc := 152) (k := 1) (i := 1) G rfl rfl dX10_beginRun_152 ?_
        refine JR_iconst (pc := 153) G ci_0 dX10_beginRun_153 ?_
        refine J_bd (fun q38 hq38 => ?_)
        refine JW_zastore (pc := 154) G hq38 (fun _ => rfl) dX10_beginRun_154 ?_
        refine J_nmD (fun d39 hd39 => ?_)
        refine JR_iinc (pc := 155) (i := 1) (v := v1 + 1) (lv' := [(1, .int (v1 + 1)), (0, va_rf (some this))]) G rfl (congrArg (fun z => v1 + z) (by decide)) (by decide) rfl dX10_beginRun_155 ?_
        refine JR_goto (pc := 158) (tgt := 142) G dX10_beginRun_158 (by decide) ?_
        refine J_sub [1, 0] rfl ?_
        exact ih (v1 + 1) d39
  have hMo_beginRun_h120 : ∀ (f : Nat) (v1 : Int32) (d : Dt), J X F Λw S d 120 [(0, va_rf (some this)), (1, .int v1)] [] (Mo_beginRun_h120 this S f v1 d) := by
    intro  f
    induction f with
    | zero => intro v1 d; exact J_no
    | succ f ih =>
      intro v1 d
      unfold Mo_beginRun_h120
      refine JR_iload_n (pc := 120) (k := 1) (i := 1) G rfl rfl dX10_beginRun_120 ?_
      refine JR_sipush (pc := 121) (v := 255) G (by decide) dX10_beginRun_121 ?_
      refine JR_icmp_ge (pc := 124) (tgt := 140) G dX10_beginRun_124 (by decide) (fun c36 => ?_) (fun c36 => ?_)
      · refine JR_iconst (pc := 140) G ci_0 dX10_beginRun_140 ?_
        refine JR_istore_n (pc := 141) (k := 1) (i := 1) (lv' := [(1, .int 0), (0, va_rf (some this))]) G rfl (by decide) rfl dX10_beginRun_141 ?_
        refine J_sub [1, 0] rfl ?_
        exact hMo_beginRun_h142 FU 0 d
      · refine JR_aload_n (pc := 127) (k := 0) (i := 0) (o := some this) G rfl rfl dX10_beginRun_127 ?_
        refine J_bd (fun z33 hz33 => ?_)
        refine JR_gR (pc := 128) (k := 47) G cl_X10 in_X10 (by decide) (by decide) rfl (Or.inl rfl) q1635 hz33 dX10_beginRun_128 ?_
        refine JR_iload_n (pc := 131) (k := 1) (i := 1) G rfl rfl dX10_beginRun_131 ?_
        refine JR_iconst (pc := 132) G ci_m1 dX10_beginRun_132 ?_
        refine J_bd (fun q34 hq34 => ?_)
        refine JW_iastore (pc := 133) G hq34 (fun _ => rfl) dX10_beginRun_133 ?_
        refine J_nmD (fun d35 hd35 => ?_)
        refine JR_iinc (pc := 134) (i := 1) (v := v1 + 1) (lv' := [(1, .int (v1 + 1)), (0, va_rf (some this))]) G rfl (congrArg (fun z => v1 + z) (by decide)) (by decide) rfl dX10_beginRun_134 ?_
        refine JR_goto (pc := 137) (tgt := 120) G dX10_beginRun_137 (by decide) ?_
        refine J_sub [1, 0] rfl ?_
        exact ih (v1 + 1) d35
  have hMo_beginRun_h2 : ∀ (f : Nat) (v1 : Int32) (d : Dt), J X F Λw S d 2 [(0, va_rf (some this)), (1, .int v1)] [] (Mo_beginRun_h2 this S f v1 d) := by
    intro  f
    induction f with
    | zero => intro v1 d; exact J_no
    | succ f ih =>
      intro v1 d
      unfold Mo_beginRun_h2
      refine JR_iload_n (pc := 2) (k := 1) (i := 1) G rfl rfl dX10_beginRun_2 ?_
      refine JR_iconst (pc := 3) G ci_5 dX10_beginRun_3 ?_
      refine JR_icmp_ge (pc := 4) (tgt := 118) G dX10_beginRun_4 (by decide) (fun c32 => ?_) (fun c32 => ?_)
      · refine JR_iconst (pc := 118) G ci_0 dX10_beginRun_118 ?_
        refine JR_istore_n (pc := 119) (k := 1) (i := 1) (lv' := [(1, .int 0), (0, va_rf (some this))]) G rfl (by decide) rfl dX10_beginRun_119 ?_
        refine J_sub [1, 0] rfl ?_
        exact hMo_beginRun_h120 FU 0 d
      · refine JR_aload_n (pc := 7) (k := 0) (i := 0) (o := some this) G rfl rfl dX10_beginRun_7 ?_
        refine J_bd (fun z1 hz1 => ?_)
        refine JR_gR (pc := 8) (k := 28) G cl_X10 in_X10 (by decide) (by decide) rfl (Or.inl rfl) q1616 hz1 dX10_beginRun_8 ?_
        refine JR_iload_n (pc := 11) (k := 1) (i := 1) G rfl rfl dX10_beginRun_11 ?_
        refine JR_iconst (pc := 12) G ci_0 dX10_beginRun_12 ?_
        refine J_bd (fun q2 hq2 => ?_)
        refine JW_iastore (pc := 13) G hq2 (fun _ => rfl) dX10_beginRun_13 ?_
        refine J_nmD (fun d3 hd3 => ?_)
        refine JR_aload_n (pc := 14) (k := 0) (i := 0) (o := some this) G rfl rfl dX10_beginRun_14 ?_
        refine JR_gR (pc := 15) (k := 29) G cl_X10 in_X10 (by decide) (by decide) rfl (Or.inl rfl) q1617 hz1 dX10_beginRun_15 ?_
        refine JR_iload_n (pc := 18) (k := 1) (i := 1) G rfl rfl dX10_beginRun_18 ?_
        refine JR_iconst (pc := 19) G ci_m1 dX10_beginRun_19 ?_
        refine J_bd (fun q4 hq4 => ?_)
        refine JW_iastore (pc := 20) G hq4 (fun _ => rfl) dX10_beginRun_20 ?_
        refine J_nmD (fun d5 hd5 => ?_)
        refine JR_aload_n (pc := 21) (k := 0) (i := 0) (o := some this) G rfl rfl dX10_beginRun_21 ?_
        refine JR_gR (pc := 22) (k := 30) G cl_X10 in_X10 (by decide) (by decide) rfl (Or.inl rfl) q1618 hz1 dX10_beginRun_22 ?_
        refine JR_iload_n (pc := 25) (k := 1) (i := 1) G rfl rfl dX10_beginRun_25 ?_
        refine JR_iconst (pc := 26) G ci_0 dX10_beginRun_26 ?_
        refine J_bd (fun q6 hq6 => ?_)
        refine JW_iastore (pc := 27) G hq6 (fun _ => rfl) dX10_beginRun_27 ?_
        refine J_nmD (fun d7 hd7 => ?_)
        refine JR_aload_n (pc := 28) (k := 0) (i := 0) (o := some this) G rfl rfl dX10_beginRun_28 ?_
        refine JR_gR (pc := 29) (k := 33) G cl_X10 in_X10 (by decide) (by decide) rfl (Or.inl rfl) q1621 hz1 dX10_beginRun_29 ?_
        refine JR_iload_n (pc := 32) (k := 1) (i := 1) G rfl rfl dX10_beginRun_32 ?_
        refine JR_iconst (pc := 33) G ci_1 dX10_beginRun_33 ?_
        refine J_bd (fun q8 hq8 => ?_)
        refine JW_iastore (pc := 34) G hq8 (fun _ => rfl) dX10_beginRun_34 ?_
        refine J_nmD (fun d9 hd9 => ?_)
        refine JR_aload_n (pc := 35) (k := 0) (i := 0) (o := some this) G rfl rfl dX10_beginRun_35 ?_
        refine JR_gR (pc := 36) (k := 34) G cl_X10 in_X10 (by decide) (by decide) rfl (Or.inl rfl) q1622 hz1 dX10_beginRun_36 ?_
        refine JR_iload_n (pc := 39) (k := 1) (i := 1) G rfl rfl dX10_beginRun_39 ?_
        refine JR_iconst (pc := 40) G ci_m1 dX10_beginRun_40 ?_
        refine J_bd (fun q10 hq10 => ?_)
        refine JW_iastore (pc := 41) G hq10 (fun _ => rfl) dX10_beginRun_41 ?_
        refine J_nmD (fun d11 hd11 => ?_)
        refine JR_aload_n (pc := 42) (k := 0) (i := 0) (o := some this) G rfl rfl dX10_beginRun_42 ?_
        refine JR_gR (pc := 43) (k := 35) G cl_X10 in_X10 (by decide) (by decide) rfl (Or.inl rfl) q1623 hz1 dX10_beginRun_43 ?_
        refine JR_iload_n (pc := 46) (k := 1) (i := 1) G rfl rfl dX10_beginRun_46 ?_
        refine JR_iconst (pc := 47) G ci_0 dX10_beginRun_47 ?_
        refine J_bd (fun q12 hq12 => ?_)
        refine JW_zastore (pc := 48) G hq12 (fun _ => rfl) dX10_beginRun_48 ?_
        refine J_nmD (fun d13 hd13 => ?_)
        refine JR_aload_n (pc := 49) (k := 0) (i := 0) (o := some this) G rfl rfl dX10_beginRun_49 ?_
        refine JR_gR (pc := 50) (k := 36) G cl_X10 in_X10 (by decide) (by decide) rfl (Or.inl rfl) q1624 hz1 dX10_beginRun_50 ?_
        refine JR_iload_n (pc := 53) (k := 1) (i := 1) G rfl rfl dX10_beginRun_53 ?_
        refine JR_iconst (pc := 54) G ci_0 dX10_beginRun_54 ?_
        refine J_bd (fun q14 hq14 => ?_)
        refine JW_iastore (pc := 55) G hq14 (fun _ => rfl) dX10_beginRun_55 ?_
        refine J_nmD (fun d15 hd15 => ?_)
        refine JR_aload_n (pc := 56) (k := 0) (i := 0) (o := some this) G rfl rfl dX10_beginRun_56 ?_
        refine JR_gR (pc := 57) (k := 37) G cl_X10 in_X10 (by decide) (by decide) rfl (Or.inl rfl) q1625 hz1 dX10_beginRun_57 ?_
        refine JR_iload_n (pc := 60) (k := 1) (i := 1) G rfl rfl dX10_beginRun_60 ?_
        refine JR_iconst (pc := 61) G ci_0 dX10_beginRun_61 ?_
        refine J_bd (fun q16 hq16 => ?_)
        refine JW_iastore (pc := 62) G hq16 (fun _ => rfl) dX10_beginRun_62 ?_
        refine J_nmD (fun d17 hd17 => ?_)
        refine JR_aload_n (pc := 63) (k := 0) (i := 0) (o := some this) G rfl rfl dX10_beginRun_63 ?_
        refine JR_gR (pc := 64) (k := 38) G cl_X10 in_X10 (by decide) (by decide) rfl (Or.inl rfl) q1626 hz1 dX10_beginRun_64 ?_
        refine JR_iload_n (pc := 67) (k := 1) (i := 1) G rfl rfl dX10_beginRun_67 ?_
        refine JR_fconst1 (pc := 68) G dX10_beginRun_68 ?_
        refine J_bd (fun q18 hq18 => ?_)
        refine JW_fastore (pc := 69) G hq18 (fun _ => rfl) dX10_beginRun_69 ?_
        refine J_nmD (fun d19 hd19 => ?_)
        refine JR_aload_n (pc := 70) (k := 0) (i := 0) (o := some this) G rfl rfl dX10_beginRun_70 ?_
        refine JR_gR (pc := 71) (k := 39) G cl_X10 in_X10 (by decide) (by decide) rfl (Or.inl rfl) q1627 hz1 dX10_beginRun_71 ?_
        refine JR_iload_n (pc := 74) (k := 1) (i := 1) G rfl rfl dX10_beginRun_74 ?_
        refine JR_iconst (pc := 75) G ci_0 dX10_beginRun_75 ?_
        refine J_bd (fun q20 hq20 => ?_)
        refine JW_iastore (pc := 76) G hq20 (fun _ => rfl) dX10_beginRun_76 ?_
        refine J_nmD (fun d21 hd21 => ?_)
        refine JR_aload_n (pc := 77) (k := 0) (i := 0) (o := some this) G rfl rfl dX10_beginRun_77 ?_
        refine JR_gR (pc := 78) (k := 40) G cl_X10 in_X10 (by decide) (by decide) rfl (Or.inl rfl) q1628 hz1 dX10_beginRun_78 ?_
        refine JR_iload_n (pc := 81) (k := 1) (i := 1) G rfl rfl dX10_beginRun_81 ?_
        refine JR_iconst (pc := 82) G ci_0 dX10_beginRun_82 ?_
        refine J_bd (fun q22 hq22 => ?_)
        refine JW_zastore (pc := 83) G hq22 (fun _ => rfl) dX10_beginRun_83 ?_
        refine J_nmD (fun d23 hd23 => ?_)
        refine JR_aload_n (pc := 84) (k := 0) (i := 0) (o := some this) G rfl rfl dX10_beginRun_84 ?_
        refine JR_gR (pc := 85) (k := 41) G cl_X10 in_X10 (by decide) (by decide) rfl (Or.inl rfl) q1629 hz1 dX10_beginRun_85 ?_
        refine JR_iload_n (pc := 88) (k := 1) (i := 1) G rfl rfl dX10_beginRun_88 ?_
        refine JR_iconst (pc := 89) G ci_0 dX10_beginRun_89 ?_
        refine J_bd (fun q24 hq24 => ?_)
        refine JW_iastore (pc := 90) G hq24 (fun _ => rfl) dX10_beginRun_90 ?_
        refine J_nmD (fun d25 hd25 => ?_)
        refine JR_aload_n (pc := 91) (k := 0) (i := 0) (o := some this) G rfl rfl dX10_beginRun_91 ?_
        refine JR_gR (pc := 92) (k := 42) G cl_X10 in_X10 (by decide) (by decide) rfl (Or.inl rfl) q1630 hz1 dX10_beginRun_92 ?_
        refine JR_iload_n (pc := 95) (k := 1) (i := 1) G rfl rfl dX10_beginRun_95 ?_
        refine JR_iconst (pc := 96) G ci_m1 dX10_beginRun_96 ?_
        refine J_bd (fun q26 hq26 => ?_)
        refine JW_iastore (pc := 97) G hq26 (fun _ => rfl) dX10_beginRun_97 ?_
        refine J_nmD (fun d27 hd27 => ?_)
        refine JR_aload_n (pc := 98) (k := 0) (i := 0) (o := some this) G rfl rfl dX10_beginRun_98 ?_
        refine JR_gR (pc := 99) (k := 44) G cl_X10 in_X10 (by decide) (by decide) rfl (Or.inl rfl) q1632 hz1 dX10_beginRun_99 ?_
        refine JR_iload_n (pc := 102) (k := 1) (i := 1) G rfl rfl dX10_beginRun_102 ?_
        refine JR_dconst0 (pc := 103) G dX10_beginRun_103 ?_
        refine J_bd (fun q28 hq28 => ?_)
        refine JW_dastore (pc := 104) G hq28 (fun _ => rfl) dX10_beginRun_104 ?_
        refine J_nmD (fun d29 hd29 => ?_)
        refine JR_aload_n (pc := 105) (k := 0) (i := 0) (o := some this) G rfl rfl dX10_beginRun_105 ?_
        refine JR_gR (pc := 106) (k := 45) G cl_X10 in_X10 (by decide) (by decide) rfl (Or.inl rfl) q1633 hz1 dX10_beginRun_106 ?_
        refine JR_iload_n (pc := 109) (k := 1) (i := 1) G rfl rfl dX10_beginRun_109 ?_
        refine JR_iconst (pc := 110) G ci_0 dX10_beginRun_110 ?_
        refine J_bd (fun q30 hq30 => ?_)
        refine JW_iastore (pc := 111) G hq30 (fun _ => rfl) dX10_beginRun_111 ?_
        refine J_nmD (fun d31 hd31 => ?_)
        refine JR_iinc (pc := 112) (i := 1) (v := v1 + 1) (lv' := [(1, .int (v1 + 1)), (0, va_rf (some this))]) G rfl (congrArg (fun z => v1 + z) (by decide)) (by decide) rfl dX10_beginRun_112 ?_
        refine JR_goto (pc := 115) (tgt := 2) G dX10_beginRun_115 (by decide) ?_
        refine J_sub [1, 0] rfl ?_
        exact ih (v1 + 1) d31
  unfold Mo_beginRun
  refine JR_iconst (pc := 0) G ci_0 dX10_beginRun_0 ?_
  refine JR_istore_n (pc := 1) (k := 1) (i := 1) (lv' := [(1, .int 0), (0, va_rf (some this))]) G rfl (by decide) rfl dX10_beginRun_1 ?_
  refine J_sub [1, 0] rfl ?_
  exact hMo_beginRun_h2 FU 0 d

def Mo_begins_b85 (this : Nat) (p1 : Int32) (S : Sp) (k2 : Int32 → Dt → Option (Unit × Dt)) (v2 : Int32) (d : Dt) : Option (Unit × Dt) :=
  (isK S 9 (some this)).bind fun z16 =>
  (aix S 50 (S.2.1 z16 30) v2).bind fun q17 =>
  (some (dI d q17.1 q17.2 ((d.1 q17.1 q17.2) + 1))).bind fun d18 =>
  (aix S 50 (S.2.1 z16 31) v2).bind fun q19 =>
  (some (dI d18 q19.1 q19.2 0)).bind fun d20 =>
  (aix S 50 (S.2.1 z16 32) v2).bind fun q21 =>
  (some (dI d20 q21.1 q21.2 0)).bind fun d22 =>
  k2 (v2 + 1) d22
def Mo_begins_h2 (this : Nat) (p1 : Int32) (S : Sp) : Nat → Int32 → Dt → Option (Unit × Dt)
  | 0, _, _ => none
  | f + 1, v2, d =>
    (isK S 9 (some this)).bind fun z1 =>
    (aix S 50 (S.2.1 z1 1) 4).bind fun q2 =>
    if (d.1 q2.1 q2.2) ≤ v2 then
      some ((), d)
    else
      (aix S 50 (S.2.1 z1 28) v2).bind fun q3 =>
      if p1 < (d.1 q3.1 q3.2) then
        Mo_begins_h2 this p1 S f (v2 + 1) d
      else
        (Mo_period this v2 S d).bind fun r4 =>
        (gz r4).bind fun u5 =>
        if ¬ (irm p1 r4) = 0 then
          Mo_begins_h2 this p1 S f (v2 + 1) d
        else
          (aix S 50 (S.2.1 z1 29) v2).bind fun q6 =>
          if (d.1 q6.1 q6.2) = ((-1)) then
            (aix S 50 (S.2.1 z1 30) v2).bind fun q7 =>
            (some (dI d q6.1 q6.2 (d.1 q7.1 q7.2))).bind fun d8 =>
            if 51 ≤ (d8.1 q7.1 q7.2) then
              Mo_begins_b85 this p1 S (Mo_begins_h2 this p1 S f) v2 d8
            else
              (aix S 50 (S.2.1 z1 47) ((51 * v2) + (d8.1 q7.1 q7.2))).bind fun q9 =>
              (some (dI d8 q9.1 q9.2 p1)).bind fun d10 =>
              Mo_begins_b85 this p1 S (Mo_begins_h2 this p1 S f) v2 d10
          else
            Mo_begins_h2 this p1 S f (v2 + 1) d
def Mo_begins (this : Nat) (p1 : Int32) (S : Sp) (d : Dt) : Option (Unit × Dt) :=
  Mo_begins_h2 this p1 S FU 0 d
set_option maxHeartbeats 4000000 in
theorem Mo_begins_fn (this : Nat) (p1 : Int32) (S : Sp) (d : Dt) : Fn yX10_begins (ws_ yX10_begins cX10_begins 3 none) 2 43 [va_rf (some this), .int p1] S d rvU Λw (Mo_begins this p1 S d) := by
  refine Fn.ofJ (own := RX10) (lv := [(0, va_rf (some this)), (1, .int p1)]) (by decide +kernel) rfl (by simp [cat_i, cat_l, cat_f, cat_d, rf_cat]) (by simp [lv_args, cat_i, cat_l, cat_f, cat_d, rf_cat]) ?_
  intro X F G hRm hR hI
  have hMo_begins_b85 : ∀ (k2 : Int32 → Dt → Option (Unit × Dt)) (hk2 : ∀ (v2 : Int32) (d : Dt), J X F Λw S d 2 [(0, va_rf (some this)), (1, .int p1), (2, .int v2)] [] (k2 v2 d)) (v2 : Int32) (d : Dt), J X F Λw S d 85 [(0, va_rf (some this)), (1, .int p1), (2, .int v2)] [] (Mo_begins_b85 this p1 S k2 v2 d) := by
    intro k2 hk2 v2 d
    unfold Mo_begins_b85
    refine JR_aload_n (pc := 85) (k := 0) (i := 0) (o := some this) G rfl rfl dX10_begins_85 ?_
    refine J_bd (fun z16 hz16 => ?_)
    refine JR_gR (pc := 86) (k := 30) G cl_X10 in_X10 (by decide) (by decide) rfl (Or.inl rfl) q1618 hz16 dX10_begins_86 ?_
    refine JR_iload_n (pc := 89) (k := 2) (i := 2) G rfl rfl dX10_begins_89 ?_
    refine JR_dup2 (pc := 90) G rfl (rf_cat _) dX10_begins_90 ?_
    refine J_bd (fun q17 hq17 => ?_)
    refine JR_iaload (pc := 91) G hq17 dX10_begins_91 ?_
    refine JR_iconst (pc := 92) G ci_1 dX10_begins_92 ?_
    refine JR_iadd (pc := 93) G dX10_begins_93 ?_
    refine JW_iastore (pc := 94) G hq17 (fun _ => rfl) dX10_begins_94 ?_
    refine J_nmD (fun d18 hd18 => ?_)
    refine JR_aload_n (pc := 95) (k := 0) (i := 0) (o := some this) G rfl rfl dX10_begins_95 ?_
    refine JR_gR (pc := 96) (k := 31) G cl_X10 in_X10 (by decide) (by decide) rfl (Or.inl rfl) q1619 hz16 dX10_begins_96 ?_
    refine JR_iload_n (pc := 99) (k := 2) (i := 2) G rfl rfl dX10_begins_99 ?_
    refine JR_iconst (pc := 100) G ci_0 dX10_begins_100 ?_
    refine J_bd (fun q19 hq19 => ?_)
    refine JW_iastore (pc := 101) G hq19 (fun _ => rfl) dX10_begins_101 ?_
    refine J_nmD (fun d20 hd20 => ?_)
    refine JR_aload_n (pc := 102) (k := 0) (i := 0) (o := some this) G rfl rfl dX10_begins_102 ?_
    refine JR_gR (pc := 103) (k := 32) G cl_X10 in_X10 (by decide) (by decide) rfl (Or.inl rfl) q1620 hz16 dX10_begins_103 ?_
    refine JR_iload_n (pc := 106) (k := 2) (i := 2) G rfl rfl dX10_begins_106 ?_
    refine JR_iconst (pc := 107) G ci_0 dX10_begins_107 ?_
    refine J_bd (fun q21 hq21 => ?_)
    refine JW_iastore (pc := 108) G hq21 (fun _ => rfl) dX10_begins_108 ?_
    refine J_nmD (fun d22 hd22 => ?_)
    refine JR_iinc (pc := 109) (i := 2) (v := v2 + 1) (lv' := [(2, .int (v2 + 1)), (0, va_rf (some this)), (1, .int p1)]) G rfl (congrArg (fun z => v2 + z) (by decide)) (by decide) rfl dX10_begins_109 ?_
    refine JR_goto (pc := 112) (tgt := 2) G dX10_begins_112 (by decide) ?_
    refine J_sub [1, 2, 0] rfl ?_
    exact hk2 (v2 + 1) d22
  have hMo_begins_h2 : ∀ (f : Nat) (v2 : Int32) (d : Dt), J X F Λw S d 2 [(0, va_rf (some this)), (1, .int p1), (2, .int v2)] [] (Mo_begins_h2 this p1 S f v2 d) := by
    intro  f
    induction f with
    | zero => intro v2 d; exact J_no
    | succ f ih =>
      intro v2 d
      unfold Mo_begins_h2
      refine JR_iload_n (pc := 2) (k := 2) (i := 2) G rfl rfl dX10_begins_2 ?_
      refine JR_aload_n (pc := 3) (k := 0) (i := 0) (o := some this) G rfl rfl dX10_begins_3 ?_
      refine J_bd (fun z1 hz1 => ?_)
      refine JR_gR (pc := 4) (k := 1) G cl_X10 in_X10 (by decide) (by decide) rfl (Or.inl rfl) q1589 hz1 dX10_begins_4 ?_
      refine JR_iconst (pc := 7) G ci_4 dX10_begins_7 ?_
      refine J_bd (fun q2 hq2 => ?_)
      refine JR_iaload (pc := 8) G hq2 dX10_begins_8 ?_
      refine JR_icmp_ge (pc := 9) (tgt := 115) G dX10_begins_9 (by decide) (fun c15 => ?_) (fun c15 => ?_)
      · exact JR_vret (pc := 115) G hR dX10_begins_115 rfl rfl
      · refine JR_iload_n (pc := 12) (k := 1) (i := 1) G rfl rfl dX10_begins_12 ?_
        refine JR_aload_n (pc := 13) (k := 0) (i := 0) (o := some this) G rfl rfl dX10_begins_13 ?_
        refine JR_gR (pc := 14) (k := 28) G cl_X10 in_X10 (by decide) (by decide) rfl (Or.inl rfl) q1616 hz1 dX10_begins_14 ?_
        refine JR_iload_n (pc := 17) (k := 2) (i := 2) G rfl rfl dX10_begins_17 ?_
        refine J_bd (fun q3 hq3 => ?_)
        refine JR_iaload (pc := 18) G hq3 dX10_begins_18 ?_
        refine JR_icmp_lt (pc := 19) (tgt := 109) G dX10_begins_19 (by decide) (fun c14 => ?_) (fun c14 => ?_)
        · refine JR_iinc (pc := 109) (i := 2) (v := v2 + 1) (lv' := [(2, .int (v2 + 1)), (0, va_rf (some this)), (1, .int p1)]) G rfl (congrArg (fun z => v2 + z) (by decide)) (by decide) rfl dX10_begins_109 ?_
          refine JR_goto (pc := 112) (tgt := 2) G dX10_begins_112 (by decide) ?_
          refine J_sub [1, 2, 0] rfl ?_
          exact ih (v2 + 1) d
        · refine JR_iload_n (pc := 22) (k := 1) (i := 1) G rfl rfl dX10_begins_22 ?_
          refine JR_aload_n (pc := 23) (k := 0) (i := 0) (o := some this) G rfl rfl dX10_begins_23 ?_
          refine JR_iload_n (pc := 24) (k := 2) (i := 2) G rfl rfl dX10_begins_24 ?_
          refine JPV_I (pc := 25) (as := [.int v2]) (st' := [.int p1]) (o := some this) G (Mo_period_fn this v2 S d) (JC_V (n := 1) G hRm cl_X10 q1995 q1997 qs91 q152 q1998 ⟨rfl, dd_X10_period⟩ ⟨by decide, by decide⟩ dX10_begins_25 hz1 rfl (Nat.le_of_ble_eq_true rfl)) rfl (fun r4 hr4 => ?_)
          refine J_bd (fun u5 hu5 => ?_)
          refine JR_irem (pc := 28) G (gz_at hu5) dX10_begins_28 ?_
          refine JR_if_ne (pc := 29) (tgt := 109) G dX10_begins_29 (by decide) (fun c13 => ?_) (fun c13 => ?_)
          · refine JR_iinc (pc := 109) (i := 2) (v := v2 + 1) (lv' := [(2, .int (v2 + 1)), (0, va_rf (some this)), (1, .int p1)]) G rfl (congrArg (fun z => v2 + z) (by decide)) (by decide) rfl dX10_begins_109 ?_
            refine JR_goto (pc := 112) (tgt := 2) G dX10_begins_112 (by decide) ?_
            refine J_sub [1, 2, 0] rfl ?_
            exact ih (v2 + 1) d
          · refine JR_aload_n (pc := 32) (k := 0) (i := 0) (o := some this) G rfl rfl dX10_begins_32 ?_
            refine JR_gR (pc := 33) (k := 29) G cl_X10 in_X10 (by decide) (by decide) rfl (Or.inl rfl) q1617 hz1 dX10_begins_33 ?_
            refine JR_iload_n (pc := 36) (k := 2) (i := 2) G rfl rfl dX10_begins_36 ?_
            refine J_bd (fun q6 hq6 => ?_)
            refine JR_iaload (pc := 37) G hq6 dX10_begins_37 ?_
            refine JR_iconst (pc := 38) G ci_m1 dX10_begins_38 ?_
            refine JR_icmp_eq (pc := 39) (tgt := 45) G dX10_begins_39 (by decide) (fun c12 => ?_) (fun c12 => ?_)
            · refine JR_aload_n (pc := 45) (k := 0) (i := 0) (o := some this) G rfl rfl dX10_begins_45 ?_
              refine JR_gR (pc := 46) (k := 29) G cl_X10 in_X10 (by decide) (by decide) rfl (Or.inl rfl) q1617 hz1 dX10_begins_46 ?_
              refine JR_iload_n (pc := 49) (k := 2) (i := 2) G rfl rfl dX10_begins_49 ?_
              refine JR_aload_n (pc := 50) (k := 0) (i := 0) (o := some this) G rfl rfl dX10_begins_50 ?_
              refine JR_gR (pc := 51) (k := 30) G cl_X10 in_X10 (by decide) (by decide) rfl (Or.inl rfl) q1618 hz1 dX10_begins_51 ?_
              refine JR_iload_n (pc := 54) (k := 2) (i := 2) G rfl rfl dX10_begins_54 ?_
              refine J_bd (fun q7 hq7 => ?_)
              refine JR_iaload (pc := 55) G hq7 dX10_begins_55 ?_
              refine JW_iastore (pc := 56) G hq6 (fun _ => rfl) dX10_begins_56 ?_
              refine J_nmD (fun d8 hd8 => ?_)
              refine JR_aload_n (pc := 57) (k := 0) (i := 0) (o := some this) G rfl rfl dX10_begins_57 ?_
              refine JR_gR (pc := 58) (k := 30) G cl_X10 in_X10 (by decide) (by decide) rfl (Or.inl rfl) q1618 hz1 dX10_begins_58 ?_
              refine JR_iload_n (pc := 61) (k := 2) (i := 2) G rfl rfl dX10_begins_61 ?_
              refine JR_iaload (pc := 62) G hq7 dX10_begins_62 ?_
              refine JR_bipush (pc := 63) (v := 51) G (by decide) dX10_begins_63 ?_
              refine JR_icmp_ge (pc := 65) (tgt := 85) G dX10_begins_65 (by decide) (fun c11 => ?_) (fun c11 => ?_)
              · exact hMo_begins_b85 (Mo_begins_h2 this p1 S f) ih v2 d8
              · refine JR_aload_n (pc := 68) (k := 0) (i := 0) (o := some this) G rfl rfl dX10_begins_68 ?_
                refine JR_gR (pc := 69) (k := 47) G cl_X10 in_X10 (by decide) (by decide) rfl (Or.inl rfl) q1635 hz1 dX10_begins_69 ?_
                refine JR_bipush (pc := 72) (v := 51) G (by decide) dX10_begins_72 ?_
                refine JR_iload_n (pc := 74) (k := 2) (i := 2) G rfl rfl dX10_begins_74 ?_
                refine JR_imul (pc := 75) G dX10_begins_75 ?_
                refine JR_aload_n (pc := 76) (k := 0) (i := 0) (o := some this) G rfl rfl dX10_begins_76 ?_
                refine JR_gR (pc := 77) (k := 30) G cl_X10 in_X10 (by decide) (by decide) rfl (Or.inl rfl) q1618 hz1 dX10_begins_77 ?_
                refine JR_iload_n (pc := 80) (k := 2) (i := 2) G rfl rfl dX10_begins_80 ?_
                refine JR_iaload (pc := 81) G hq7 dX10_begins_81 ?_
                refine JR_iadd (pc := 82) G dX10_begins_82 ?_
                refine JR_iload_n (pc := 83) (k := 1) (i := 1) G rfl rfl dX10_begins_83 ?_
                refine J_bd (fun q9 hq9 => ?_)
                refine JW_iastore (pc := 84) G hq9 (fun _ => rfl) dX10_begins_84 ?_
                refine J_nmD (fun d10 hd10 => ?_)
                exact hMo_begins_b85 (Mo_begins_h2 this p1 S f) ih v2 d10
            · refine JR_goto (pc := 42) (tgt := 109) G dX10_begins_42 (by decide) ?_
              refine JR_iinc (pc := 109) (i := 2) (v := v2 + 1) (lv' := [(2, .int (v2 + 1)), (0, va_rf (some this)), (1, .int p1)]) G rfl (congrArg (fun z => v2 + z) (by decide)) (by decide) rfl dX10_begins_109 ?_
              refine JR_goto (pc := 112) (tgt := 2) G dX10_begins_112 (by decide) ?_
              refine J_sub [1, 2, 0] rfl ?_
              exact ih (v2 + 1) d
  unfold Mo_begins
  refine JR_iconst (pc := 0) G ci_0 dX10_begins_0 ?_
  refine JR_istore_n (pc := 1) (k := 2) (i := 2) (lv' := [(2, .int 0), (0, va_rf (some this)), (1, .int p1)]) G rfl (by decide) rfl dX10_begins_1 ?_
  refine J_sub [1, 2, 0] rfl ?_
  exact hMo_begins_h2 FU 0 d

def Mo_injections (this : Nat) (S : Sp) (d : Dt) : Option Int32 :=
  (isK S 9 (some this)).bind fun z1 =>
  (Mo_many this S d).bind fun r2 =>
  some (r2 + (d.1 z1 27))
set_option maxHeartbeats 4000000 in
theorem Mo_injections_fn (this : Nat) (S : Sp) (d : Dt) : Fn yX10_injections (ws_ yX10_injections cX10_injections 1 (some .int)) 1 20 [va_rf (some this)] S d rvI Λp (Mo_injections this S d) := by
  refine Fn.ofJ (own := RX10) (lv := [(0, va_rf (some this))]) (by decide +kernel) rfl (by simp [cat_i, cat_l, cat_f, cat_d, rf_cat]) (by simp [lv_args, cat_i, cat_l, cat_f, cat_d, rf_cat]) ?_
  intro X F G hRm hR hI
  unfold Mo_injections
  refine JR_aload_n (pc := 0) (k := 0) (i := 0) (o := some this) G rfl rfl dX10_injections_0 ?_
  refine J_bd (fun z1 hz1 => ?_)
  refine JPV_I (pc := 1) (as := []) (st' := []) (o := some this) G (Mo_many_fn this S d) (JC_V (n := 0) G hRm cl_X10 q1957 q1959 qs85 q152 q1960 ⟨rfl, dd_X10_many⟩ ⟨by decide, by decide⟩ dX10_injections_1 hz1 rfl (Nat.le_of_ble_eq_true rfl)) rfl (fun r2 hr2 => ?_)
  refine JR_aload_n (pc := 4) (k := 0) (i := 0) (o := some this) G rfl rfl dX10_injections_4 ?_
  refine JR_gI (pc := 5) (k := 27) G cl_X10 in_X10 (by decide) (by decide) rfl (Or.inl rfl) q1615 hz1 dX10_injections_5 ?_
  refine JR_iadd (pc := 8) G dX10_injections_8 ?_
  exact JR_iret (pc := 9) G hR dX10_injections_9 rfl rfl

def Mo_changeAt_h2 (this : Nat) (p1 : Int32) (p2 : Int32) (S : Sp) (d : Dt) : Nat → Int32 → Option Int32
  | 0, _ => none
  | f + 1, v3 =>
    (isK S 9 (some this)).bind fun z1 =>
    (Mo_injections this S d).bind fun r2 =>
    if r2 ≤ v3 then
      some ((-1))
    else
      if v3 = (d.1 z1 23) then
        Mo_changeAt_h2 this p1 p2 S d f (v3 + 1)
      else
        (Mo_of this v3 0 S d).bind fun r3 =>
        if 3 < r3 then
          Mo_changeAt_h2 this p1 p2 S d f (v3 + 1)
        else
          (Mo_of this v3 1 S d).bind fun r4 =>
          if ¬ r4 = p1 then
            Mo_changeAt_h2 this p1 p2 S d f (v3 + 1)
          else
            (Mo_of this v3 3 S d).bind fun r5 =>
            if r5 = p2 then
              (aix S 50 (S.2.1 z1 29) p1).bind fun q6 =>
              (Mo_of this v3 2 S d).bind fun r7 =>
              (Mo_of this v3 2 S d).bind fun r8 =>
              (Mo_of this v3 4 S d).bind fun r9 =>
              (Mo_in (Int32.toInt64 (d.1 q6.1 q6.2)) (Int32.toInt64 r7) (Int32.toInt64 ((r8 + r9) - 1)) S d).bind fun r10 =>
              if r10 = 0 then
                Mo_changeAt_h2 this p1 p2 S d f (v3 + 1)
              else
                (Mo_of this v3 0 S d).bind fun r11 =>
                some r11
            else
              Mo_changeAt_h2 this p1 p2 S d f (v3 + 1)
def Mo_changeAt (this : Nat) (p1 : Int32) (p2 : Int32) (S : Sp) (d : Dt) : Option Int32 :=
  Mo_changeAt_h2 this p1 p2 S d FU 0
set_option maxHeartbeats 4000000 in
theorem Mo_changeAt_fn (this : Nat) (p1 : Int32) (p2 : Int32) (S : Sp) (d : Dt) : Fn yX10_changeAt (ws_ yX10_changeAt cX10_changeAt 4 (some .int)) 2 40 [va_rf (some this), .int p1, .int p2] S d rvI Λp (Mo_changeAt this p1 p2 S d) := by
  refine Fn.ofJ (own := RX10) (lv := [(0, va_rf (some this)), (1, .int p1), (2, .int p2)]) (by decide +kernel) rfl (by simp [cat_i, cat_l, cat_f, cat_d, rf_cat]) (by simp [lv_args, cat_i, cat_l, cat_f, cat_d, rf_cat]) ?_
  intro X F G hRm hR hI
  have hMo_changeAt_h2 : ∀ (f : Nat) (v3 : Int32), J X F Λp S d 2 [(0, va_rf (some this)), (1, .int p1), (2, .int p2), (3, .int v3)] [] (Mo_changeAt_h2 this p1 p2 S d f v3) := by
    intro  f
    induction f with
    | zero => intro v3; exact J_no
    | succ f ih =>
      intro v3
      unfold Mo_changeAt_h2
      refine JR_iload_n (pc := 2) (k := 3) (i := 3) G rfl rfl dX10_changeAt_2 ?_
      refine JR_aload_n (pc := 3) (k := 0) (i := 0) (o := some this) G rfl rfl dX10_changeAt_3 ?_
      refine J_bd (fun z1 hz1 => ?_)
      refine JPV_I (pc := 4) (as := []) (st' := [.int v3]) (o := some this) G (Mo_injections_fn this S d) (JC_V (n := 0) G hRm cl_X10 q2110 q2112 qs108 q152 q2113 ⟨rfl, dd_X10_injections⟩ ⟨by decide, by decide⟩ dX10_changeAt_4 hz1 rfl (Nat.le_of_ble_eq_true rfl)) rfl (fun r2 hr2 => ?_)
      refine JR_icmp_ge (pc := 7) (tgt := 100) G dX10_changeAt_7 (by decide) (fun c17 => ?_) (fun c17 => ?_)
      · refine JR_iconst (pc := 100) G ci_m1 dX10_changeAt_100 ?_
        exact JR_iret (pc := 101) G hR dX10_changeAt_101 rfl rfl
      · refine JR_iload_n (pc := 10) (k := 3) (i := 3) G rfl rfl dX10_changeAt_10 ?_
        refine JR_aload_n (pc := 11) (k := 0) (i := 0) (o := some this) G rfl rfl dX10_changeAt_11 ?_
        refine JR_gI (pc := 12) (k := 23) G cl_X10 in_X10 (by decide) (by decide) rfl (Or.inl rfl) q1611 hz1 dX10_changeAt_12 ?_
        refine JR_icmp_eq (pc := 15) (tgt := 94) G dX10_changeAt_15 (by decide) (fun c16 => ?_) (fun c16 => ?_)
        · refine JR_iinc (pc := 94) (i := 3) (v := v3 + 1) (lv' := [(3, .int (v3 + 1)), (0, va_rf (some this)), (1, .int p1), (2, .int p2)]) G rfl (congrArg (fun z => v3 + z) (by decide)) (by decide) rfl dX10_changeAt_94 ?_
          refine JR_goto (pc := 97) (tgt := 2) G dX10_changeAt_97 (by decide) ?_
          refine J_sub [1, 2, 3, 0] rfl ?_
          exact ih (v3 + 1)
        · refine JR_aload_n (pc := 18) (k := 0) (i := 0) (o := some this) G rfl rfl dX10_changeAt_18 ?_
          refine JR_iload_n (pc := 19) (k := 3) (i := 3) G rfl rfl dX10_changeAt_19 ?_
          refine JR_iconst (pc := 20) G ci_0 dX10_changeAt_20 ?_
          refine JPV_I (pc := 21) (as := [.int v3, .int 0]) (st' := []) (o := some this) G (Mo_of_fn this v3 0 S d) (JC_V (n := 2) G hRm cl_X10 q1962 q1964 qs86 q152 q1965 ⟨rfl, dd_X10_of⟩ ⟨by decide, by decide⟩ dX10_changeAt_21 hz1 rfl (Nat.le_of_ble_eq_true rfl)) rfl (fun r3 hr3 => ?_)
          refine JR_iconst (pc := 24) G ci_3 dX10_changeAt_24 ?_
          refine JR_icmp_gt (pc := 25) (tgt := 94) G dX10_changeAt_25 (by decide) (fun c15 => ?_) (fun c15 => ?_)
          · refine JR_iinc (pc := 94) (i := 3) (v := v3 + 1) (lv' := [(3, .int (v3 + 1)), (0, va_rf (some this)), (1, .int p1), (2, .int p2)]) G rfl (congrArg (fun z => v3 + z) (by decide)) (by decide) rfl dX10_changeAt_94 ?_
            refine JR_goto (pc := 97) (tgt := 2) G dX10_changeAt_97 (by decide) ?_
            refine J_sub [1, 2, 3, 0] rfl ?_
            exact ih (v3 + 1)
          · refine JR_aload_n (pc := 28) (k := 0) (i := 0) (o := some this) G rfl rfl dX10_changeAt_28 ?_
            refine JR_iload_n (pc := 29) (k := 3) (i := 3) G rfl rfl dX10_changeAt_29 ?_
            refine JR_iconst (pc := 30) G ci_1 dX10_changeAt_30 ?_
            refine JPV_I (pc := 31) (as := [.int v3, .int 1]) (st' := []) (o := some this) G (Mo_of_fn this v3 1 S d) (JC_V (n := 2) G hRm cl_X10 q1962 q1964 qs86 q152 q1965 ⟨rfl, dd_X10_of⟩ ⟨by decide, by decide⟩ dX10_changeAt_31 hz1 rfl (Nat.le_of_ble_eq_true rfl)) rfl (fun r4 hr4 => ?_)
            refine JR_iload_n (pc := 34) (k := 1) (i := 1) G rfl rfl dX10_changeAt_34 ?_
            refine JR_icmp_ne (pc := 35) (tgt := 94) G dX10_changeAt_35 (by decide) (fun c14 => ?_) (fun c14 => ?_)
            · refine JR_iinc (pc := 94) (i := 3) (v := v3 + 1) (lv' := [(3, .int (v3 + 1)), (0, va_rf (some this)), (1, .int p1), (2, .int p2)]) G rfl (congrArg (fun z => v3 + z) (by decide)) (by decide) rfl dX10_changeAt_94 ?_
              refine JR_goto (pc := 97) (tgt := 2) G dX10_changeAt_97 (by decide) ?_
              refine J_sub [1, 2, 3, 0] rfl ?_
              exact ih (v3 + 1)
            · refine JR_aload_n (pc := 38) (k := 0) (i := 0) (o := some this) G rfl rfl dX10_changeAt_38 ?_
              refine JR_iload_n (pc := 39) (k := 3) (i := 3) G rfl rfl dX10_changeAt_39 ?_
              refine JR_iconst (pc := 40) G ci_3 dX10_changeAt_40 ?_
              refine JPV_I (pc := 41) (as := [.int v3, .int 3]) (st' := []) (o := some this) G (Mo_of_fn this v3 3 S d) (JC_V (n := 2) G hRm cl_X10 q1962 q1964 qs86 q152 q1965 ⟨rfl, dd_X10_of⟩ ⟨by decide, by decide⟩ dX10_changeAt_41 hz1 rfl (Nat.le_of_ble_eq_true rfl)) rfl (fun r5 hr5 => ?_)
              refine JR_iload_n (pc := 44) (k := 2) (i := 2) G rfl rfl dX10_changeAt_44 ?_
              refine JR_icmp_eq (pc := 45) (tgt := 51) G dX10_changeAt_45 (by decide) (fun c13 => ?_) (fun c13 => ?_)
              · refine JR_aload_n (pc := 51) (k := 0) (i := 0) (o := some this) G rfl rfl dX10_changeAt_51 ?_
                refine JR_gR (pc := 52) (k := 29) G cl_X10 in_X10 (by decide) (by decide) rfl (Or.inl rfl) q1617 hz1 dX10_changeAt_52 ?_
                refine JR_iload_n (pc := 55) (k := 1) (i := 1) G rfl rfl dX10_changeAt_55 ?_
                refine J_bd (fun q6 hq6 => ?_)
                refine JR_iaload (pc := 56) G hq6 dX10_changeAt_56 ?_
                refine JR_i2l (pc := 57) G dX10_changeAt_57 ?_
                refine JR_aload_n (pc := 58) (k := 0) (i := 0) (o := some this) G rfl rfl dX10_changeAt_58 ?_
                refine JR_iload_n (pc := 59) (k := 3) (i := 3) G rfl rfl dX10_changeAt_59 ?_
                refine JR_iconst (pc := 60) G ci_2 dX10_changeAt_60 ?_
                refine JPV_I (pc := 61) (as := [.int v3, .int 2]) (st' := [.long (Int32.toInt64 (d.1 q6.1 q6.2))]) (o := some this) G (Mo_of_fn this v3 2 S d) (JC_V (n := 2) G hRm cl_X10 q1962 q1964 qs86 q152 q1965 ⟨rfl, dd_X10_of⟩ ⟨by decide, by decide⟩ dX10_changeAt_61 hz1 rfl (Nat.le_of_ble_eq_true rfl)) rfl (fun r7 hr7 => ?_)
                refine JR_i2l (pc := 64) G dX10_changeAt_64 ?_
                refine JR_aload_n (pc := 65) (k := 0) (i := 0) (o := some this) G rfl rfl dX10_changeAt_65 ?_
                refine JR_iload_n (pc := 66) (k := 3) (i := 3) G rfl rfl dX10_changeAt_66 ?_
                refine JR_iconst (pc := 67) G ci_2 dX10_changeAt_67 ?_
                refine JPV_I (pc := 68) (as := [.int v3, .int 2]) (st' := [.long (Int32.toInt64 r7), .long (Int32.toInt64 (d.1 q6.1 q6.2))]) (o := some this) G (Mo_of_fn this v3 2 S d) (JC_V (n := 2) G hRm cl_X10 q1962 q1964 qs86 q152 q1965 ⟨rfl, dd_X10_of⟩ ⟨by decide, by decide⟩ dX10_changeAt_68 hz1 rfl (Nat.le_of_ble_eq_true rfl)) rfl (fun r8 hr8 => ?_)
                refine JR_aload_n (pc := 71) (k := 0) (i := 0) (o := some this) G rfl rfl dX10_changeAt_71 ?_
                refine JR_iload_n (pc := 72) (k := 3) (i := 3) G rfl rfl dX10_changeAt_72 ?_
                refine JR_iconst (pc := 73) G ci_4 dX10_changeAt_73 ?_
                refine JPV_I (pc := 74) (as := [.int v3, .int 4]) (st' := [.int r8, .long (Int32.toInt64 r7), .long (Int32.toInt64 (d.1 q6.1 q6.2))]) (o := some this) G (Mo_of_fn this v3 4 S d) (JC_V (n := 2) G hRm cl_X10 q1962 q1964 qs86 q152 q1965 ⟨rfl, dd_X10_of⟩ ⟨by decide, by decide⟩ dX10_changeAt_74 hz1 rfl (Nat.le_of_ble_eq_true rfl)) rfl (fun r9 hr9 => ?_)
                refine JR_iadd (pc := 77) G dX10_changeAt_77 ?_
                refine JR_iconst (pc := 78) G ci_1 dX10_changeAt_78 ?_
                refine JR_isub (pc := 79) G dX10_changeAt_79 ?_
                refine JR_i2l (pc := 80) G dX10_changeAt_80 ?_
                refine JPS_I (pc := 81) (as := [.long (Int32.toInt64 (d.1 q6.1 q6.2)), .long (Int32.toInt64 r7), .long (Int32.toInt64 ((r8 + r9) - 1))]) (st' := []) G (Mo_in_fn (Int32.toInt64 (d.1 q6.1 q6.2)) (Int32.toInt64 r7) (Int32.toInt64 ((r8 + r9) - 1)) S d) (JC_S (n := 3) G hRm q1782 q1783 q152 q1784 dd_X10_in ⟨by decide, by decide⟩ dX10_changeAt_81 rfl (Nat.le_of_ble_eq_true rfl)) rfl (fun r10 hr10 => ?_)
                refine JR_if_eq (pc := 84) (tgt := 94) G dX10_changeAt_84 (by decide) (fun c12 => ?_) (fun c12 => ?_)
                · refine JR_iinc (pc := 94) (i := 3) (v := v3 + 1) (lv' := [(3, .int (v3 + 1)), (0, va_rf (some this)), (1, .int p1), (2, .int p2)]) G rfl (congrArg (fun z => v3 + z) (by decide)) (by decide) rfl dX10_changeAt_94 ?_
                  refine JR_goto (pc := 97) (tgt := 2) G dX10_changeAt_97 (by decide) ?_
                  refine J_sub [1, 2, 3, 0] rfl ?_
                  exact ih (v3 + 1)
                · refine JR_aload_n (pc := 87) (k := 0) (i := 0) (o := some this) G rfl rfl dX10_changeAt_87 ?_
                  refine JR_iload_n (pc := 88) (k := 3) (i := 3) G rfl rfl dX10_changeAt_88 ?_
                  refine JR_iconst (pc := 89) G ci_0 dX10_changeAt_89 ?_
                  refine JPV_I (pc := 90) (as := [.int v3, .int 0]) (st' := []) (o := some this) G (Mo_of_fn this v3 0 S d) (JC_V (n := 2) G hRm cl_X10 q1962 q1964 qs86 q152 q1965 ⟨rfl, dd_X10_of⟩ ⟨by decide, by decide⟩ dX10_changeAt_90 hz1 rfl (Nat.le_of_ble_eq_true rfl)) rfl (fun r11 hr11 => ?_)
                  exact JR_iret (pc := 93) G hR dX10_changeAt_93 rfl rfl
              · refine JR_goto (pc := 48) (tgt := 94) G dX10_changeAt_48 (by decide) ?_
                refine JR_iinc (pc := 94) (i := 3) (v := v3 + 1) (lv' := [(3, .int (v3 + 1)), (0, va_rf (some this)), (1, .int p1), (2, .int p2)]) G rfl (congrArg (fun z => v3 + z) (by decide)) (by decide) rfl dX10_changeAt_94 ?_
                refine JR_goto (pc := 97) (tgt := 2) G dX10_changeAt_97 (by decide) ?_
                refine J_sub [1, 2, 3, 0] rfl ?_
                exact ih (v3 + 1)
  unfold Mo_changeAt
  refine JR_iconst (pc := 0) G ci_0 dX10_changeAt_0 ?_
  refine JR_istore_n (pc := 1) (k := 3) (i := 3) (lv' := [(3, .int 0), (0, va_rf (some this)), (1, .int p1), (2, .int p2)]) G rfl (by decide) rfl dX10_changeAt_1 ?_
  refine J_sub [1, 2, 3, 0] rfl ?_
  exact hMo_changeAt_h2 FU 0

def Mo_whoHas_h2 (this : Nat) (S : Sp) (d : Dt) : Nat → Int32 → Option Int32
  | 0, _ => none
  | f + 1, v1 =>
    (isK S 9 (some this)).bind fun z1 =>
    (aix S 50 (S.2.1 z1 1) 4).bind fun q2 =>
    if (d.1 q2.1 q2.2) ≤ v1 then
      some ((-1))
    else
      (aix S 50 (S.2.1 z1 29) v1).bind fun q3 =>
      if (d.1 q3.1 q3.2) = ((-1)) then
        Mo_whoHas_h2 this S d f (v1 + 1)
      else
        (aix S 50 (S.2.1 z1 31) v1).bind fun q4 =>
        (Mo_changeAt this v1 (d.1 q4.1 q4.2) S d).bind fun r5 =>
        if r5 = 1 then
          Mo_whoHas_h2 this S d f (v1 + 1)
        else
          some v1
def Mo_whoHas (this : Nat) (S : Sp) (d : Dt) : Option Int32 :=
  Mo_whoHas_h2 this S d FU 0
set_option maxHeartbeats 4000000 in
theorem Mo_whoHas_fn (this : Nat) (S : Sp) (d : Dt) : Fn yX10_whoHas (ws_ yX10_whoHas cX10_whoHas 2 (some .int)) 3 63 [va_rf (some this)] S d rvI Λp (Mo_whoHas this S d) := by
  refine Fn.ofJ (own := RX10) (lv := [(0, va_rf (some this))]) (by decide +kernel) rfl (by simp [cat_i, cat_l, cat_f, cat_d, rf_cat]) (by simp [lv_args, cat_i, cat_l, cat_f, cat_d, rf_cat]) ?_
  intro X F G hRm hR hI
  have hMo_whoHas_h2 : ∀ (f : Nat) (v1 : Int32), J X F Λp S d 2 [(0, va_rf (some this)), (1, .int v1)] [] (Mo_whoHas_h2 this S d f v1) := by
    intro  f
    induction f with
    | zero => intro v1; exact J_no
    | succ f ih =>
      intro v1
      unfold Mo_whoHas_h2
      refine JR_iload_n (pc := 2) (k := 1) (i := 1) G rfl rfl dX10_whoHas_2 ?_
      refine JR_aload_n (pc := 3) (k := 0) (i := 0) (o := some this) G rfl rfl dX10_whoHas_3 ?_
      refine J_bd (fun z1 hz1 => ?_)
      refine JR_gR (pc := 4) (k := 1) G cl_X10 in_X10 (by decide) (by decide) rfl (Or.inl rfl) q1589 hz1 dX10_whoHas_4 ?_
      refine JR_iconst (pc := 7) G ci_4 dX10_whoHas_7 ?_
      refine J_bd (fun q2 hq2 => ?_)
      refine JR_iaload (pc := 8) G hq2 dX10_whoHas_8 ?_
      refine JR_icmp_ge (pc := 9) (tgt := 45) G dX10_whoHas_9 (by decide) (fun c8 => ?_) (fun c8 => ?_)
      · refine JR_iconst (pc := 45) G ci_m1 dX10_whoHas_45 ?_
        exact JR_iret (pc := 46) G hR dX10_whoHas_46 rfl rfl
      · refine JR_aload_n (pc := 12) (k := 0) (i := 0) (o := some this) G rfl rfl dX10_whoHas_12 ?_
        refine JR_gR (pc := 13) (k := 29) G cl_X10 in_X10 (by decide) (by decide) rfl (Or.inl rfl) q1617 hz1 dX10_whoHas_13 ?_
        refine JR_iload_n (pc := 16) (k := 1) (i := 1) G rfl rfl dX10_whoHas_16 ?_
        refine J_bd (fun q3 hq3 => ?_)
        refine JR_iaload (pc := 17) G hq3 dX10_whoHas_17 ?_
        refine JR_iconst (pc := 18) G ci_m1 dX10_whoHas_18 ?_
        refine JR_icmp_eq (pc := 19) (tgt := 39) G dX10_whoHas_19 (by decide) (fun c7 => ?_) (fun c7 => ?_)
        · refine JR_iinc (pc := 39) (i := 1) (v := v1 + 1) (lv' := [(1, .int (v1 + 1)), (0, va_rf (some this))]) G rfl (congrArg (fun z => v1 + z) (by decide)) (by decide) rfl dX10_whoHas_39 ?_
          refine JR_goto (pc := 42) (tgt := 2) G dX10_whoHas_42 (by decide) ?_
          refine J_sub [1, 0] rfl ?_
          exact ih (v1 + 1)
        · refine JR_aload_n (pc := 22) (k := 0) (i := 0) (o := some this) G rfl rfl dX10_whoHas_22 ?_
          refine JR_iload_n (pc := 23) (k := 1) (i := 1) G rfl rfl dX10_whoHas_23 ?_
          refine JR_aload_n (pc := 24) (k := 0) (i := 0) (o := some this) G rfl rfl dX10_whoHas_24 ?_
          refine JR_gR (pc := 25) (k := 31) G cl_X10 in_X10 (by decide) (by decide) rfl (Or.inl rfl) q1619 hz1 dX10_whoHas_25 ?_
          refine JR_iload_n (pc := 28) (k := 1) (i := 1) G rfl rfl dX10_whoHas_28 ?_
          refine J_bd (fun q4 hq4 => ?_)
          refine JR_iaload (pc := 29) G hq4 dX10_whoHas_29 ?_
          refine JPV_I (pc := 30) (as := [.int v1, .int (d.1 q4.1 q4.2)]) (st' := []) (o := some this) G (Mo_changeAt_fn this v1 (d.1 q4.1 q4.2) S d) (JC_V (n := 2) G hRm cl_X10 q2106 q2108 qs107 q152 q2109 ⟨rfl, dd_X10_changeAt⟩ ⟨by decide, by decide⟩ dX10_whoHas_30 hz1 rfl (Nat.le_of_ble_eq_true rfl)) rfl (fun r5 hr5 => ?_)
          refine JR_iconst (pc := 33) G ci_1 dX10_whoHas_33 ?_
          refine JR_icmp_eq (pc := 34) (tgt := 39) G dX10_whoHas_34 (by decide) (fun c6 => ?_) (fun c6 => ?_)
          · refine JR_iinc (pc := 39) (i := 1) (v := v1 + 1) (lv' := [(1, .int (v1 + 1)), (0, va_rf (some this))]) G rfl (congrArg (fun z => v1 + z) (by decide)) (by decide) rfl dX10_whoHas_39 ?_
            refine JR_goto (pc := 42) (tgt := 2) G dX10_whoHas_42 (by decide) ?_
            refine J_sub [1, 0] rfl ?_
            exact ih (v1 + 1)
          · refine JR_iload_n (pc := 37) (k := 1) (i := 1) G rfl rfl dX10_whoHas_37 ?_
            exact JR_iret (pc := 38) G hR dX10_whoHas_38 rfl rfl
  unfold Mo_whoHas
  refine JR_iconst (pc := 0) G ci_0 dX10_whoHas_0 ?_
  refine JR_istore_n (pc := 1) (k := 1) (i := 1) (lv' := [(1, .int 0), (0, va_rf (some this))]) G rfl (by decide) rfl dX10_whoHas_1 ?_
  refine J_sub [1, 0] rfl ?_
  exact hMo_whoHas_h2 FU 0

def Mo_isWrong_h2 (this : Nat) (p1 : Int32) (S : Sp) (d : Dt) : Nat → Int32 → Option Int32
  | 0, _ => none
  | f + 1, v2 =>
    (isK S 9 (some this)).bind fun z1 =>
    (Mo_injections this S d).bind fun r2 =>
    if r2 ≤ v2 then
      some 0
    else
      if v2 = (d.1 z1 23) then
        Mo_isWrong_h2 this p1 S d f (v2 + 1)
      else
        (Mo_of this v2 0 S d).bind fun r3 =>
        if ¬ r3 = 4 then
          Mo_isWrong_h2 this p1 S d f (v2 + 1)
        else
          (Mo_of this v2 1 S d).bind fun r4 =>
          if ¬ r4 = p1 then
            Mo_isWrong_h2 this p1 S d f (v2 + 1)
          else
            (aix S 50 (S.2.1 z1 29) p1).bind fun q5 =>
            (Mo_of this v2 2 S d).bind fun r6 =>
            (Mo_of this v2 2 S d).bind fun r7 =>
            (Mo_of this v2 4 S d).bind fun r8 =>
            (Mo_in (Int32.toInt64 (d.1 q5.1 q5.2)) (Int32.toInt64 r6) (Int32.toInt64 ((r7 + r8) - 1)) S d).bind fun r9 =>
            if r9 = 0 then
              Mo_isWrong_h2 this p1 S d f (v2 + 1)
            else
              some 1
def Mo_isWrong (this : Nat) (p1 : Int32) (S : Sp) (d : Dt) : Option Int32 :=
  Mo_isWrong_h2 this p1 S d FU 0
set_option maxHeartbeats 4000000 in
theorem Mo_isWrong_fn (this : Nat) (p1 : Int32) (S : Sp) (d : Dt) : Fn yX10_isWrong (ws_ yX10_isWrong cX10_isWrong 3 (some .boolean)) 2 40 [va_rf (some this), .int p1] S d rvI Λp (Mo_isWrong this p1 S d) := by
  refine Fn.ofJ (own := RX10) (lv := [(0, va_rf (some this)), (1, .int p1)]) (by decide +kernel) rfl (by simp [cat_i, cat_l, cat_f, cat_d, rf_cat]) (by simp [lv_args, cat_i, cat_l, cat_f, cat_d, rf_cat]) ?_
  intro X F G hRm hR hI
  have hMo_isWrong_h2 : ∀ (f : Nat) (v2 : Int32), J X F Λp S d 2 [(0, va_rf (some this)), (1, .int p1), (2, .int v2)] [] (Mo_isWrong_h2 this p1 S d f v2) := by
    intro  f
    induction f with
    | zero => intro v2; exact J_no
    | succ f ih =>
      intro v2
      unfold Mo_isWrong_h2
      refine JR_iload_n (pc := 2) (k := 2) (i := 2) G rfl rfl dX10_isWrong_2 ?_
      refine JR_aload_n (pc := 3) (k := 0) (i := 0) (o := some this) G rfl rfl dX10_isWrong_3 ?_
      refine J_bd (fun z1 hz1 => ?_)
      refine JPV_I (pc := 4) (as := []) (st' := [.int v2]) (o := some this) G (Mo_injections_fn this S d) (JC_V (n := 0) G hRm cl_X10 q2110 q2112 qs108 q152 q2113 ⟨rfl, dd_X10_injections⟩ ⟨by decide, by decide⟩ dX10_isWrong_4 hz1 rfl (Nat.le_of_ble_eq_true rfl)) rfl (fun r2 hr2 => ?_)
      refine JR_icmp_ge (pc := 7) (tgt := 82) G dX10_isWrong_7 (by decide) (fun c14 => ?_) (fun c14 => ?_)
      · refine JR_iconst (pc := 82) G ci_0 dX10_isWrong_82 ?_
        exact JR_zret (pc := 83) G hR dX10_isWrong_83 (Or.inl rfl) rfl rfl
      · refine JR_iload_n (pc := 10) (k := 2) (i := 2) G rfl rfl dX10_isWrong_10 ?_
        refine JR_aload_n (pc := 11) (k := 0) (i := 0) (o := some this) G rfl rfl dX10_isWrong_11 ?_
        refine JR_gI (pc := 12) (k := 23) G cl_X10 in_X10 (by decide) (by decide) rfl (Or.inl rfl) q1611 hz1 dX10_isWrong_12 ?_
        refine JR_icmp_eq (pc := 15) (tgt := 76) G dX10_isWrong_15 (by decide) (fun c13 => ?_) (fun c13 => ?_)
        · refine JR_iinc (pc := 76) (i := 2) (v := v2 + 1) (lv' := [(2, .int (v2 + 1)), (0, va_rf (some this)), (1, .int p1)]) G rfl (congrArg (fun z => v2 + z) (by decide)) (by decide) rfl dX10_isWrong_76 ?_
          refine JR_goto (pc := 79) (tgt := 2) G dX10_isWrong_79 (by decide) ?_
          refine J_sub [1, 2, 0] rfl ?_
          exact ih (v2 + 1)
        · refine JR_aload_n (pc := 18) (k := 0) (i := 0) (o := some this) G rfl rfl dX10_isWrong_18 ?_
          refine JR_iload_n (pc := 19) (k := 2) (i := 2) G rfl rfl dX10_isWrong_19 ?_
          refine JR_iconst (pc := 20) G ci_0 dX10_isWrong_20 ?_
          refine JPV_I (pc := 21) (as := [.int v2, .int 0]) (st' := []) (o := some this) G (Mo_of_fn this v2 0 S d) (JC_V (n := 2) G hRm cl_X10 q1962 q1964 qs86 q152 q1965 ⟨rfl, dd_X10_of⟩ ⟨by decide, by decide⟩ dX10_isWrong_21 hz1 rfl (Nat.le_of_ble_eq_true rfl)) rfl (fun r3 hr3 => ?_)
          refine JR_iconst (pc := 24) G ci_4 dX10_isWrong_24 ?_
          refine JR_icmp_ne (pc := 25) (tgt := 76) G dX10_isWrong_25 (by decide) (fun c12 => ?_) (fun c12 => ?_)
          · refine JR_iinc (pc := 76) (i := 2) (v := v2 + 1) (lv' := [(2, .int (v2 + 1)), (0, va_rf (some this)), (1, .int p1)]) G rfl (congrArg (fun z => v2 + z) (by decide)) (by decide) rfl dX10_isWrong_76 ?_
            refine JR_goto (pc := 79) (tgt := 2) G dX10_isWrong_79 (by decide) ?_
            refine J_sub [1, 2, 0] rfl ?_
            exact ih (v2 + 1)
          · refine JR_aload_n (pc := 28) (k := 0) (i := 0) (o := some this) G rfl rfl dX10_isWrong_28 ?_
            refine JR_iload_n (pc := 29) (k := 2) (i := 2) G rfl rfl dX10_isWrong_29 ?_
            refine JR_iconst (pc := 30) G ci_1 dX10_isWrong_30 ?_
            refine JPV_I (pc := 31) (as := [.int v2, .int 1]) (st' := []) (o := some this) G (Mo_of_fn this v2 1 S d) (JC_V (n := 2) G hRm cl_X10 q1962 q1964 qs86 q152 q1965 ⟨rfl, dd_X10_of⟩ ⟨by decide, by decide⟩ dX10_isWrong_31 hz1 rfl (Nat.le_of_ble_eq_true rfl)) rfl (fun r4 hr4 => ?_)
            refine JR_iload_n (pc := 34) (k := 1) (i := 1) G rfl rfl dX10_isWrong_34 ?_
            refine JR_icmp_ne (pc := 35) (tgt := 76) G dX10_isWrong_35 (by decide) (fun c11 => ?_) (fun c11 => ?_)
            · refine JR_iinc (pc := 76) (i := 2) (v := v2 + 1) (lv' := [(2, .int (v2 + 1)), (0, va_rf (some this)), (1, .int p1)]) G rfl (congrArg (fun z => v2 + z) (by decide)) (by decide) rfl dX10_isWrong_76 ?_
              refine JR_goto (pc := 79) (tgt := 2) G dX10_isWrong_79 (by decide) ?_
              refine J_sub [1, 2, 0] rfl ?_
              exact ih (v2 + 1)
            · refine JR_aload_n (pc := 38) (k := 0) (i := 0) (o := some this) G rfl rfl dX10_isWrong_38 ?_
              refine JR_gR (pc := 39) (k := 29) G cl_X10 in_X10 (by decide) (by decide) rfl (Or.inl rfl) q1617 hz1 dX10_isWrong_39 ?_
              refine JR_iload_n (pc := 42) (k := 1) (i := 1) G rfl rfl dX10_isWrong_42 ?_
              refine J_bd (fun q5 hq5 => ?_)
              refine JR_iaload (pc := 43) G hq5 dX10_isWrong_43 ?_
              refine JR_i2l (pc := 44) G dX10_isWrong_44 ?_
              refine JR_aload_n (pc := 45) (k := 0) (i := 0) (o := some this) G rfl rfl dX10_isWrong_45 ?_
              refine JR_iload_n (pc := 46) (k := 2) (i := 2) G rfl rfl dX10_isWrong_46 ?_
              refine JR_iconst (pc := 47) G ci_2 dX10_isWrong_47 ?_
              refine JPV_I (pc := 48) (as := [.int v2, .int 2]) (st' := [.long (Int32.toInt64 (d.1 q5.1 q5.2))]) (o := some this) G (Mo_of_fn this v2 2 S d) (JC_V (n := 2) G hRm cl_X10 q1962 q1964 qs86 q152 q1965 ⟨rfl, dd_X10_of⟩ ⟨by decide, by decide⟩ dX10_isWrong_48 hz1 rfl (Nat.le_of_ble_eq_true rfl)) rfl (fun r6 hr6 => ?_)
              refine JR_i2l (pc := 51) G dX10_isWrong_51 ?_
              refine JR_aload_n (pc := 52) (k := 0) (i := 0) (o := some this) G rfl rfl dX10_isWrong_52 ?_
              refine JR_iload_n (pc := 53) (k := 2) (i := 2) G rfl rfl dX10_isWrong_53 ?_
              refine JR_iconst (pc := 54) G ci_2 dX10_isWrong_54 ?_
              refine JPV_I (pc := 55) (as := [.int v2, .int 2]) (st' := [.long (Int32.toInt64 r6), .long (Int32.toInt64 (d.1 q5.1 q5.2))]) (o := some this) G (Mo_of_fn this v2 2 S d) (JC_V (n := 2) G hRm cl_X10 q1962 q1964 qs86 q152 q1965 ⟨rfl, dd_X10_of⟩ ⟨by decide, by decide⟩ dX10_isWrong_55 hz1 rfl (Nat.le_of_ble_eq_true rfl)) rfl (fun r7 hr7 => ?_)
              refine JR_aload_n (pc := 58) (k := 0) (i := 0) (o := some this) G rfl rfl dX10_isWrong_58 ?_
              refine JR_iload_n (pc := 59) (k := 2) (i := 2) G rfl rfl dX10_isWrong_59 ?_
              refine JR_iconst (pc := 60) G ci_4 dX10_isWrong_60 ?_
              refine JPV_I (pc := 61) (as := [.int v2, .int 4]) (st' := [.int r7, .long (Int32.toInt64 r6), .long (Int32.toInt64 (d.1 q5.1 q5.2))]) (o := some this) G (Mo_of_fn this v2 4 S d) (JC_V (n := 2) G hRm cl_X10 q1962 q1964 qs86 q152 q1965 ⟨rfl, dd_X10_of⟩ ⟨by decide, by decide⟩ dX10_isWrong_61 hz1 rfl (Nat.le_of_ble_eq_true rfl)) rfl (fun r8 hr8 => ?_)
              refine JR_iadd (pc := 64) G dX10_isWrong_64 ?_
              refine JR_iconst (pc := 65) G ci_1 dX10_isWrong_65 ?_
              refine JR_isub (pc := 66) G dX10_isWrong_66 ?_
              refine JR_i2l (pc := 67) G dX10_isWrong_67 ?_
              refine JPS_I (pc := 68) (as := [.long (Int32.toInt64 (d.1 q5.1 q5.2)), .long (Int32.toInt64 r6), .long (Int32.toInt64 ((r7 + r8) - 1))]) (st' := []) G (Mo_in_fn (Int32.toInt64 (d.1 q5.1 q5.2)) (Int32.toInt64 r6) (Int32.toInt64 ((r7 + r8) - 1)) S d) (JC_S (n := 3) G hRm q1782 q1783 q152 q1784 dd_X10_in ⟨by decide, by decide⟩ dX10_isWrong_68 rfl (Nat.le_of_ble_eq_true rfl)) rfl (fun r9 hr9 => ?_)
              refine JR_if_eq (pc := 71) (tgt := 76) G dX10_isWrong_71 (by decide) (fun c10 => ?_) (fun c10 => ?_)
              · refine JR_iinc (pc := 76) (i := 2) (v := v2 + 1) (lv' := [(2, .int (v2 + 1)), (0, va_rf (some this)), (1, .int p1)]) G rfl (congrArg (fun z => v2 + z) (by decide)) (by decide) rfl dX10_isWrong_76 ?_
                refine JR_goto (pc := 79) (tgt := 2) G dX10_isWrong_79 (by decide) ?_
                refine J_sub [1, 2, 0] rfl ?_
                exact ih (v2 + 1)
              · refine JR_iconst (pc := 74) G ci_1 dX10_isWrong_74 ?_
                exact JR_zret (pc := 75) G hR dX10_isWrong_75 (Or.inr rfl) rfl rfl
  unfold Mo_isWrong
  refine JR_iconst (pc := 0) G ci_0 dX10_isWrong_0 ?_
  refine JR_istore_n (pc := 1) (k := 2) (i := 2) (lv' := [(2, .int 0), (0, va_rf (some this)), (1, .int p1)]) G rfl (by decide) rfl dX10_isWrong_1 ?_
  refine J_sub [1, 2, 0] rfl ?_
  exact hMo_isWrong_h2 FU 0

def Mo_openOf (this : Nat) (p1 : Int32) (S : Sp) (d : Dt) : Option Int32 :=
  (isK S 9 (some this)).bind fun z1 =>
  if ¬ p1 = (d.1 z1 24) then
    (Mo_toldOf this p1 2 S d).bind fun r2 =>
    some r2
  else
    some (d.1 z1 25)
set_option maxHeartbeats 4000000 in
theorem Mo_openOf_fn (this : Nat) (p1 : Int32) (S : Sp) (d : Dt) : Fn yX10_openOf (ws_ yX10_openOf cX10_openOf 2 (some .int)) 1 22 [va_rf (some this), .int p1] S d rvI Λp (Mo_openOf this p1 S d) := by
  refine Fn.ofJ (own := RX10) (lv := [(0, va_rf (some this)), (1, .int p1)]) (by decide +kernel) rfl (by simp [cat_i, cat_l, cat_f, cat_d, rf_cat]) (by simp [lv_args, cat_i, cat_l, cat_f, cat_d, rf_cat]) ?_
  intro X F G hRm hR hI
  unfold Mo_openOf
  refine JR_iload_n (pc := 0) (k := 1) (i := 1) G rfl rfl dX10_openOf_0 ?_
  refine JR_aload_n (pc := 1) (k := 0) (i := 0) (o := some this) G rfl rfl dX10_openOf_1 ?_
  refine J_bd (fun z1 hz1 => ?_)
  refine JR_gI (pc := 2) (k := 24) G cl_X10 in_X10 (by decide) (by decide) rfl (Or.inl rfl) q1612 hz1 dX10_openOf_2 ?_
  refine JR_icmp_ne (pc := 5) (tgt := 15) G dX10_openOf_5 (by decide) (fun c3 => ?_) (fun c3 => ?_)
  · refine JR_aload_n (pc := 15) (k := 0) (i := 0) (o := some this) G rfl rfl dX10_openOf_15 ?_
    refine JR_iload_n (pc := 16) (k := 1) (i := 1) G rfl rfl dX10_openOf_16 ?_
    refine JR_iconst (pc := 17) G ci_2 dX10_openOf_17 ?_
    refine JPV_I (pc := 18) (as := [.int p1, .int 2]) (st' := []) (o := some this) G (Mo_toldOf_fn this p1 2 S d) (JC_V (n := 2) G hRm cl_X10 q1921 q1923 qs79 q152 q1924 ⟨rfl, dd_X10_toldOf⟩ ⟨by decide, by decide⟩ dX10_openOf_18 hz1 rfl (Nat.le_of_ble_eq_true rfl)) rfl (fun r2 hr2 => ?_)
    exact JR_iret (pc := 21) G hR dX10_openOf_21 rfl rfl
  · refine JR_aload_n (pc := 8) (k := 0) (i := 0) (o := some this) G rfl rfl dX10_openOf_8 ?_
    refine JR_gI (pc := 9) (k := 25) G cl_X10 in_X10 (by decide) (by decide) rfl (Or.inl rfl) q1613 hz1 dX10_openOf_9 ?_
    refine JR_goto (pc := 12) (tgt := 21) G dX10_openOf_12 (by decide) ?_
    exact JR_iret (pc := 21) G hR dX10_openOf_21 rfl rfl

def Mo_records (this : Nat) (p1 : Int32) (p2 : Int32) (p3 : Int32) (p4 : Int32) (S : Sp) (d : Dt) : Option (Unit × Dt) :=
  (isK S 9 (some this)).bind fun z1 =>
  (aix S 50 (S.2.1 z1 52) (d.1 z1 56)).bind fun q2 =>
  (some (dI d q2.1 q2.2 p1)).bind fun d3 =>
  (aix S 50 (S.2.1 z1 53) (d3.1 z1 56)).bind fun q4 =>
  (some (dI d3 q4.1 q4.2 p2)).bind fun d5 =>
  (aix S 50 (S.2.1 z1 54) (d5.1 z1 56)).bind fun q6 =>
  (some (dI d5 q6.1 q6.2 p3)).bind fun d7 =>
  (aix S 50 (S.2.1 z1 55) (d7.1 z1 56)).bind fun q8 =>
  (some (dI d7 q8.1 q8.2 p4)).bind fun d9 =>
  (some (dI d9 z1 56 ((d9.1 z1 56) + 1))).bind fun d10 =>
  some ((), d10)
set_option maxHeartbeats 4000000 in
theorem Mo_records_fn (this : Nat) (p1 : Int32) (p2 : Int32) (p3 : Int32) (p4 : Int32) (S : Sp) (d : Dt) : Fn yX10_records (ws_ yX10_records cX10_records 5 none) 0 0 [va_rf (some this), .int p1, .int p2, .int p3, .int p4] S d rvU Λw (Mo_records this p1 p2 p3 p4 S d) := by
  refine Fn.ofJ (own := RX10) (lv := [(0, va_rf (some this)), (1, .int p1), (2, .int p2), (3, .int p3), (4, .int p4)]) (by decide +kernel) rfl (by simp [cat_i, cat_l, cat_f, cat_d, rf_cat]) (by simp [lv_args, cat_i, cat_l, cat_f, cat_d, rf_cat]) ?_
  intro X F G hRm hR hI
  unfold Mo_records
  refine JR_aload_n (pc := 0) (k := 0) (i := 0) (o := some this) G rfl rfl dX10_records_0 ?_
  refine J_bd (fun z1 hz1 => ?_)
  refine JR_gR (pc := 1) (k := 52) G cl_X10 in_X10 (by decide) (by decide) rfl (Or.inl rfl) q1640 hz1 dX10_records_1 ?_
  refine JR_aload_n (pc := 4) (k := 0) (i := 0) (o := some this) G rfl rfl dX10_records_4 ?_
  refine JR_gI (pc := 5) (k := 56) G cl_X10 in_X10 (by decide) (by decide) rfl (Or.inl rfl) q1644 hz1 dX10_records_5 ?_
  refine JR_iload_n (pc := 8) (k := 1) (i := 1) G rfl rfl dX10_records_8 ?_
  refine J_bd (fun q2 hq2 => ?_)
  refine JW_iastore (pc := 9) G hq2 (fun _ => rfl) dX10_records_9 ?_
  refine J_nmD (fun d3 hd3 => ?_)
  refine JR_aload_n (pc := 10) (k := 0) (i := 0) (o := some this) G rfl rfl dX10_records_10 ?_
  refine JR_gR (pc := 11) (k := 53) G cl_X10 in_X10 (by decide) (by decide) rfl (Or.inl rfl) q1641 hz1 dX10_records_11 ?_
  refine JR_aload_n (pc := 14) (k := 0) (i := 0) (o := some this) G rfl rfl dX10_records_14 ?_
  refine JR_gI (pc := 15) (k := 56) G cl_X10 in_X10 (by decide) (by decide) rfl (Or.inl rfl) q1644 hz1 dX10_records_15 ?_
  refine JR_iload_n (pc := 18) (k := 2) (i := 2) G rfl rfl dX10_records_18 ?_
  refine J_bd (fun q4 hq4 => ?_)
  refine JW_iastore (pc := 19) G hq4 (fun _ => rfl) dX10_records_19 ?_
  refine J_nmD (fun d5 hd5 => ?_)
  refine JR_aload_n (pc := 20) (k := 0) (i := 0) (o := some this) G rfl rfl dX10_records_20 ?_
  refine JR_gR (pc := 21) (k := 54) G cl_X10 in_X10 (by decide) (by decide) rfl (Or.inl rfl) q1642 hz1 dX10_records_21 ?_
  refine JR_aload_n (pc := 24) (k := 0) (i := 0) (o := some this) G rfl rfl dX10_records_24 ?_
  refine JR_gI (pc := 25) (k := 56) G cl_X10 in_X10 (by decide) (by decide) rfl (Or.inl rfl) q1644 hz1 dX10_records_25 ?_
  refine JR_iload_n (pc := 28) (k := 3) (i := 3) G rfl rfl dX10_records_28 ?_
  refine J_bd (fun q6 hq6 => ?_)
  refine JW_iastore (pc := 29) G hq6 (fun _ => rfl) dX10_records_29 ?_
  refine J_nmD (fun d7 hd7 => ?_)
  refine JR_aload_n (pc := 30) (k := 0) (i := 0) (o := some this) G rfl rfl dX10_records_30 ?_
  refine JR_gR (pc := 31) (k := 55) G cl_X10 in_X10 (by decide) (by decide) rfl (Or.inl rfl) q1643 hz1 dX10_records_31 ?_
  refine JR_aload_n (pc := 34) (k := 0) (i := 0) (o := some this) G rfl rfl dX10_records_34 ?_
  refine JR_gI (pc := 35) (k := 56) G cl_X10 in_X10 (by decide) (by decide) rfl (Or.inl rfl) q1644 hz1 dX10_records_35 ?_
  refine JR_iload (pc := 38) (i := 4) G rfl dX10_records_38 ?_
  refine J_bd (fun q8 hq8 => ?_)
  refine JW_iastore (pc := 40) G hq8 (fun _ => rfl) dX10_records_40 ?_
  refine J_nmD (fun d9 hd9 => ?_)
  refine JR_aload_n (pc := 41) (k := 0) (i := 0) (o := some this) G rfl rfl dX10_records_41 ?_
  refine JR_dup (pc := 42) G (rf_cat _) dX10_records_42 ?_
  refine JR_gI (pc := 43) (k := 56) G cl_X10 in_X10 (by decide) (by decide) rfl (Or.inl rfl) q1644 hz1 dX10_records_43 ?_
  refine JR_iconst (pc := 46) G ci_1 dX10_records_46 ?_
  refine JR_iadd (pc := 47) G dX10_records_47 ?_
  refine JW_pI (pc := 48) (k := 56) G cl_X10 in_X10 tyX10_ok nmX10 (by decide) (by decide) rfl (Or.inl rfl) rfl q1644 rfl rfl hz1 (fun _ => rfl) dX10_records_48 ?_
  refine J_nmD (fun d10 hd10 => ?_)
  exact JR_vret (pc := 51) G hR dX10_records_51 rfl rfl

def Mo_restarts (this : Nat) (p1 : Int32) (p2 : Int32) (S : Sp) (d : Dt) : Option (Unit × Dt) :=
  (isK S 9 (some this)).bind fun z1 =>
  (aix S 50 (S.2.1 z1 29) p1).bind fun q2 =>
  (some (dI d q2.1 q2.2 ((-1)))).bind fun d3 =>
  (Mo_period this p1 S d3).bind fun r4 =>
  (gz r4).bind fun u5 =>
  (Mo_period this p1 S d3).bind fun r6 =>
  (aix S 50 (S.2.1 z1 28) p1).bind fun q7 =>
  (some (dI d3 q7.1 q7.2 (((p2 / r4) + 1) * r6))).bind fun d8 =>
  (aix S 50 (S.2.1 z1 33) p1).bind fun q9 =>
  (some (dI d8 q9.1 q9.2 1)).bind fun d10 =>
  (aix S 50 (S.2.1 z1 34) p1).bind fun q11 =>
  (some (dI d10 q11.1 q11.2 ((d10.1 q7.1 q7.2) - 1))).bind fun d12 =>
  (aix S 51 (S.2.1 z1 35) p1).bind fun q13 =>
  (some (dI d12 q13.1 q13.2 (vp_nar .boolean 0))).bind fun d14 =>
  some ((), d14)
set_option maxHeartbeats 4000000 in
theorem Mo_restarts_fn (this : Nat) (p1 : Int32) (p2 : Int32) (S : Sp) (d : Dt) : Fn yX10_restarts (ws_ yX10_restarts cX10_restarts 3 none) 2 43 [va_rf (some this), .int p1, .int p2] S d rvU Λw (Mo_restarts this p1 p2 S d) := by
  refine Fn.ofJ (own := RX10) (lv := [(0, va_rf (some this)), (1, .int p1), (2, .int p2)]) (by decide +kernel) rfl (by simp [cat_i, cat_l, cat_f, cat_d, rf_cat]) (by simp [lv_args, cat_i, cat_l, cat_f, cat_d, rf_cat]) ?_
  intro X F G hRm hR hI
  unfold Mo_restarts
  refine JR_aload_n (pc := 0) (k := 0) (i := 0) (o := some this) G rfl rfl dX10_restarts_0 ?_
  refine J_bd (fun z1 hz1 => ?_)
  refine JR_gR (pc := 1) (k := 29) G cl_X10 in_X10 (by decide) (by decide) rfl (Or.inl rfl) q1617 hz1 dX10_restarts_1 ?_
  refine JR_iload_n (pc := 4) (k := 1) (i := 1) G rfl rfl dX10_restarts_4 ?_
  refine JR_iconst (pc := 5) G ci_m1 dX10_restarts_5 ?_
  refine J_bd (fun q2 hq2 => ?_)
  refine JW_iastore (pc := 6) G hq2 (fun _ => rfl) dX10_restarts_6 ?_
  refine J_nmD (fun d3 hd3 => ?_)
  refine JR_aload_n (pc := 7) (k := 0) (i := 0) (o := some this) G rfl rfl dX10_restarts_7 ?_
  refine JR_gR (pc := 8) (k := 28) G cl_X10 in_X10 (by decide) (by decide) rfl (Or.inl rfl) q1616 hz1 dX10_restarts_8 ?_
  refine JR_iload_n (pc := 11) (k := 1) (i := 1) G rfl rfl dX10_restarts_11 ?_
  refine JR_iload_n (pc := 12) (k := 2) (i := 2) G rfl rfl dX10_restarts_12 ?_
  refine JR_aload_n (pc := 13) (k := 0) (i := 0) (o := some this) G rfl rfl dX10_restarts_13 ?_
  refine JR_iload_n (pc := 14) (k := 1) (i := 1) G rfl rfl dX10_restarts_14 ?_
  refine JPV_I (pc := 15) (as := [.int p1]) (st' := [.int p2, .int p1, va_rf (S.2.1 z1 28)]) (o := some this) G (Mo_period_fn this p1 S d3) (JC_V (n := 1) G hRm cl_X10 q1995 q1997 qs91 q152 q1998 ⟨rfl, dd_X10_period⟩ ⟨by decide, by decide⟩ dX10_restarts_15 hz1 rfl (Nat.le_of_ble_eq_true rfl)) rfl (fun r4 hr4 => ?_)
  refine J_bd (fun u5 hu5 => ?_)
  refine JR_idiv (pc := 18) G (gz_at hu5) dX10_restarts_18 ?_
  refine JR_iconst (pc := 19) G ci_1 dX10_restarts_19 ?_
  refine JR_iadd (pc := 20) G dX10_restarts_20 ?_
  refine JR_aload_n (pc := 21) (k := 0) (i := 0) (o := some this) G rfl rfl dX10_restarts_21 ?_
  refine JR_iload_n (pc := 22) (k := 1) (i := 1) G rfl rfl dX10_restarts_22 ?_
  refine JPV_I (pc := 23) (as := [.int p1]) (st' := [.int ((p2 / r4) + 1), .int p1, va_rf (S.2.1 z1 28)]) (o := some this) G (Mo_period_fn this p1 S d3) (JC_V (n := 1) G hRm cl_X10 q1995 q1997 qs91 q152 q1998 ⟨rfl, dd_X10_period⟩ ⟨by decide, by decide⟩ dX10_restarts_23 hz1 rfl (Nat.le_of_ble_eq_true rfl)) rfl (fun r6 hr6 => ?_)
  refine JR_imul (pc := 26) G dX10_restarts_26 ?_
  refine J_bd (fun q7 hq7 => ?_)
  refine JW_iastore (pc := 27) G hq7 (fun _ => rfl) dX10_restarts_27 ?_
  refine J_nmD (fun d8 hd8 => ?_)
  refine JR_aload_n (pc := 28) (k := 0) (i := 0) (o := some this) G rfl rfl dX10_restarts_28 ?_
  refine JR_gR (pc := 29) (k := 33) G cl_X10 in_X10 (by decide) (by decide) rfl (Or.inl rfl) q1621 hz1 dX10_restarts_29 ?_
  refine JR_iload_n (pc := 32) (k := 1) (i := 1) G rfl rfl dX10_restarts_32 ?_
  refine JR_iconst (pc := 33) G ci_1 dX10_restarts_33 ?_
  refine J_bd (fun q9 hq9 => ?_)
  refine JW_iastore (pc := 34) G hq9 (fun _ => rfl) dX10_restarts_34 ?_
  refine J_nmD (fun d10 hd10 => ?_)
  refine JR_aload_n (pc := 35) (k := 0) (i := 0) (o := some this) G rfl rfl dX10_restarts_35 ?_
  refine JR_gR (pc := 36) (k := 34) G cl_X10 in_X10 (by decide) (by decide) rfl (Or.inl rfl) q1622 hz1 dX10_restarts_36 ?_
  refine JR_iload_n (pc := 39) (k := 1) (i := 1) G rfl rfl dX10_restarts_39 ?_
  refine JR_aload_n (pc := 40) (k := 0) (i := 0) (o := some this) G rfl rfl dX10_restarts_40 ?_
  refine JR_gR (pc := 41) (k := 28) G cl_X10 in_X10 (by decide) (by decide) rfl (Or.inl rfl) q1616 hz1 dX10_restarts_41 ?_
  refine JR_iload_n (pc := 44) (k := 1) (i := 1) G rfl rfl dX10_restarts_44 ?_
  refine JR_iaload (pc := 45) G hq7 dX10_restarts_45 ?_
  refine JR_iconst (pc := 46) G ci_1 dX10_restarts_46 ?_
  refine JR_isub (pc := 47) G dX10_restarts_47 ?_
  refine J_bd (fun q11 hq11 => ?_)
  refine JW_iastore (pc := 48) G hq11 (fun _ => rfl) dX10_restarts_48 ?_
  refine J_nmD (fun d12 hd12 => ?_)
  refine JR_aload_n (pc := 49) (k := 0) (i := 0) (o := some this) G rfl rfl dX10_restarts_49 ?_
  refine JR_gR (pc := 50) (k := 35) G cl_X10 in_X10 (by decide) (by decide) rfl (Or.inl rfl) q1623 hz1 dX10_restarts_50 ?_
  refine JR_iload_n (pc := 53) (k := 1) (i := 1) G rfl rfl dX10_restarts_53 ?_
  refine JR_iconst (pc := 54) G ci_0 dX10_restarts_54 ?_
  refine J_bd (fun q13 hq13 => ?_)
  refine JW_zastore (pc := 55) G hq13 (fun _ => rfl) dX10_restarts_55 ?_
  refine J_nmD (fun d14 hd14 => ?_)
  exact JR_vret (pc := 56) G hR dX10_restarts_56 rfl rfl

def Mo_isUnder_b24 (this : Nat) (p1 : Int32) (p2 : Int32) (S : Sp) (d : Dt) (v3 : Int32) : Option Int32 :=
  if ¬ v3 = p2 then
    some 0
  else
    some 1
def Mo_isUnder_h2 (this : Nat) (p1 : Int32) (p2 : Int32) (S : Sp) (d : Dt) : Nat → Int32 → Option Int32
  | 0, _ => none
  | f + 1, v3 =>
    if v3 = p2 then
      Mo_isUnder_b24 this p1 p2 S d v3
    else
      if v3 ≤ 0 then
        Mo_isUnder_b24 this p1 p2 S d v3
      else
        (isK S 9 (some this)).bind fun z1 =>
        (aix S 50 (S.2.1 z1 1) (8 + v3)).bind fun q2 =>
        (some (d.1 q2.1 q2.2)).bind fun x3 =>
        Mo_isUnder_h2 this p1 p2 S d f x3
def Mo_isUnder (this : Nat) (p1 : Int32) (p2 : Int32) (S : Sp) (d : Dt) : Option Int32 :=
  Mo_isUnder_h2 this p1 p2 S d FU p1
set_option maxHeartbeats 4000000 in
theorem Mo_isUnder_fn (this : Nat) (p1 : Int32) (p2 : Int32) (S : Sp) (d : Dt) : Fn yX10_isUnder (ws_ yX10_isUnder cX10_isUnder 4 (some .boolean)) 0 0 [va_rf (some this), .int p1, .int p2] S d rvI Λp (Mo_isUnder this p1 p2 S d) := by
  refine Fn.ofJ (own := RX10) (lv := [(0, va_rf (some this)), (1, .int p1), (2, .int p2)]) (by decide +kernel) rfl (by simp [cat_i, cat_l, cat_f, cat_d, rf_cat]) (by simp [lv_args, cat_i, cat_l, cat_f, cat_d, rf_cat]) ?_
  intro X F G hRm hR hI
  have hMo_isUnder_b24 : ∀ (v3 : Int32), J X F Λp S d 24 [(0, va_rf (some this)), (1, .int p1), (2, .int p2), (3, .int v3)] [] (Mo_isUnder_b24 this p1 p2 S d v3) := by
    intro v3
    unfold Mo_isUnder_b24
    refine JR_iload_n (pc := 24) (k := 3) (i := 3) G rfl rfl dX10_isUnder_24 ?_
    refine JR_iload_n (pc := 25) (k := 2) (i := 2) G rfl rfl dX10_isUnder_25 ?_
    refine JR_icmp_ne (pc := 26) (tgt := 33) G dX10_isUnder_26 (by decide) (fun c6 => ?_) (fun c6 => ?_)
    · refine JR_iconst (pc := 33) G ci_0 dX10_isUnder_33 ?_
      exact JR_zret (pc := 34) G hR dX10_isUnder_34 (Or.inl rfl) rfl rfl
    · refine JR_iconst (pc := 29) G ci_1 dX10_isUnder_29 ?_
      refine JR_goto (pc := 30) (tgt := 34) G dX10_isUnder_30 (by decide) ?_
      exact JR_zret (pc := 34) G hR dX10_isUnder_34 (Or.inr rfl) rfl rfl
  have hMo_isUnder_h2 : ∀ (f : Nat) (v3 : Int32), J X F Λp S d 2 [(0, va_rf (some this)), (1, .int p1), (2, .int p2), (3, .int v3)] [] (Mo_isUnder_h2 this p1 p2 S d f v3) := by
    intro  f
    induction f with
    | zero => intro v3; exact J_no
    | succ f ih =>
      intro v3
      unfold Mo_isUnder_h2
      refine JR_iload_n (pc := 2) (k := 3) (i := 3) G rfl rfl dX10_isUnder_2 ?_
      refine JR_iload_n (pc := 3) (k := 2) (i := 2) G rfl rfl dX10_isUnder_3 ?_
      refine JR_icmp_eq (pc := 4) (tgt := 24) G dX10_isUnder_4 (by decide) (fun c5 => ?_) (fun c5 => ?_)
      · exact hMo_isUnder_b24 v3
      · refine JR_iload_n (pc := 7) (k := 3) (i := 3) G rfl rfl dX10_isUnder_7 ?_
        refine JR_if_le (pc := 8) (tgt := 24) G dX10_isUnder_8 (by decide) (fun c4 => ?_) (fun c4 => ?_)
        · exact hMo_isUnder_b24 v3
        · refine JR_aload_n (pc := 11) (k := 0) (i := 0) (o := some this) G rfl rfl dX10_isUnder_11 ?_
          refine J_bd (fun z1 hz1 => ?_)
          refine JR_gR (pc := 12) (k := 1) G cl_X10 in_X10 (by decide) (by decide) rfl (Or.inl rfl) q1589 hz1 dX10_isUnder_12 ?_
          refine JR_bipush (pc := 15) (v := 8) G (by decide) dX10_isUnder_15 ?_
          refine JR_iload_n (pc := 17) (k := 3) (i := 3) G rfl rfl dX10_isUnder_17 ?_
          refine JR_iadd (pc := 18) G dX10_isUnder_18 ?_
          refine J_bd (fun q2 hq2 => ?_)
          refine JR_iaload (pc := 19) G hq2 dX10_isUnder_19 ?_
          refine J_nm (fun x3 hx3 => ?_)
          refine JR_istore_n (pc := 20) (k := 3) (i := 3) (lv' := [(3, .int x3), (0, va_rf (some this)), (1, .int p1), (2, .int p2)]) G rfl (by decide) rfl dX10_isUnder_20 ?_
          refine JR_goto (pc := 21) (tgt := 2) G dX10_isUnder_21 (by decide) ?_
          refine J_sub [1, 2, 3, 0] rfl ?_
          exact ih x3
  unfold Mo_isUnder
  refine JR_iload_n (pc := 0) (k := 1) (i := 1) G rfl rfl dX10_isUnder_0 ?_
  refine JR_istore_n (pc := 1) (k := 3) (i := 3) (lv' := [(3, .int p1), (0, va_rf (some this)), (1, .int p1), (2, .int p2)]) G rfl (by decide) rfl dX10_isUnder_1 ?_
  refine J_sub [1, 2, 3, 0] rfl ?_
  exact hMo_isUnder_h2 FU p1

def Mo_wakes_h2 (this : Nat) (p1 : Int32) (p2 : Int32) (S : Sp) : Nat → Int32 → Dt → Option (Unit × Dt)
  | 0, _, _ => none
  | f + 1, v3, d =>
    (isK S 9 (some this)).bind fun z1 =>
    (Mo_injections this S d).bind fun r2 =>
    if r2 ≤ v3 then
      some ((), d)
    else
      (Mo_of this v3 0 S d).bind fun r3 =>
      if ¬ r3 = 5 then
        Mo_wakes_h2 this p1 p2 S f (v3 + 1) d
      else
        (Mo_of this v3 1 S d).bind fun r4 =>
        if ¬ r4 = p1 then
          Mo_wakes_h2 this p1 p2 S f (v3 + 1) d
        else
          (Mo_of this v3 2 S d).bind fun r5 =>
          if p2 < r5 then
            Mo_wakes_h2 this p1 p2 S f (v3 + 1) d
          else
            (aix S 51 (S.2.1 z1 48) v3).bind fun q6 =>
            (some (dI d q6.1 q6.2 (vp_nar .boolean 1))).bind fun d7 =>
            Mo_wakes_h2 this p1 p2 S f (v3 + 1) d7
def Mo_wakes (this : Nat) (p1 : Int32) (p2 : Int32) (S : Sp) (d : Dt) : Option (Unit × Dt) :=
  Mo_wakes_h2 this p1 p2 S FU 0 d
set_option maxHeartbeats 4000000 in
theorem Mo_wakes_fn (this : Nat) (p1 : Int32) (p2 : Int32) (S : Sp) (d : Dt) : Fn yX10_wakes (ws_ yX10_wakes cX10_wakes 4 none) 2 40 [va_rf (some this), .int p1, .int p2] S d rvU Λw (Mo_wakes this p1 p2 S d) := by
  refine Fn.ofJ (own := RX10) (lv := [(0, va_rf (some this)), (1, .int p1), (2, .int p2)]) (by decide +kernel) rfl (by simp [cat_i, cat_l, cat_f, cat_d, rf_cat]) (by simp [lv_args, cat_i, cat_l, cat_f, cat_d, rf_cat]) ?_
  intro X F G hRm hR hI
  have hMo_wakes_h2 : ∀ (f : Nat) (v3 : Int32) (d : Dt), J X F Λw S d 2 [(0, va_rf (some this)), (1, .int p1), (2, .int p2), (3, .int v3)] [] (Mo_wakes_h2 this p1 p2 S f v3 d) := by
    intro  f
    induction f with
    | zero => intro v3 d; exact J_no
    | succ f ih =>
      intro v3 d
      unfold Mo_wakes_h2
      refine JR_iload_n (pc := 2) (k := 3) (i := 3) G rfl rfl dX10_wakes_2 ?_
      refine JR_aload_n (pc := 3) (k := 0) (i := 0) (o := some this) G rfl rfl dX10_wakes_3 ?_
      refine J_bd (fun z1 hz1 => ?_)
      refine JPV_I (pc := 4) (as := []) (st' := [.int v3]) (o := some this) G (Mo_injections_fn this S d) (JC_V (n := 0) G hRm cl_X10 q2110 q2112 qs108 q152 q2113 ⟨rfl, dd_X10_injections⟩ ⟨by decide, by decide⟩ dX10_wakes_4 hz1 rfl (Nat.le_of_ble_eq_true rfl)) rfl (fun r2 hr2 => ?_)
      refine JR_icmp_ge (pc := 7) (tgt := 53) G dX10_wakes_7 (by decide) (fun c11 => ?_) (fun c11 => ?_)
      · exact JR_vret (pc := 53) G hR dX10_wakes_53 rfl rfl
      · refine JR_aload_n (pc := 10) (k := 0) (i := 0) (o := some this) G rfl rfl dX10_wakes_10 ?_
        refine JR_iload_n (pc := 11) (k := 3) (i := 3) G rfl rfl dX10_wakes_11 ?_
        refine JR_iconst (pc := 12) G ci_0 dX10_wakes_12 ?_
        refine JPV_I (pc := 13) (as := [.int v3, .int 0]) (st' := []) (o := some this) G (Mo_of_fn this v3 0 S d) (JC_V (n := 2) G hRm cl_X10 q1962 q1964 qs86 q152 q1965 ⟨rfl, dd_X10_of⟩ ⟨by decide, by decide⟩ dX10_wakes_13 hz1 rfl (Nat.le_of_ble_eq_true rfl)) rfl (fun r3 hr3 => ?_)
        refine JR_iconst (pc := 16) G ci_5 dX10_wakes_16 ?_
        refine JR_icmp_ne (pc := 17) (tgt := 47) G dX10_wakes_17 (by decide) (fun c10 => ?_) (fun c10 => ?_)
        · refine JR_iinc (pc := 47) (i := 3) (v := v3 + 1) (lv' := [(3, .int (v3 + 1)), (0, va_rf (some this)), (1, .int p1), (2, .int p2)]) G rfl (congrArg (fun z => v3 + z) (by decide)) (by decide) rfl dX10_wakes_47 ?_
          refine JR_goto (pc := 50) (tgt := 2) G dX10_wakes_50 (by decide) ?_
          refine J_sub [1, 2, 3, 0] rfl ?_
          exact ih (v3 + 1) d
        · refine JR_aload_n (pc := 20) (k := 0) (i := 0) (o := some this) G rfl rfl dX10_wakes_20 ?_
          refine JR_iload_n (pc := 21) (k := 3) (i := 3) G rfl rfl dX10_wakes_21 ?_
          refine JR_iconst (pc := 22) G ci_1 dX10_wakes_22 ?_
          refine JPV_I (pc := 23) (as := [.int v3, .int 1]) (st' := []) (o := some this) G (Mo_of_fn this v3 1 S d) (JC_V (n := 2) G hRm cl_X10 q1962 q1964 qs86 q152 q1965 ⟨rfl, dd_X10_of⟩ ⟨by decide, by decide⟩ dX10_wakes_23 hz1 rfl (Nat.le_of_ble_eq_true rfl)) rfl (fun r4 hr4 => ?_)
          refine JR_iload_n (pc := 26) (k := 1) (i := 1) G rfl rfl dX10_wakes_26 ?_
          refine JR_icmp_ne (pc := 27) (tgt := 47) G dX10_wakes_27 (by decide) (fun c9 => ?_) (fun c9 => ?_)
          · refine JR_iinc (pc := 47) (i := 3) (v := v3 + 1) (lv' := [(3, .int (v3 + 1)), (0, va_rf (some this)), (1, .int p1), (2, .int p2)]) G rfl (congrArg (fun z => v3 + z) (by decide)) (by decide) rfl dX10_wakes_47 ?_
            refine JR_goto (pc := 50) (tgt := 2) G dX10_wakes_50 (by decide) ?_
            refine J_sub [1, 2, 3, 0] rfl ?_
            exact ih (v3 + 1) d
          · refine JR_aload_n (pc := 30) (k := 0) (i := 0) (o := some this) G rfl rfl dX10_wakes_30 ?_
            refine JR_iload_n (pc := 31) (k := 3) (i := 3) G rfl rfl dX10_wakes_31 ?_
            refine JR_iconst (pc := 32) G ci_2 dX10_wakes_32 ?_
            refine JPV_I (pc := 33) (as := [.int v3, .int 2]) (st' := []) (o := some this) G (Mo_of_fn this v3 2 S d) (JC_V (n := 2) G hRm cl_X10 q1962 q1964 qs86 q152 q1965 ⟨rfl, dd_X10_of⟩ ⟨by decide, by decide⟩ dX10_wakes_33 hz1 rfl (Nat.le_of_ble_eq_true rfl)) rfl (fun r5 hr5 => ?_)
            refine JR_iload_n (pc := 36) (k := 2) (i := 2) G rfl rfl dX10_wakes_36 ?_
            refine JR_icmp_gt (pc := 37) (tgt := 47) G dX10_wakes_37 (by decide) (fun c8 => ?_) (fun c8 => ?_)
            · refine JR_iinc (pc := 47) (i := 3) (v := v3 + 1) (lv' := [(3, .int (v3 + 1)), (0, va_rf (some this)), (1, .int p1), (2, .int p2)]) G rfl (congrArg (fun z => v3 + z) (by decide)) (by decide) rfl dX10_wakes_47 ?_
              refine JR_goto (pc := 50) (tgt := 2) G dX10_wakes_50 (by decide) ?_
              refine J_sub [1, 2, 3, 0] rfl ?_
              exact ih (v3 + 1) d
            · refine JR_aload_n (pc := 40) (k := 0) (i := 0) (o := some this) G rfl rfl dX10_wakes_40 ?_
              refine JR_gR (pc := 41) (k := 48) G cl_X10 in_X10 (by decide) (by decide) rfl (Or.inl rfl) q1636 hz1 dX10_wakes_41 ?_
              refine JR_iload_n (pc := 44) (k := 3) (i := 3) G rfl rfl dX10_wakes_44 ?_
              refine JR_iconst (pc := 45) G ci_1 dX10_wakes_45 ?_
              refine J_bd (fun q6 hq6 => ?_)
              refine JW_zastore (pc := 46) G hq6 (fun _ => rfl) dX10_wakes_46 ?_
              refine J_nmD (fun d7 hd7 => ?_)
              refine JR_iinc (pc := 47) (i := 3) (v := v3 + 1) (lv' := [(3, .int (v3 + 1)), (0, va_rf (some this)), (1, .int p1), (2, .int p2)]) G rfl (congrArg (fun z => v3 + z) (by decide)) (by decide) rfl dX10_wakes_47 ?_
              refine JR_goto (pc := 50) (tgt := 2) G dX10_wakes_50 (by decide) ?_
              refine J_sub [1, 2, 3, 0] rfl ?_
              exact ih (v3 + 1) d7
  unfold Mo_wakes
  refine JR_iconst (pc := 0) G ci_0 dX10_wakes_0 ?_
  refine JR_istore_n (pc := 1) (k := 3) (i := 3) (lv' := [(3, .int 0), (0, va_rf (some this)), (1, .int p1), (2, .int p2)]) G rfl (by decide) rfl dX10_wakes_1 ?_
  refine J_sub [1, 2, 3, 0] rfl ?_
  exact hMo_wakes_h2 FU 0 d

def Mo_resets_h40 (this : Nat) (p1 : Int32) (p2 : Int32) (S : Sp) : Nat → Int32 → Dt → Option (Unit × Dt)
  | 0, _, _ => none
  | f + 1, v3, d =>
    (isK S 9 (some this)).bind fun z8 =>
    (aix S 50 (S.2.1 z8 1) 3).bind fun q9 =>
    if (d.1 q9.1 q9.2) ≤ v3 then
      some ((), d)
    else
      (Mo_isUnder this v3 p1 S d).bind fun r10 =>
      if r10 = 0 then
        Mo_resets_h40 this p1 p2 S f (v3 + 1) d
      else
        bind2 (Mo_wakes this v3 p2 S d) fun _ d11 =>
        Mo_resets_h40 this p1 p2 S f (v3 + 1) d11
def Mo_resets_h2 (this : Nat) (p1 : Int32) (p2 : Int32) (S : Sp) : Nat → Int32 → Dt → Option (Unit × Dt)
  | 0, _, _ => none
  | f + 1, v3, d =>
    (isK S 9 (some this)).bind fun z1 =>
    (aix S 50 (S.2.1 z1 1) 4).bind fun q2 =>
    if (d.1 q2.1 q2.2) ≤ v3 then
      Mo_resets_h40 this p1 p2 S FU 0 d
    else
      (Mo_toldOf this v3 0 S d).bind fun r3 =>
      (Mo_isUnder this r3 p1 S d).bind fun r4 =>
      if r4 = 0 then
        Mo_resets_h2 this p1 p2 S f (v3 + 1) d
      else
        bind2 (Mo_restarts this v3 p2 S d) fun _ d5 =>
        Mo_resets_h2 this p1 p2 S f (v3 + 1) d5
def Mo_resets (this : Nat) (p1 : Int32) (p2 : Int32) (S : Sp) (d : Dt) : Option (Unit × Dt) :=
  Mo_resets_h2 this p1 p2 S FU 0 d
set_option maxHeartbeats 4000000 in
theorem Mo_resets_fn (this : Nat) (p1 : Int32) (p2 : Int32) (S : Sp) (d : Dt) : Fn yX10_resets (ws_ yX10_resets cX10_resets 4 none) 3 65 [va_rf (some this), .int p1, .int p2] S d rvU Λw (Mo_resets this p1 p2 S d) := by
  refine Fn.ofJ (own := RX10) (lv := [(0, va_rf (some this)), (1, .int p1), (2, .int p2)]) (by decide +kernel) rfl (by simp [cat_i, cat_l, cat_f, cat_d, rf_cat]) (by simp [lv_args, cat_i, cat_l, cat_f, cat_d, rf_cat]) ?_
  intro X F G hRm hR hI
  have hMo_resets_h40 : ∀ (f : Nat) (v3 : Int32) (d : Dt), J X F Λw S d 40 [(0, va_rf (some this)), (1, .int p1), (2, .int p2), (3, .int v3)] [] (Mo_resets_h40 this p1 p2 S f v3 d) := by
    intro  f
    induction f with
    | zero => intro v3 d; exact J_no
    | succ f ih =>
      intro v3 d
      unfold Mo_resets_h40
      refine JR_iload_n (pc := 40) (k := 3) (i := 3) G rfl rfl dX10_resets_40 ?_
      refine JR_aload_n (pc := 41) (k := 0) (i := 0) (o := some this) G rfl rfl dX10_resets_41 ?_
      refine J_bd (fun z8 hz8 => ?_)
      refine JR_gR (pc := 42) (k := 1) G cl_X10 in_X10 (by decide) (by decide) rfl (Or.inl rfl) q1589 hz8 dX10_resets_42 ?_
      refine JR_iconst (pc := 45) G ci_3 dX10_resets_45 ?_
      refine J_bd (fun q9 hq9 => ?_)
      refine JR_iaload (pc := 46) G hq9 dX10_resets_46 ?_
      refine JR_icmp_ge (pc := 47) (tgt := 71) G dX10_resets_47 (by decide) (fun c13 => ?_) (fun c13 => ?_)
      · exact JR_vret (pc := 71) G hR dX10_resets_71 rfl rfl
      · refine JR_aload_n (pc := 50) (k := 0) (i := 0) (o := some this) G rfl rfl dX10_resets_50 ?_
        refine JR_iload_n (pc := 51) (k := 3) (i := 3) G rfl rfl dX10_resets_51 ?_
        refine JR_iload_n (pc := 52) (k := 1) (i := 1) G rfl rfl dX10_resets_52 ?_
        refine JPV_I (pc := 53) (as := [.int v3, .int p1]) (st' := []) (o := some this) G (Mo_isUnder_fn this v3 p1 S d) (JC_V (n := 2) G hRm cl_X10 q2151 q2153 qs118 q152 q2154 ⟨rfl, dd_X10_isUnder⟩ ⟨by decide, by decide⟩ dX10_resets_53 hz8 rfl (Nat.le_of_ble_eq_true rfl)) rfl (fun r10 hr10 => ?_)
        refine JR_if_eq (pc := 56) (tgt := 65) G dX10_resets_56 (by decide) (fun c12 => ?_) (fun c12 => ?_)
        · refine JR_iinc (pc := 65) (i := 3) (v := v3 + 1) (lv' := [(3, .int (v3 + 1)), (0, va_rf (some this)), (1, .int p1), (2, .int p2)]) G rfl (congrArg (fun z => v3 + z) (by decide)) (by decide) rfl dX10_resets_65 ?_
          refine JR_goto (pc := 68) (tgt := 40) G dX10_resets_68 (by decide) ?_
          refine J_sub [1, 2, 3, 0] rfl ?_
          exact ih (v3 + 1) d
        · refine JR_aload_n (pc := 59) (k := 0) (i := 0) (o := some this) G rfl rfl dX10_resets_59 ?_
          refine JR_iload_n (pc := 60) (k := 3) (i := 3) G rfl rfl dX10_resets_60 ?_
          refine JR_iload_n (pc := 61) (k := 2) (i := 2) G rfl rfl dX10_resets_61 ?_
          refine JQV_U (pc := 62) (as := [.int v3, .int p2]) (st' := []) (o := some this) G (Mo_wakes_fn this v3 p2 S d) (JC_V (n := 2) G hRm cl_X10 q2155 q2157 qs119 q152 q2158 ⟨rfl, dd_X10_wakes⟩ ⟨by decide, by decide⟩ dX10_resets_62 hz8 rfl (Nat.le_of_ble_eq_true rfl)) rfl (fun _ _ => rfl) (fun _ d11 hd11 => ?_)
          refine JR_iinc (pc := 65) (i := 3) (v := v3 + 1) (lv' := [(3, .int (v3 + 1)), (0, va_rf (some this)), (1, .int p1), (2, .int p2)]) G rfl (congrArg (fun z => v3 + z) (by decide)) (by decide) rfl dX10_resets_65 ?_
          refine JR_goto (pc := 68) (tgt := 40) G dX10_resets_68 (by decide) ?_
          refine J_sub [1, 2, 3, 0] rfl ?_
          exact ih (v3 + 1) d11
  have hMo_resets_h2 : ∀ (f : Nat) (v3 : Int32) (d : Dt), J X F Λw S d 2 [(0, va_rf (some this)), (1, .int p1), (2, .int p2), (3, .int v3)] [] (Mo_resets_h2 this p1 p2 S f v3 d) := by
    intro  f
    induction f with
    | zero => intro v3 d; exact J_no
    | succ f ih =>
      intro v3 d
      unfold Mo_resets_h2
      refine JR_iload_n (pc := 2) (k := 3) (i := 3) G rfl rfl dX10_resets_2 ?_
      refine JR_aload_n (pc := 3) (k := 0) (i := 0) (o := some this) G rfl rfl dX10_resets_3 ?_
      refine J_bd (fun z1 hz1 => ?_)
      refine JR_gR (pc := 4) (k := 1) G cl_X10 in_X10 (by decide) (by decide) rfl (Or.inl rfl) q1589 hz1 dX10_resets_4 ?_
      refine JR_iconst (pc := 7) G ci_4 dX10_resets_7 ?_
      refine J_bd (fun q2 hq2 => ?_)
      refine JR_iaload (pc := 8) G hq2 dX10_resets_8 ?_
      refine JR_icmp_ge (pc := 9) (tgt := 38) G dX10_resets_9 (by decide) (fun c7 => ?_) (fun c7 => ?_)
      · refine JR_iconst (pc := 38) G ci_0 dX10_resets_38 ?_
        refine JR_istore_n (pc := 39) (k := 3) (i := 3) (lv' := [(3, .int 0), (0, va_rf (some this)), (1, .int p1), (2, .int p2)]) G rfl (by decide) rfl dX10_resets_39 ?_
        refine J_sub [1, 2, 3, 0] rfl ?_
        exact hMo_resets_h40 FU 0 d
      · refine JR_aload_n (pc := 12) (k := 0) (i := 0) (o := some this) G rfl rfl dX10_resets_12 ?_
        refine JR_aload_n (pc := 13) (k := 0) (i := 0) (o := some this) G rfl rfl dX10_resets_13 ?_
        refine JR_iload_n (pc := 14) (k := 3) (i := 3) G rfl rfl dX10_resets_14 ?_
        refine JR_iconst (pc := 15) G ci_0 dX10_resets_15 ?_
        refine JPV_I (pc := 16) (as := [.int v3, .int 0]) (st' := [va_rf (some this)]) (o := some this) G (Mo_toldOf_fn this v3 0 S d) (JC_V (n := 2) G hRm cl_X10 q1921 q1923 qs79 q152 q1924 ⟨rfl, dd_X10_toldOf⟩ ⟨by decide, by decide⟩ dX10_resets_16 hz1 rfl (Nat.le_of_ble_eq_true rfl)) rfl (fun r3 hr3 => ?_)
        refine JR_iload_n (pc := 19) (k := 1) (i := 1) G rfl rfl dX10_resets_19 ?_
        refine JPV_I (pc := 20) (as := [.int r3, .int p1]) (st' := []) (o := some this) G (Mo_isUnder_fn this r3 p1 S d) (JC_V (n := 2) G hRm cl_X10 q2151 q2153 qs118 q152 q2154 ⟨rfl, dd_X10_isUnder⟩ ⟨by decide, by decide⟩ dX10_resets_20 hz1 rfl (Nat.le_of_ble_eq_true rfl)) rfl (fun r4 hr4 => ?_)
        refine JR_if_eq (pc := 23) (tgt := 32) G dX10_resets_23 (by decide) (fun c6 => ?_) (fun c6 => ?_)
        · refine JR_iinc (pc := 32) (i := 3) (v := v3 + 1) (lv' := [(3, .int (v3 + 1)), (0, va_rf (some this)), (1, .int p1), (2, .int p2)]) G rfl (congrArg (fun z => v3 + z) (by decide)) (by decide) rfl dX10_resets_32 ?_
          refine JR_goto (pc := 35) (tgt := 2) G dX10_resets_35 (by decide) ?_
          refine J_sub [1, 2, 3, 0] rfl ?_
          exact ih (v3 + 1) d
        · refine JR_aload_n (pc := 26) (k := 0) (i := 0) (o := some this) G rfl rfl dX10_resets_26 ?_
          refine JR_iload_n (pc := 27) (k := 3) (i := 3) G rfl rfl dX10_resets_27 ?_
          refine JR_iload_n (pc := 28) (k := 2) (i := 2) G rfl rfl dX10_resets_28 ?_
          refine JQV_U (pc := 29) (as := [.int v3, .int p2]) (st' := []) (o := some this) G (Mo_restarts_fn this v3 p2 S d) (JC_V (n := 2) G hRm cl_X10 q2143 q2145 qs116 q152 q2146 ⟨rfl, dd_X10_restarts⟩ ⟨by decide, by decide⟩ dX10_resets_29 hz1 rfl (Nat.le_of_ble_eq_true rfl)) rfl (fun _ _ => rfl) (fun _ d5 hd5 => ?_)
          refine JR_iinc (pc := 32) (i := 3) (v := v3 + 1) (lv' := [(3, .int (v3 + 1)), (0, va_rf (some this)), (1, .int p1), (2, .int p2)]) G rfl (congrArg (fun z => v3 + z) (by decide)) (by decide) rfl dX10_resets_32 ?_
          refine JR_goto (pc := 35) (tgt := 2) G dX10_resets_35 (by decide) ?_
          refine J_sub [1, 2, 3, 0] rfl ?_
          exact ih (v3 + 1) d5
  unfold Mo_resets
  refine JR_iconst (pc := 0) G ci_0 dX10_resets_0 ?_
  refine JR_istore_n (pc := 1) (k := 3) (i := 3) (lv' := [(3, .int 0), (0, va_rf (some this)), (1, .int p1), (2, .int p2)]) G rfl (by decide) rfl dX10_resets_1 ?_
  refine J_sub [1, 2, 3, 0] rfl ?_
  exact hMo_resets_h2 FU 0 d

def Mo_climbs_h104 (this : Nat) (p1 : Int32) (p2 : Int32) (p3 : Int32) (p4 : Int32) (S : Sp) : Nat → Int32 → Dt → Option (Unit × Dt)
  | 0, _, _ => none
  | f + 1, v5, d =>
    (isK S 9 (some this)).bind fun z19 =>
    (aix S 50 (S.2.1 z19 1) 3).bind fun q20 =>
    if (d.1 q20.1 q20.2) ≤ v5 then
      (some (dI d z19 58 1)).bind fun d21 =>
      (some (dI d21 z19 57 ((d21.1 z19 57) + 1))).bind fun d22 =>
      if ¬ (d22.1 z19 57) = 3 then
        some ((), d22)
      else
        (some (dI d22 z19 59 p4)).bind fun d23 =>
        some ((), d23)
    else
      bind2 (Mo_wakes this v5 p4 S d) fun _ d25 =>
      Mo_climbs_h104 this p1 p2 p3 p4 S f (v5 + 1) d25
def Mo_climbs_h76 (this : Nat) (p1 : Int32) (p2 : Int32) (p3 : Int32) (p4 : Int32) (S : Sp) : Nat → Int32 → Dt → Option (Unit × Dt)
  | 0, _, _ => none
  | f + 1, v5, d =>
    (isK S 9 (some this)).bind fun z15 =>
    (aix S 50 (S.2.1 z15 1) 4).bind fun q16 =>
    if (d.1 q16.1 q16.2) ≤ v5 then
      Mo_climbs_h104 this p1 p2 p3 p4 S FU 0 d
    else
      bind2 (Mo_restarts this v5 p4 S d) fun _ d17 =>
      Mo_climbs_h76 this p1 p2 p3 p4 S f (v5 + 1) d17
def Mo_climbs_b67 (this : Nat) (p1 : Int32) (p2 : Int32) (p3 : Int32) (p4 : Int32) (S : Sp) (d : Dt) : Option (Unit × Dt) :=
  if 3 ≤ p1 then
    Mo_climbs_h76 this p1 p2 p3 p4 S FU 0 d
  else
    some ((), d)
def Mo_climbs_b55 (this : Nat) (p1 : Int32) (p2 : Int32) (p3 : Int32) (p4 : Int32) (S : Sp) (d : Dt) : Option (Unit × Dt) :=
  if ¬ p1 = 2 then
    Mo_climbs_b67 this p1 p2 p3 p4 S d
  else
    (isK S 9 (some this)).bind fun z5 =>
    bind2 (Mo_resets this p3 p4 S d) fun _ d6 =>
    Mo_climbs_b67 this p1 p2 p3 p4 S d6
def Mo_climbs_h19 (this : Nat) (p1 : Int32) (p2 : Int32) (p3 : Int32) (p4 : Int32) (S : Sp) : Nat → Int32 → Dt → Option (Unit × Dt)
  | 0, _, _ => none
  | f + 1, v5, d =>
    (isK S 9 (some this)).bind fun z8 =>
    (aix S 50 (S.2.1 z8 1) 4).bind fun q9 =>
    if (d.1 q9.1 q9.2) ≤ v5 then
      Mo_climbs_b55 this p1 p2 p3 p4 S d
    else
      (Mo_toldOf this v5 0 S d).bind fun r10 =>
      if ¬ r10 = p3 then
        Mo_climbs_h19 this p1 p2 p3 p4 S f (v5 + 1) d
      else
        bind2 (Mo_restarts this v5 p4 S d) fun _ d11 =>
        Mo_climbs_h19 this p1 p2 p3 p4 S f (v5 + 1) d11
def Mo_climbs_b11 (this : Nat) (p1 : Int32) (p2 : Int32) (p3 : Int32) (p4 : Int32) (S : Sp) (d : Dt) : Option (Unit × Dt) :=
  if ¬ p1 = 1 then
    Mo_climbs_b55 this p1 p2 p3 p4 S d
  else
    Mo_climbs_h19 this p1 p2 p3 p4 S FU 0 d
def Mo_climbs (this : Nat) (p1 : Int32) (p2 : Int32) (p3 : Int32) (p4 : Int32) (S : Sp) (d : Dt) : Option (Unit × Dt) :=
  if ¬ p1 = 0 then
    Mo_climbs_b11 this p1 p2 p3 p4 S d
  else
    (isK S 9 (some this)).bind fun z1 =>
    bind2 (Mo_restarts this p2 p4 S d) fun _ d2 =>
    Mo_climbs_b11 this p1 p2 p3 p4 S d2
set_option maxHeartbeats 4000000 in
theorem Mo_climbs_fn (this : Nat) (p1 : Int32) (p2 : Int32) (p3 : Int32) (p4 : Int32) (S : Sp) (d : Dt) : Fn yX10_climbs (ws_ yX10_climbs cX10_climbs 6 none) 4 88 [va_rf (some this), .int p1, .int p2, .int p3, .int p4] S d rvU Λw (Mo_climbs this p1 p2 p3 p4 S d) := by
  refine Fn.ofJ (own := RX10) (lv := [(0, va_rf (some this)), (1, .int p1), (2, .int p2), (3, .int p3), (4, .int p4)]) (by decide +kernel) rfl (by simp [cat_i, cat_l, cat_f, cat_d, rf_cat]) (by simp [lv_args, cat_i, cat_l, cat_f, cat_d, rf_cat]) ?_
  intro X F G hRm hR hI
  have hMo_climbs_h104 : ∀ (f : Nat) (v5 : Int32) (d : Dt), J X F Λw S d 104 [(0, va_rf (some this)), (1, .int p1), (2, .int p2), (3, .int p3), (4, .int p4), (5, .int v5)] [] (Mo_climbs_h104 this p1 p2 p3 p4 S f v5 d) := by
    intro  f
    induction f with
    | zero => intro v5 d; exact J_no
    | succ f ih =>
      intro v5 d
      unfold Mo_climbs_h104
      refine JR_iload (pc := 104) (i := 5) G rfl dX10_climbs_104 ?_
      refine JR_aload_n (pc := 106) (k := 0) (i := 0) (o := some this) G rfl rfl dX10_climbs_106 ?_
      refine J_bd (fun z19 hz19 => ?_)
      refine JR_gR (pc := 107) (k := 1) G cl_X10 in_X10 (by decide) (by decide) rfl (Or.inl rfl) q1589 hz19 dX10_climbs_107 ?_
      refine JR_iconst (pc := 110) G ci_3 dX10_climbs_110 ?_
      refine J_bd (fun q20 hq20 => ?_)
      refine JR_iaload (pc := 111) G hq20 dX10_climbs_111 ?_
      refine JR_icmp_ge (pc := 112) (tgt := 129) G dX10_climbs_112 (by decide) (fun c26 => ?_) (fun c26 => ?_)
      · refine JR_aload_n (pc := 129) (k := 0) (i := 0) (o := some this) G rfl rfl dX10_climbs_129 ?_
        refine JR_iconst (pc := 130) G ci_1 dX10_climbs_130 ?_
        refine JW_pI (pc := 131) (k := 58) G cl_X10 in_X10 tyX10_ok nmX10 (by decide) (by decide) rfl (Or.inl rfl) rfl q1646 rfl rfl hz19 (fun _ => rfl) dX10_climbs_131 ?_
        refine J_nmD (fun d21 hd21 => ?_)
        refine JR_aload_n (pc := 134) (k := 0) (i := 0) (o := some this) G rfl rfl dX10_climbs_134 ?_
        refine JR_dup (pc := 135) G (rf_cat _) dX10_climbs_135 ?_
        refine JR_gI (pc := 136) (k := 57) G cl_X10 in_X10 (by decide) (by decide) rfl (Or.inl rfl) q1645 hz19 dX10_climbs_136 ?_
        refine JR_iconst (pc := 139) G ci_1 dX10_climbs_139 ?_
        refine JR_iadd (pc := 140) G dX10_climbs_140 ?_
        refine JW_pI (pc := 141) (k := 57) G cl_X10 in_X10 tyX10_ok nmX10 (by decide) (by decide) rfl (Or.inl rfl) rfl q1645 rfl rfl hz19 (fun _ => rfl) dX10_climbs_141 ?_
        refine J_nmD (fun d22 hd22 => ?_)
        refine JR_aload_n (pc := 144) (k := 0) (i := 0) (o := some this) G rfl rfl dX10_climbs_144 ?_
        refine JR_gI (pc := 145) (k := 57) G cl_X10 in_X10 (by decide) (by decide) rfl (Or.inl rfl) q1645 hz19 dX10_climbs_145 ?_
        refine JR_iconst (pc := 148) G ci_3 dX10_climbs_148 ?_
        refine JR_icmp_ne (pc := 149) (tgt := 158) G dX10_climbs_149 (by decide) (fun c24 => ?_) (fun c24 => ?_)
        · exact JR_vret (pc := 158) G hR dX10_climbs_158 rfl rfl
        · refine JR_aload_n (pc := 152) (k := 0) (i := 0) (o := some this) G rfl rfl dX10_climbs_152 ?_
          refine JR_iload (pc := 153) (i := 4) G rfl dX10_climbs_153 ?_
          refine JW_pI (pc := 155) (k := 59) G cl_X10 in_X10 tyX10_ok nmX10 (by decide) (by decide) rfl (Or.inl rfl) rfl q1647 rfl rfl hz19 (fun _ => rfl) dX10_climbs_155 ?_
          refine J_nmD (fun d23 hd23 => ?_)
          exact JR_vret (pc := 158) G hR dX10_climbs_158 rfl rfl
      · refine JR_aload_n (pc := 115) (k := 0) (i := 0) (o := some this) G rfl rfl dX10_climbs_115 ?_
        refine JR_iload (pc := 116) (i := 5) G rfl dX10_climbs_116 ?_
        refine JR_iload (pc := 118) (i := 4) G rfl dX10_climbs_118 ?_
        refine JQV_U (pc := 120) (as := [.int v5, .int p4]) (st' := []) (o := some this) G (Mo_wakes_fn this v5 p4 S d) (JC_V (n := 2) G hRm cl_X10 q2155 q2157 qs119 q152 q2158 ⟨rfl, dd_X10_wakes⟩ ⟨by decide, by decide⟩ dX10_climbs_120 hz19 rfl (Nat.le_of_ble_eq_true rfl)) rfl (fun _ _ => rfl) (fun _ d25 hd25 => ?_)
        refine JR_iinc (pc := 123) (i := 5) (v := v5 + 1) (lv' := [(5, .int (v5 + 1)), (0, va_rf (some this)), (1, .int p1), (2, .int p2), (3, .int p3), (4, .int p4)]) G rfl (congrArg (fun z => v5 + z) (by decide)) (by decide) rfl dX10_climbs_123 ?_
        refine JR_goto (pc := 126) (tgt := 104) G dX10_climbs_126 (by decide) ?_
        refine J_sub [1, 2, 3, 4, 5, 0] rfl ?_
        exact ih (v5 + 1) d25
  have hMo_climbs_h76 : ∀ (f : Nat) (v5 : Int32) (d : Dt), J X F Λw S d 76 [(0, va_rf (some this)), (1, .int p1), (2, .int p2), (3, .int p3), (4, .int p4), (5, .int v5)] [] (Mo_climbs_h76 this p1 p2 p3 p4 S f v5 d) := by
    intro  f
    induction f with
    | zero => intro v5 d; exact J_no
    | succ f ih =>
      intro v5 d
      unfold Mo_climbs_h76
      refine JR_iload (pc := 76) (i := 5) G rfl dX10_climbs_76 ?_
      refine JR_aload_n (pc := 78) (k := 0) (i := 0) (o := some this) G rfl rfl dX10_climbs_78 ?_
      refine J_bd (fun z15 hz15 => ?_)
      refine JR_gR (pc := 79) (k := 1) G cl_X10 in_X10 (by decide) (by decide) rfl (Or.inl rfl) q1589 hz15 dX10_climbs_79 ?_
      refine JR_iconst (pc := 82) G ci_4 dX10_climbs_82 ?_
      refine J_bd (fun q16 hq16 => ?_)
      refine JR_iaload (pc := 83) G hq16 dX10_climbs_83 ?_
      refine JR_icmp_ge (pc := 84) (tgt := 101) G dX10_climbs_84 (by decide) (fun c18 => ?_) (fun c18 => ?_)
      · refine JR_iconst (pc := 101) G ci_0 dX10_climbs_101 ?_
        refine JR_istore (pc := 102) (i := 5) (lv' := [(5, .int 0), (0, va_rf (some this)), (1, .int p1), (2, .int p2), (3, .int p3), (4, .int p4)]) G (by decide) rfl dX10_climbs_102 ?_
        refine J_sub [1, 2, 3, 4, 5, 0] rfl ?_
        exact hMo_climbs_h104 FU 0 d
      · refine JR_aload_n (pc := 87) (k := 0) (i := 0) (o := some this) G rfl rfl dX10_climbs_87 ?_
        refine JR_iload (pc := 88) (i := 5) G rfl dX10_climbs_88 ?_
        refine JR_iload (pc := 90) (i := 4) G rfl dX10_climbs_90 ?_
        refine JQV_U (pc := 92) (as := [.int v5, .int p4]) (st' := []) (o := some this) G (Mo_restarts_fn this v5 p4 S d) (JC_V (n := 2) G hRm cl_X10 q2143 q2145 qs116 q152 q2146 ⟨rfl, dd_X10_restarts⟩ ⟨by decide, by decide⟩ dX10_climbs_92 hz15 rfl (Nat.le_of_ble_eq_true rfl)) rfl (fun _ _ => rfl) (fun _ d17 hd17 => ?_)
        refine JR_iinc (pc := 95) (i := 5) (v := v5 + 1) (lv' := [(5, .int (v5 + 1)), (0, va_rf (some this)), (1, .int p1), (2, .int p2), (3, .int p3), (4, .int p4)]) G rfl (congrArg (fun z => v5 + z) (by decide)) (by decide) rfl dX10_climbs_95 ?_
        refine JR_goto (pc := 98) (tgt := 76) G dX10_climbs_98 (by decide) ?_
        refine J_sub [1, 2, 3, 4, 5, 0] rfl ?_
        exact ih (v5 + 1) d17
  have hMo_climbs_b67 : ∀ (d : Dt), J X F Λw S d 67 [(0, va_rf (some this)), (1, .int p1), (2, .int p2), (3, .int p3), (4, .int p4)] [] (Mo_climbs_b67 this p1 p2 p3 p4 S d) := by
    intro d
    unfold Mo_climbs_b67
    refine JR_iload_n (pc := 67) (k := 1) (i := 1) G rfl rfl dX10_climbs_67 ?_
    refine JR_iconst (pc := 68) G ci_3 dX10_climbs_68 ?_
    refine JR_icmp_ge (pc := 69) (tgt := 73) G dX10_climbs_69 (by decide) (fun c14 => ?_) (fun c14 => ?_)
    · refine JR_iconst (pc := 73) G ci_0 dX10_climbs_73 ?_
      refine JR_istore (pc := 74) (i := 5) (lv' := [(5, .int 0), (0, va_rf (some this)), (1, .int p1), (2, .int p2), (3, .int p3), (4, .int p4)]) G (by decide) rfl dX10_climbs_74 ?_
      refine J_sub [1, 2, 3, 4, 5, 0] rfl ?_
      exact hMo_climbs_h76 FU 0 d
    · exact JR_vret (pc := 72) G hR dX10_climbs_72 rfl rfl
  have hMo_climbs_b55 : ∀ (d : Dt), J X F Λw S d 55 [(0, va_rf (some this)), (1, .int p1), (2, .int p2), (3, .int p3), (4, .int p4)] [] (Mo_climbs_b55 this p1 p2 p3 p4 S d) := by
    intro d
    unfold Mo_climbs_b55
    refine JR_iload_n (pc := 55) (k := 1) (i := 1) G rfl rfl dX10_climbs_55 ?_
    refine JR_iconst (pc := 56) G ci_2 dX10_climbs_56 ?_
    refine JR_icmp_ne (pc := 57) (tgt := 67) G dX10_climbs_57 (by decide) (fun c7 => ?_) (fun c7 => ?_)
    · exact hMo_climbs_b67 d
    · refine JR_aload_n (pc := 60) (k := 0) (i := 0) (o := some this) G rfl rfl dX10_climbs_60 ?_
      refine JR_iload_n (pc := 61) (k := 3) (i := 3) G rfl rfl dX10_climbs_61 ?_
      refine JR_iload (pc := 62) (i := 4) G rfl dX10_climbs_62 ?_
      refine J_bd (fun z5 hz5 => ?_)
      refine JQV_U (pc := 64) (as := [.int p3, .int p4]) (st' := []) (o := some this) G (Mo_resets_fn this p3 p4 S d) (JC_V (n := 2) G hRm cl_X10 q2147 q2149 qs117 q152 q2150 ⟨rfl, dd_X10_resets⟩ ⟨by decide, by decide⟩ dX10_climbs_64 hz5 rfl (Nat.le_of_ble_eq_true rfl)) rfl (fun _ _ => rfl) (fun _ d6 hd6 => ?_)
      exact hMo_climbs_b67 d6
  have hMo_climbs_h19 : ∀ (f : Nat) (v5 : Int32) (d : Dt), J X F Λw S d 19 [(0, va_rf (some this)), (1, .int p1), (2, .int p2), (3, .int p3), (4, .int p4), (5, .int v5)] [] (Mo_climbs_h19 this p1 p2 p3 p4 S f v5 d) := by
    intro  f
    induction f with
    | zero => intro v5 d; exact J_no
    | succ f ih =>
      intro v5 d
      unfold Mo_climbs_h19
      refine JR_iload (pc := 19) (i := 5) G rfl dX10_climbs_19 ?_
      refine JR_aload_n (pc := 21) (k := 0) (i := 0) (o := some this) G rfl rfl dX10_climbs_21 ?_
      refine J_bd (fun z8 hz8 => ?_)
      refine JR_gR (pc := 22) (k := 1) G cl_X10 in_X10 (by decide) (by decide) rfl (Or.inl rfl) q1589 hz8 dX10_climbs_22 ?_
      refine JR_iconst (pc := 25) G ci_4 dX10_climbs_25 ?_
      refine J_bd (fun q9 hq9 => ?_)
      refine JR_iaload (pc := 26) G hq9 dX10_climbs_26 ?_
      refine JR_icmp_ge (pc := 27) (tgt := 55) G dX10_climbs_27 (by decide) (fun c13 => ?_) (fun c13 => ?_)
      · refine J_sub [0, 1, 2, 3, 4] rfl ?_
        exact hMo_climbs_b55 d
      · refine JR_aload_n (pc := 30) (k := 0) (i := 0) (o := some this) G rfl rfl dX10_climbs_30 ?_
        refine JR_iload (pc := 31) (i := 5) G rfl dX10_climbs_31 ?_
        refine JR_iconst (pc := 33) G ci_0 dX10_climbs_33 ?_
        refine JPV_I (pc := 34) (as := [.int v5, .int 0]) (st' := []) (o := some this) G (Mo_toldOf_fn this v5 0 S d) (JC_V (n := 2) G hRm cl_X10 q1921 q1923 qs79 q152 q1924 ⟨rfl, dd_X10_toldOf⟩ ⟨by decide, by decide⟩ dX10_climbs_34 hz8 rfl (Nat.le_of_ble_eq_true rfl)) rfl (fun r10 hr10 => ?_)
        refine JR_iload_n (pc := 37) (k := 3) (i := 3) G rfl rfl dX10_climbs_37 ?_
        refine JR_icmp_ne (pc := 38) (tgt := 49) G dX10_climbs_38 (by decide) (fun c12 => ?_) (fun c12 => ?_)
        · refine JR_iinc (pc := 49) (i := 5) (v := v5 + 1) (lv' := [(5, .int (v5 + 1)), (0, va_rf (some this)), (1, .int p1), (2, .int p2), (3, .int p3), (4, .int p4)]) G rfl (congrArg (fun z => v5 + z) (by decide)) (by decide) rfl dX10_climbs_49 ?_
          refine JR_goto (pc := 52) (tgt := 19) G dX10_climbs_52 (by decide) ?_
          refine J_sub [1, 2, 3, 4, 5, 0] rfl ?_
          exact ih (v5 + 1) d
        · refine JR_aload_n (pc := 41) (k := 0) (i := 0) (o := some this) G rfl rfl dX10_climbs_41 ?_
          refine JR_iload (pc := 42) (i := 5) G rfl dX10_climbs_42 ?_
          refine JR_iload (pc := 44) (i := 4) G rfl dX10_climbs_44 ?_
          refine JQV_U (pc := 46) (as := [.int v5, .int p4]) (st' := []) (o := some this) G (Mo_restarts_fn this v5 p4 S d) (JC_V (n := 2) G hRm cl_X10 q2143 q2145 qs116 q152 q2146 ⟨rfl, dd_X10_restarts⟩ ⟨by decide, by decide⟩ dX10_climbs_46 hz8 rfl (Nat.le_of_ble_eq_true rfl)) rfl (fun _ _ => rfl) (fun _ d11 hd11 => ?_)
          refine JR_iinc (pc := 49) (i := 5) (v := v5 + 1) (lv' := [(5, .int (v5 + 1)), (0, va_rf (some this)), (1, .int p1), (2, .int p2), (3, .int p3), (4, .int p4)]) G rfl (congrArg (fun z => v5 + z) (by decide)) (by decide) rfl dX10_climbs_49 ?_
          refine JR_goto (pc := 52) (tgt := 19) G dX10_climbs_52 (by decide) ?_
          refine J_sub [1, 2, 3, 4, 5, 0] rfl ?_
          exact ih (v5 + 1) d11
  have hMo_climbs_b11 : ∀ (d : Dt), J X F Λw S d 11 [(0, va_rf (some this)), (1, .int p1), (2, .int p2), (3, .int p3), (4, .int p4)] [] (Mo_climbs_b11 this p1 p2 p3 p4 S d) := by
    intro d
    unfold Mo_climbs_b11
    refine JR_iload_n (pc := 11) (k := 1) (i := 1) G rfl rfl dX10_climbs_11 ?_
    refine JR_iconst (pc := 12) G ci_1 dX10_climbs_12 ?_
    refine JR_icmp_ne (pc := 13) (tgt := 55) G dX10_climbs_13 (by decide) (fun c4 => ?_) (fun c4 => ?_)
    · exact hMo_climbs_b55 d
    · refine JR_iconst (pc := 16) G ci_0 dX10_climbs_16 ?_
      refine JR_istore (pc := 17) (i := 5) (lv' := [(5, .int 0), (0, va_rf (some this)), (1, .int p1), (2, .int p2), (3, .int p3), (4, .int p4)]) G (by decide) rfl dX10_climbs_17 ?_
      refine J_sub [1, 2, 3, 4, 5, 0] rfl ?_
      exact hMo_climbs_h19 FU 0 d
  unfold Mo_climbs
  refine JR_iload_n (pc := 0) (k := 1) (i := 1) G rfl rfl dX10_climbs_0 ?_
  refine JR_if_ne (pc := 1) (tgt := 11) G dX10_climbs_1 (by decide) (fun c3 => ?_) (fun c3 => ?_)
  · exact hMo_climbs_b11 d
  · refine JR_aload_n (pc := 4) (k := 0) (i := 0) (o := some this) G rfl rfl dX10_climbs_4 ?_
    refine JR_iload_n (pc := 5) (k := 2) (i := 2) G rfl rfl dX10_climbs_5 ?_
    refine JR_iload (pc := 6) (i := 4) G rfl dX10_climbs_6 ?_
    refine J_bd (fun z1 hz1 => ?_)
    refine JQV_U (pc := 8) (as := [.int p2, .int p4]) (st' := []) (o := some this) G (Mo_restarts_fn this p2 p4 S d) (JC_V (n := 2) G hRm cl_X10 q2143 q2145 qs116 q152 q2146 ⟨rfl, dd_X10_restarts⟩ ⟨by decide, by decide⟩ dX10_climbs_8 hz1 rfl (Nat.le_of_ble_eq_true rfl)) rfl (fun _ _ => rfl) (fun _ d2 hd2 => ?_)
    exact hMo_climbs_b11 d2

def Mo_faultOf_b73 (this : Nat) (p1 : Int32) (p2 : Int32) (p3 : Int32) (S : Sp) (s0 : Int32) (s1 : Int32) (s2 : Int32) (d : Dt) : Option (Unit × Dt) :=
  (some (imin s2 (s1 + s0))).bind fun x14 =>
  (isK S 9 (some this)).bind fun z15 =>
  bind2 (Mo_records this p3 p2 p1 x14 S d) fun _ d16 =>
  (Mo_toldOf this p1 0 S d16).bind fun r17 =>
  bind2 (Mo_climbs this x14 p1 r17 p3 S d16) fun _ d18 =>
  some ((), d18)
def Mo_faultOf (this : Nat) (p1 : Int32) (p2 : Int32) (p3 : Int32) (S : Sp) (d : Dt) : Option (Unit × Dt) :=
  (isK S 9 (some this)).bind fun z1 =>
  (aix S 50 (S.2.1 z1 37) p1).bind fun q2 =>
  (some (dI d q2.1 q2.2 ((d.1 q2.1 q2.2) + 1))).bind fun d3 =>
  (aix S 53 (S.2.1 z1 38) p1).bind fun q4 =>
  (gf (FP.fdiv (d3.2.1 q4.1 q4.2) FP.fconst2)).bind fun g5 =>
  (some (dF d3 q4.1 q4.2 g5)).bind fun d6 =>
  (aix S 50 (S.2.1 z1 39) p1).bind fun q7 =>
  (some (dI d6 q7.1 q7.2 0)).bind fun d8 =>
  (aix S 51 (S.2.1 z1 40) p1).bind fun q9 =>
  (some (dI d8 q9.1 q9.2 (vp_nar .boolean 1))).bind fun d10 =>
  (aix S 50 (S.2.1 z1 1) 2).bind fun q11 =>
  (gf (FP.fdiv (FP.i2f (d10.1 q11.1 q11.2)) 1092616192)).bind fun g12 =>
  Mo_faultOf_b73 this p1 p2 p3 S (if 0 ≤ (Op.cmpValue (FP.fcmp (d10.2.1 q4.1 q4.2) g12) .g) then 0 else 1) ((d10.1 q2.1 q2.2) - 1) 3 d10
set_option maxHeartbeats 4000000 in
theorem Mo_faultOf_fn (this : Nat) (p1 : Int32) (p2 : Int32) (p3 : Int32) (S : Sp) (d : Dt) : Fn yX10_faultOf (ws_ yX10_faultOf cX10_faultOf 5 none) 5 113 [va_rf (some this), .int p1, .int p2, .int p3] S d rvU Λw (Mo_faultOf this p1 p2 p3 S d) := by
  refine Fn.ofJ (own := RX10) (lv := [(0, va_rf (some this)), (1, .int p1), (2, .int p2), (3, .int p3)]) (by decide +kernel) rfl (by simp [cat_i, cat_l, cat_f, cat_d, rf_cat]) (by simp [lv_args, cat_i, cat_l, cat_f, cat_d, rf_cat]) ?_
  intro X F G hRm hR hI
  have hMo_faultOf_b73 : ∀ (s0 : Int32) (s1 : Int32) (s2 : Int32) (d : Dt), J X F Λw S d 73 [(0, va_rf (some this)), (1, .int p1), (2, .int p2), (3, .int p3)] [.int s0, .int s1, .int s2] (Mo_faultOf_b73 this p1 p2 p3 S s0 s1 s2 d) := by
    intro s0 s1 s2 d
    unfold Mo_faultOf_b73
    refine JR_iadd (pc := 73) G dX10_faultOf_73 ?_
    refine JR_min (pc := 74) G hRm q1818 q610 q154 q611 ⟨by decide, by decide⟩ (Nat.le_of_ble_eq_true rfl) dX10_faultOf_74 ?_
    refine J_nm (fun x14 hx14 => ?_)
    refine JR_istore (pc := 77) (i := 4) (lv' := [(4, .int x14), (0, va_rf (some this)), (1, .int p1), (2, .int p2), (3, .int p3)]) G (by decide) rfl dX10_faultOf_77 ?_
    refine JR_aload_n (pc := 79) (k := 0) (i := 0) (o := some this) G rfl rfl dX10_faultOf_79 ?_
    refine JR_iload_n (pc := 80) (k := 3) (i := 3) G rfl rfl dX10_faultOf_80 ?_
    refine JR_iload_n (pc := 81) (k := 2) (i := 2) G rfl rfl dX10_faultOf_81 ?_
    refine JR_iload_n (pc := 82) (k := 1) (i := 1) G rfl rfl dX10_faultOf_82 ?_
    refine JR_iload (pc := 83) (i := 4) G rfl dX10_faultOf_83 ?_
    refine J_bd (fun z15 hz15 => ?_)
    refine JQV_U (pc := 85) (as := [.int p3, .int p2, .int p1, .int x14]) (st' := []) (o := some this) G (Mo_records_fn this p3 p2 p1 x14 S d) (JC_V (n := 4) G hRm cl_X10 q2135 q2137 qs114 q152 q2138 ⟨rfl, dd_X10_records⟩ ⟨by decide, by decide⟩ dX10_faultOf_85 hz15 rfl (Nat.le_of_ble_eq_true rfl)) rfl (fun _ _ => rfl) (fun _ d16 hd16 => ?_)
    refine JR_aload_n (pc := 88) (k := 0) (i := 0) (o := some this) G rfl rfl dX10_faultOf_88 ?_
    refine JR_iload (pc := 89) (i := 4) G rfl dX10_faultOf_89 ?_
    refine JR_iload_n (pc := 91) (k := 1) (i := 1) G rfl rfl dX10_faultOf_91 ?_
    refine JR_aload_n (pc := 92) (k := 0) (i := 0) (o := some this) G rfl rfl dX10_faultOf_92 ?_
    refine JR_iload_n (pc := 93) (k := 1) (i := 1) G rfl rfl dX10_faultOf_93 ?_
    refine JR_iconst (pc := 94) G ci_0 dX10_faultOf_94 ?_
    refine JPV_I (pc := 95) (as := [.int p1, .int 0]) (st' := [.int p1, .int x14, va_rf (some this)]) (o := some this) G (Mo_toldOf_fn this p1 0 S d16) (JC_V (n := 2) G hRm cl_X10 q1921 q1923 qs79 q152 q1924 ⟨rfl, dd_X10_toldOf⟩ ⟨by decide, by decide⟩ dX10_faultOf_95 hz15 rfl (Nat.le_of_ble_eq_true rfl)) rfl (fun r17 hr17 => ?_)
    refine JR_iload_n (pc := 98) (k := 3) (i := 3) G rfl rfl dX10_faultOf_98 ?_
    refine JQV_U (pc := 99) (as := [.int x14, .int p1, .int r17, .int p3]) (st' := []) (o := some this) G (Mo_climbs_fn this x14 p1 r17 p3 S d16) (JC_V (n := 4) G hRm cl_X10 q2139 q2141 qs115 q152 q2142 ⟨rfl, dd_X10_climbs⟩ ⟨by decide, by decide⟩ dX10_faultOf_99 hz15 rfl (Nat.le_of_ble_eq_true rfl)) rfl (fun _ _ => rfl) (fun _ d18 hd18 => ?_)
    exact JR_vret (pc := 102) G hR dX10_faultOf_102 rfl rfl
  unfold Mo_faultOf
  refine JR_aload_n (pc := 0) (k := 0) (i := 0) (o := some this) G rfl rfl dX10_faultOf_0 ?_
  refine J_bd (fun z1 hz1 => ?_)
  refine JR_gR (pc := 1) (k := 37) G cl_X10 in_X10 (by decide) (by decide) rfl (Or.inl rfl) q1625 hz1 dX10_faultOf_1 ?_
  refine JR_iload_n (pc := 4) (k := 1) (i := 1) G rfl rfl dX10_faultOf_4 ?_
  refine JR_dup2 (pc := 5) G rfl (rf_cat _) dX10_faultOf_5 ?_
  refine J_bd (fun q2 hq2 => ?_)
  refine JR_iaload (pc := 6) G hq2 dX10_faultOf_6 ?_
  refine JR_iconst (pc := 7) G ci_1 dX10_faultOf_7 ?_
  refine JR_iadd (pc := 8) G dX10_faultOf_8 ?_
  refine JW_iastore (pc := 9) G hq2 (fun _ => rfl) dX10_faultOf_9 ?_
  refine J_nmD (fun d3 hd3 => ?_)
  refine JR_aload_n (pc := 10) (k := 0) (i := 0) (o := some this) G rfl rfl dX10_faultOf_10 ?_
  refine JR_gR (pc := 11) (k := 38) G cl_X10 in_X10 (by decide) (by decide) rfl (Or.inl rfl) q1626 hz1 dX10_faultOf_11 ?_
  refine JR_iload_n (pc := 14) (k := 1) (i := 1) G rfl rfl dX10_faultOf_14 ?_
  refine JR_aload_n (pc := 15) (k := 0) (i := 0) (o := some this) G rfl rfl dX10_faultOf_15 ?_
  refine JR_gR (pc := 16) (k := 38) G cl_X10 in_X10 (by decide) (by decide) rfl (Or.inl rfl) q1626 hz1 dX10_faultOf_16 ?_
  refine JR_iload_n (pc := 19) (k := 1) (i := 1) G rfl rfl dX10_faultOf_19 ?_
  refine J_bd (fun q4 hq4 => ?_)
  refine JR_faload (pc := 20) G hq4 dX10_faultOf_20 ?_
  refine JR_fconst2 (pc := 21) G dX10_faultOf_21 ?_
  refine J_bd (fun g5 hg5 => ?_)
  refine JR_fdiv (pc := 22) G hg5 dX10_faultOf_22 ?_
  refine JW_fastore (pc := 23) G hq4 (fun _ => rfl) dX10_faultOf_23 ?_
  refine J_nmD (fun d6 hd6 => ?_)
  refine JR_aload_n (pc := 24) (k := 0) (i := 0) (o := some this) G rfl rfl dX10_faultOf_24 ?_
  refine JR_gR (pc := 25) (k := 39) G cl_X10 in_X10 (by decide) (by decide) rfl (Or.inl rfl) q1627 hz1 dX10_faultOf_25 ?_
  refine JR_iload_n (pc := 28) (k := 1) (i := 1) G rfl rfl dX10_faultOf_28 ?_
  refine JR_iconst (pc := 29) G ci_0 dX10_faultOf_29 ?_
  refine J_bd (fun q7 hq7 => ?_)
  refine JW_iastore (pc := 30) G hq7 (fun _ => rfl) dX10_faultOf_30 ?_
  refine J_nmD (fun d8 hd8 => ?_)
  refine JR_aload_n (pc := 31) (k := 0) (i := 0) (o := some this) G rfl rfl dX10_faultOf_31 ?_
  refine JR_gR (pc := 32) (k := 40) G cl_X10 in_X10 (by decide) (by decide) rfl (Or.inl rfl) q1628 hz1 dX10_faultOf_32 ?_
  refine JR_iload_n (pc := 35) (k := 1) (i := 1) G rfl rfl dX10_faultOf_35 ?_
  refine JR_iconst (pc := 36) G ci_1 dX10_faultOf_36 ?_
  refine J_bd (fun q9 hq9 => ?_)
  refine JW_zastore (pc := 37) G hq9 (fun _ => rfl) dX10_faultOf_37 ?_
  refine J_nmD (fun d10 hd10 => ?_)
  refine JR_iconst (pc := 38) G ci_3 dX10_faultOf_38 ?_
  refine JR_aload_n (pc := 39) (k := 0) (i := 0) (o := some this) G rfl rfl dX10_faultOf_39 ?_
  refine JR_gR (pc := 40) (k := 37) G cl_X10 in_X10 (by decide) (by decide) rfl (Or.inl rfl) q1625 hz1 dX10_faultOf_40 ?_
  refine JR_iload_n (pc := 43) (k := 1) (i := 1) G rfl rfl dX10_faultOf_43 ?_
  refine JR_iaload (pc := 44) G hq2 dX10_faultOf_44 ?_
  refine JR_iconst (pc := 45) G ci_1 dX10_faultOf_45 ?_
  refine JR_isub (pc := 46) G dX10_faultOf_46 ?_
  refine JR_aload_n (pc := 47) (k := 0) (i := 0) (o := some this) G rfl rfl dX10_faultOf_47 ?_
  refine JR_gR (pc := 48) (k := 38) G cl_X10 in_X10 (by decide) (by decide) rfl (Or.inl rfl) q1626 hz1 dX10_faultOf_48 ?_
  refine JR_iload_n (pc := 51) (k := 1) (i := 1) G rfl rfl dX10_faultOf_51 ?_
  refine JR_faload (pc := 52) G hq4 dX10_faultOf_52 ?_
  refine JR_aload_n (pc := 53) (k := 0) (i := 0) (o := some this) G rfl rfl dX10_faultOf_53 ?_
  refine JR_gR (pc := 54) (k := 1) G cl_X10 in_X10 (by decide) (by decide) rfl (Or.inl rfl) q1589 hz1 dX10_faultOf_54 ?_
  refine JR_iconst (pc := 57) G ci_2 dX10_faultOf_57 ?_
  refine J_bd (fun q11 hq11 => ?_)
  refine JR_iaload (pc := 58) G hq11 dX10_faultOf_58 ?_
  refine JR_i2f (pc := 59) G dX10_faultOf_59 ?_
  refine JR_ldcwF (pc := 60) G q2134 dX10_faultOf_60 ?_
  refine J_bd (fun g12 hg12 => ?_)
  refine JR_fdiv (pc := 63) G hg12 dX10_faultOf_63 ?_
  refine JR_fcmp (pc := 64) G dX10_faultOf_64 ?_
  refine J_eq (r' := if 0 ≤ (Op.cmpValue (FP.fcmp (d10.2.1 q4.1 q4.2) g12) .g) then Mo_faultOf_b73 this p1 p2 p3 S 0 ((d10.1 q2.1 q2.2) - 1) 3 d10 else Mo_faultOf_b73 this p1 p2 p3 S 1 ((d10.1 q2.1 q2.2) - 1) 3 d10) (by split <;> rfl) ?_
  refine JR_if_ge (pc := 65) (tgt := 72) G dX10_faultOf_65 (by decide) (fun c13 => ?_) (fun c13 => ?_)
  · refine JR_iconst (pc := 72) G ci_0 dX10_faultOf_72 ?_
    exact hMo_faultOf_b73 0 ((d10.1 q2.1 q2.2) - 1) 3 d10
  · refine JR_iconst (pc := 68) G ci_1 dX10_faultOf_68 ?_
    refine JR_goto (pc := 69) (tgt := 73) G dX10_faultOf_69 (by decide) ?_
    exact hMo_faultOf_b73 1 ((d10.1 q2.1 q2.2) - 1) 3 d10
