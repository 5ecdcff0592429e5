/-! WatchStackModel, printed -/
set_option maxRecDepth 100000
def Mo_init (this : Nat) (S : Sp) (d : Dt) : Option (Unit × Sp × Dt) :=
  (gn 201).bind fun n1 =>
  bind2 (some (mmNew S (50 + 0, n1) n1, mmNewD S d)) fun S2 d3 =>
  (isK S2 9 (some this)).bind fun z4 =>
  (some (sR S2 z4 1 (some S.1.length))).bind fun S5 =>
  (gn 603).bind fun n6 =>
  bind2 (some (mmNew S5 (50 + 0, n6) n6, mmNewD S5 d3)) fun S7 d8 =>
  (isK S7 9 (some this)).bind fun z9 =>
  (some (sR S7 z9 2 (some S5.1.length))).bind fun S10 =>
  (gn 3).bind fun n11 =>
  bind2 (some (mmNew S10 (50 + 1, n11) n11, mmNewD S10 d8)) fun S12 d13 =>
  (isK S12 9 (some this)).bind fun z14 =>
  (some (sR S12 z14 3 (some S10.1.length))).bind fun S15 =>
  (gn 1000).bind fun n16 =>
  bind2 (some (mmNew S15 (50 + 2, n16) n16, mmNewD S15 d13)) fun S17 d18 =>
  (isK S17 9 (some this)).bind fun z19 =>
  (some (sR S17 z19 4 (some S15.1.length))).bind fun S20 =>
  (gn 5).bind fun n21 =>
  bind2 (some (mmNew S20 (50 + 0, n21) n21, mmNewD S20 d18)) fun S22 d23 =>
  (isK S22 9 (some this)).bind fun z24 =>
  (some (sR S22 z24 6 (some S20.1.length))).bind fun S25 =>
  (isK S25 9 (some this)).bind fun z26 =>
  (some (dI d23 z26 13 ((-1)))).bind fun d27 =>
  (gn 201).bind fun n28 =>
  bind2 (some (mmNew S25 (50 + 0, n28) n28, mmNewD S25 d27)) fun S29 d30 =>
  (isK S29 9 (some this)).bind fun z31 =>
  (some (sR S29 z31 14 (some S25.1.length))).bind fun S32 =>
  (gn 6).bind fun n33 =>
  bind2 (some (mmNew S32 (50 + 0, n33) n33, mmNewD S32 d30)) fun S34 d35 =>
  (isK S34 9 (some this)).bind fun z36 =>
  (some (sR S34 z36 15 (some S32.1.length))).bind fun S37 =>
  (gn 5).bind fun n38 =>
  bind2 (some (mmNew S37 (50 + 0, n38) n38, mmNewD S37 d35)) fun S39 d40 =>
  (isK S39 9 (some this)).bind fun z41 =>
  (some (sR S39 z41 16 (some S37.1.length))).bind fun S42 =>
  (gn 5).bind fun n43 =>
  bind2 (some (mmNew S42 (50 + 0, n43) n43, mmNewD S42 d40)) fun S44 d45 =>
  (isK S44 9 (some this)).bind fun z46 =>
  (some (sR S44 z46 17 (some S42.1.length))).bind fun S47 =>
  (gn 5).bind fun n48 =>
  bind2 (some (mmNew S47 (50 + 0, n48) n48, mmNewD S47 d45)) fun S49 d50 =>
  (isK S49 9 (some this)).bind fun z51 =>
  (some (sR S49 z51 18 (some S47.1.length))).bind fun S52 =>
  (gn 5).bind fun n53 =>
  bind2 (some (mmNew S52 (50 + 0, n53) n53, mmNewD S52 d50)) fun S54 d55 =>
  (isK S54 9 (some this)).bind fun z56 =>
  (some (sR S54 z56 19 (some S52.1.length))).bind fun S57 =>
  (gn 5).bind fun n58 =>
  bind2 (some (mmNew S57 (50 + 0, n58) n58, mmNewD S57 d55)) fun S59 d60 =>
  (isK S59 9 (some this)).bind fun z61 =>
  (some (sR S59 z61 20 (some S57.1.length))).bind fun S62 =>
  (gn 64).bind fun n63 =>
  bind2 (some (mmNew S62 (50 + 0, n63) n63, mmNewD S62 d60)) fun S64 d65 =>
  (isK S64 9 (some this)).bind fun z66 =>
  (some (sR S64 z66 22 (some S62.1.length))).bind fun S67 =>
  (isK S67 9 (some this)).bind fun z68 =>
  (some (dI d65 z68 23 ((-1)))).bind fun d69 =>
  (some (dI d69 z68 24 ((-1)))).bind fun d70 =>
  (gn 5).bind fun n71 =>
  bind2 (some (mmNew S67 (50 + 0, n71) n71, mmNewD S67 d70)) fun S72 d73 =>
  (isK S72 9 (some this)).bind fun z74 =>
  (some (sR S72 z74 28 (some S67.1.length))).bind fun S75 =>
  (gn 5).bind fun n76 =>
  bind2 (some (mmNew S75 (50 + 0, n76) n76, mmNewD S75 d73)) fun S77 d78 =>
  (isK S77 9 (some this)).bind fun z79 =>
  (some (sR S77 z79 29 (some S75.1.length))).bind fun S80 =>
  (gn 5).bind fun n81 =>
  bind2 (some (mmNew S80 (50 + 0, n81) n81, mmNewD S80 d78)) fun S82 d83 =>
  (isK S82 9 (some this)).bind fun z84 =>
  (some (sR S82 z84 30 (some S80.1.length))).bind fun S85 =>
  (gn 5).bind fun n86 =>
  bind2 (some (mmNew S85 (50 + 0, n86) n86, mmNewD S85 d83)) fun S87 d88 =>
  (isK S87 9 (some this)).bind fun z89 =>
  (some (sR S87 z89 31 (some S85.1.length))).bind fun S90 =>
  (gn 5).bind fun n91 =>
  bind2 (some (mmNew S90 (50 + 0, n91) n91, mmNewD S90 d88)) fun S92 d93 =>
  (isK S92 9 (some this)).bind fun z94 =>
  (some (sR S92 z94 32 (some S90.1.length))).bind fun S95 =>
  (gn 5).bind fun n96 =>
  bind2 (some (mmNew S95 (50 + 0, n96) n96, mmNewD S95 d93)) fun S97 d98 =>
  (isK S97 9 (some this)).bind fun z99 =>
  (some (sR S97 z99 33 (some S95.1.length))).bind fun S100 =>
  (gn 5).bind fun n101 =>
  bind2 (some (mmNew S100 (50 + 0, n101) n101, mmNewD S100 d98)) fun S102 d103 =>
  (isK S102 9 (some this)).bind fun z104 =>
  (some (sR S102 z104 34 (some S100.1.length))).bind fun S105 =>
  (gn 5).bind fun n106 =>
  bind2 (some (mmNew S105 (50 + 1, n106) n106, mmNewD S105 d103)) fun S107 d108 =>
  (isK S107 9 (some this)).bind fun z109 =>
  (some (sR S107 z109 35 (some S105.1.length))).bind fun S110 =>
  (gn 5).bind fun n111 =>
  bind2 (some (mmNew S110 (50 + 0, n111) n111, mmNewD S110 d108)) fun S112 d113 =>
  (isK S112 9 (some this)).bind fun z114 =>
  (some (sR S112 z114 36 (some S110.1.length))).bind fun S115 =>
  (gn 5).bind fun n116 =>
  bind2 (some (mmNew S115 (50 + 0, n116) n116, mmNewD S115 d113)) fun S117 d118 =>
  (isK S117 9 (some this)).bind fun z119 =>
  (some (sR S117 z119 37 (some S115.1.length))).bind fun S120 =>
  (gn 5).bind fun n121 =>
  bind2 (some (mmNew S120 (50 + 3, n121) n121, mmNewD S120 d118)) fun S122 d123 =>
  (isK S122 9 (some this)).bind fun z124 =>
  (some (sR S122 z124 38 (some S120.1.length))).bind fun S125 =>
  (gn 5).bind fun n126 =>
  bind2 (some (mmNew S125 (50 + 0, n126) n126, mmNewD S125 d123)) fun S127 d128 =>
  (isK S127 9 (some this)).bind fun z129 =>
  (some (sR S127 z129 39 (some S125.1.length))).bind fun S130 =>
  (gn 5).bind fun n131 =>
  bind2 (some (mmNew S130 (50 + 1, n131) n131, mmNewD S130 d128)) fun S132 d133 =>
  (isK S132 9 (some this)).bind fun z134 =>
  (some (sR S132 z134 40 (some S130.1.length))).bind fun S135 =>
  (gn 5).bind fun n136 =>
  bind2 (some (mmNew S135 (50 + 0, n136) n136, mmNewD S135 d133)) fun S137 d138 =>
  (isK S137 9 (some this)).bind fun z139 =>
  (some (sR S137 z139 41 (some S135.1.length))).bind fun S140 =>
  (gn 5).bind fun n141 =>
  bind2 (some (mmNew S140 (50 + 0, n141) n141, mmNewD S140 d138)) fun S142 d143 =>
  (isK S142 9 (some this)).bind fun z144 =>
  (some (sR S142 z144 42 (some S140.1.length))).bind fun S145 =>
  (gn 5).bind fun n146 =>
  bind2 (some (mmNew S145 (50 + 3, n146) n146, mmNewD S145 d143)) fun S147 d148 =>
  (isK S147 9 (some this)).bind fun z149 =>
  (some (sR S147 z149 43 (some S145.1.length))).bind fun S150 =>
  (gn 5).bind fun n151 =>
  bind2 (some (mmNew S150 (50 + 4, n151) n151, mmNewD S150 d148)) fun S152 d153 =>
  (isK S152 9 (some this)).bind fun z154 =>
  (some (sR S152 z154 44 (some S150.1.length))).bind fun S155 =>
  (gn 5).bind fun n156 =>
  bind2 (some (mmNew S155 (50 + 0, n156) n156, mmNewD S155 d153)) fun S157 d158 =>
  (isK S157 9 (some this)).bind fun z159 =>
  (some (sR S157 z159 45 (some S155.1.length))).bind fun S160 =>
  (gn 1000).bind fun n161 =>
  bind2 (some (mmNew S160 (50 + 0, n161) n161, mmNewD S160 d158)) fun S162 d163 =>
  (isK S162 9 (some this)).bind fun z164 =>
  (some (sR S162 z164 46 (some S160.1.length))).bind fun S165 =>
  (gn 255).bind fun n166 =>
  bind2 (some (mmNew S165 (50 + 0, n166) n166, mmNewD S165 d163)) fun S167 d168 =>
  (isK S167 9 (some this)).bind fun z169 =>
  (some (sR S167 z169 47 (some S165.1.length))).bind fun S170 =>
  (gn 19).bind fun n171 =>
  bind2 (some (mmNew S170 (50 + 1, n171) n171, mmNewD S170 d168)) fun S172 d173 =>
  (isK S172 9 (some this)).bind fun z174 =>
  (some (sR S172 z174 48 (some S170.1.length))).bind fun S175 =>
  (gn 3).bind fun n176 =>
  bind2 (some (mmNew S175 (50 + 1, n176) n176, mmNewD S175 d173)) fun S177 d178 =>
  (isK S177 9 (some this)).bind fun z179 =>
  (some (sR S177 z179 49 (some S175.1.length))).bind fun S180 =>
  (gn 3).bind fun n181 =>
  bind2 (some (mmNew S180 (50 + 1, n181) n181, mmNewD S180 d178)) fun S182 d183 =>
  (isK S182 9 (some this)).bind fun z184 =>
  (some (sR S182 z184 50 (some S180.1.length))).bind fun S185 =>
  (gn 200).bind fun n186 =>
  bind2 (some (mmNew S185 (50 + 0, n186) n186, mmNewD S185 d183)) fun S187 d188 =>
  (isK S187 9 (some this)).bind fun z189 =>
  (some (sR S187 z189 51 (some S185.1.length))).bind fun S190 =>
  (gn 4000).bind fun n191 =>
  bind2 (some (mmNew S190 (50 + 0, n191) n191, mmNewD S190 d188)) fun S192 d193 =>
  (isK S192 9 (some this)).bind fun z194 =>
  (some (sR S192 z194 52 (some S190.1.length))).bind fun S195 =>
  (gn 4000).bind fun n196 =>
  bind2 (some (mmNew S195 (50 + 0, n196) n196, mmNewD S195 d193)) fun S197 d198 =>
  (isK S197 9 (some this)).bind fun z199 =>
  (some (sR S197 z199 53 (some S195.1.length))).bind fun S200 =>
  (gn 4000).bind fun n201 =>
  bind2 (some (mmNew S200 (50 + 0, n201) n201, mmNewD S200 d198)) fun S202 d203 =>
  (isK S202 9 (some this)).bind fun z204 =>
  (some (sR S202 z204 54 (some S200.1.length))).bind fun S205 =>
  (gn 4000).bind fun n206 =>
  bind2 (some (mmNew S205 (50 + 0, n206) n206, mmNewD S205 d203)) fun S207 d208 =>
  (isK S207 9 (some this)).bind fun z209 =>
  (some (sR S207 z209 55 (some S205.1.length))).bind fun S210 =>
  some ((), S210, d208)
set_option maxHeartbeats 4000000 in
theorem Mo_init_fn (this : Nat) (S : Sp) (d : Dt) : Fn yX10_init (ws_ yX10_init cX10_init 1 none) 1 20 [va_rf (some this)] S d rvU Λa (Mo_init this S d) := by
  refine Fn.ofJ (own := RX10) (lv := [(0, va_rf (some this))]) (by decide +kernel) rfl (by simp [cat_i, cat_l, cat_f, cat_d, rf_cat]) (by simp [lv_args, cat_i, cat_l, cat_f, cat_d, rf_cat]) ?_
  intro X F G hRm hR hI
  unfold Mo_init
  refine JR_aload_n (pc := 0) (k := 0) (i := 0) (o := some this) G rfl rfl dX10_init_0 ?_
  refine JR_objInit (pc := 1) G hRm q1588 q_oi1 q_oi2 ⟨by decide, by decide⟩ (by decide) dX10_init_1 ?_
  refine JR_aload_n (pc := 4) (k := 0) (i := 0) (o := some this) G rfl rfl dX10_init_4 ?_
  refine JR_sipush (pc := 5) (v := 201) G (by decide) dX10_init_5 ?_
  refine J_bd (fun n1 hn1 => ?_)
  refine JW_newaI (pc := 8) (t := 0) G rfl q263 hn1 (fun _ => rfl) dX10_init_8 ?_
  refine J_nm2 (fun S2 d3 hS2 hd3 => ?_)
  refine J_bd (fun z4 hz4 => ?_)
  refine JW_pRf (pc := 10) (k := 1) G cl_X10 in_X10 tyX10_ok nmX10 (by decide) (by decide) rfl (Or.inl rfl) rfl (hI rfl) rfl q1589 hz4 (fun _ => rfl) dX10_init_10 ?_
  refine J_nmS (fun S5 hS5 => ?_)
  refine JR_aload_n (pc := 13) (k := 0) (i := 0) (o := some this) G rfl rfl dX10_init_13 ?_
  refine JR_sipush (pc := 14) (v := 603) G (by decide) dX10_init_14 ?_
  refine J_bd (fun n6 hn6 => ?_)
  refine JW_newaI (pc := 17) (t := 0) G rfl q263 hn6 (fun _ => rfl) dX10_init_17 ?_
  refine J_nm2 (fun S7 d8 hS7 hd8 => ?_)
  refine J_bd (fun z9 hz9 => ?_)
  refine JW_pRf (pc := 19) (k := 2) G cl_X10 in_X10 tyX10_ok nmX10 (by decide) (by decide) rfl (Or.inl rfl) rfl (hI rfl) rfl q1590 hz9 (fun _ => rfl) dX10_init_19 ?_
  refine J_nmS (fun S10 hS10 => ?_)
  refine JR_aload_n (pc := 22) (k := 0) (i := 0) (o := some this) G rfl rfl dX10_init_22 ?_
  refine JR_iconst (pc := 23) G ci_3 dX10_init_23 ?_
  refine J_bd (fun n11 hn11 => ?_)
  refine JW_newaZ (pc := 24) (t := 1) G rfl q325 hn11 (fun _ => rfl) dX10_init_24 ?_
  refine J_nm2 (fun S12 d13 hS12 hd13 => ?_)
  refine J_bd (fun z14 hz14 => ?_)
  refine JW_pRf (pc := 26) (k := 3) G cl_X10 in_X10 tyX10_ok nmX10 (by decide) (by decide) rfl (Or.inl rfl) rfl (hI rfl) rfl q1591 hz14 (fun _ => rfl) dX10_init_26 ?_
  refine J_nmS (fun S15 hS15 => ?_)
  refine JR_aload_n (pc := 29) (k := 0) (i := 0) (o := some this) G rfl rfl dX10_init_29 ?_
  refine JR_sipush (pc := 30) (v := 1000) G (by decide) dX10_init_30 ?_
  refine J_bd (fun n16 hn16 => ?_)
  refine JW_newaB (pc := 33) (t := 2) G rfl q276 hn16 (fun _ => rfl) dX10_init_33 ?_
  refine J_nm2 (fun S17 d18 hS17 hd18 => ?_)
  refine J_bd (fun z19 hz19 => ?_)
  refine JW_pRf (pc := 35) (k := 4) G cl_X10 in_X10 tyX10_ok nmX10 (by decide) (by decide) rfl (Or.inl rfl) rfl (hI rfl) rfl q1592 hz19 (fun _ => rfl) dX10_init_35 ?_
  refine J_nmS (fun S20 hS20 => ?_)
  refine JR_aload_n (pc := 38) (k := 0) (i := 0) (o := some this) G rfl rfl dX10_init_38 ?_
  refine JR_iconst (pc := 39) G ci_5 dX10_init_39 ?_
  refine J_bd (fun n21 hn21 => ?_)
  refine JW_newaI (pc := 40) (t := 0) G rfl q263 hn21 (fun _ => rfl) dX10_init_40 ?_
  refine J_nm2 (fun S22 d23 hS22 hd23 => ?_)
  refine J_bd (fun z24 hz24 => ?_)
  refine JW_pRf (pc := 42) (k := 6) G cl_X10 in_X10 tyX10_ok nmX10 (by decide) (by decide) rfl (Or.inl rfl) rfl (hI rfl) rfl q1594 hz24 (fun _ => rfl) dX10_init_42 ?_
  refine J_nmS (fun S25 hS25 => ?_)
  refine JR_aload_n (pc := 45) (k := 0) (i := 0) (o := some this) G rfl rfl dX10_init_45 ?_
  refine JR_iconst (pc := 46) G ci_m1 dX10_init_46 ?_
  refine J_bd (fun z26 hz26 => ?_)
  refine JW_pI (pc := 47) (k := 13) G cl_X10 in_X10 tyX10_ok nmX10 (by decide) (by decide) rfl (Or.inl rfl) rfl q1601 rfl rfl hz26 (fun _ => rfl) dX10_init_47 ?_
  refine J_nmD (fun d27 hd27 => ?_)
  refine JR_aload_n (pc := 50) (k := 0) (i := 0) (o := some this) G rfl rfl dX10_init_50 ?_
  refine JR_sipush (pc := 51) (v := 201) G (by decide) dX10_init_51 ?_
  refine J_bd (fun n28 hn28 => ?_)
  refine JW_newaI (pc := 54) (t := 0) G rfl q263 hn28 (fun _ => rfl) dX10_init_54 ?_
  refine J_nm2 (fun S29 d30 hS29 hd30 => ?_)
  refine J_bd (fun z31 hz31 => ?_)
  refine JW_pRf (pc := 56) (k := 14) G cl_X10 in_X10 tyX10_ok nmX10 (by decide) (by decide) rfl (Or.inl rfl) rfl (hI rfl) rfl q1602 hz31 (fun _ => rfl) dX10_init_56 ?_
  refine J_nmS (fun S32 hS32 => ?_)
  refine JR_aload_n (pc := 59) (k := 0) (i := 0) (o := some this) G rfl rfl dX10_init_59 ?_
  refine JR_bipush (pc := 60) (v := 6) G (by decide) dX10_init_60 ?_
  refine J_bd (fun n33 hn33 => ?_)
  refine JW_newaI (pc := 62) (t := 0) G rfl q263 hn33 (fun _ => rfl) dX10_init_62 ?_
  refine J_nm2 (fun S34 d35 hS34 hd35 => ?_)
  refine J_bd (fun z36 hz36 => ?_)
  refine JW_pRf (pc := 64) (k := 15) G cl_X10 in_X10 tyX10_ok nmX10 (by decide) (by decide) rfl (Or.inl rfl) rfl (hI rfl) rfl q1603 hz36 (fun _ => rfl) dX10_init_64 ?_
  refine J_nmS (fun S37 hS37 => ?_)
  refine JR_aload_n (pc := 67) (k := 0) (i := 0) (o := some this) G rfl rfl dX10_init_67 ?_
  refine JR_iconst (pc := 68) G ci_5 dX10_init_68 ?_
  refine J_bd (fun n38 hn38 => ?_)
  refine JW_newaI (pc := 69) (t := 0) G rfl q263 hn38 (fun _ => rfl) dX10_init_69 ?_
  refine J_nm2 (fun S39 d40 hS39 hd40 => ?_)
  refine J_bd (fun z41 hz41 => ?_)
  refine JW_pRf (pc := 71) (k := 16) G cl_X10 in_X10 tyX10_ok nmX10 (by decide) (by decide) rfl (Or.inl rfl) rfl (hI rfl) rfl q1604 hz41 (fun _ => rfl) dX10_init_71 ?_
  refine J_nmS (fun S42 hS42 => ?_)
  refine JR_aload_n (pc := 74) (k := 0) (i := 0) (o := some this) G rfl rfl dX10_init_74 ?_
  refine JR_iconst (pc := 75) G ci_5 dX10_init_75 ?_
  refine J_bd (fun n43 hn43 => ?_)
  refine JW_newaI (pc := 76) (t := 0) G rfl q263 hn43 (fun _ => rfl) dX10_init_76 ?_
  refine J_nm2 (fun S44 d45 hS44 hd45 => ?_)
  refine J_bd (fun z46 hz46 => ?_)
  refine JW_pRf (pc := 78) (k := 17) G cl_X10 in_X10 tyX10_ok nmX10 (by decide) (by decide) rfl (Or.inl rfl) rfl (hI rfl) rfl q1605 hz46 (fun _ => rfl) dX10_init_78 ?_
  refine J_nmS (fun S47 hS47 => ?_)
  refine JR_aload_n (pc := 81) (k := 0) (i := 0) (o := some this) G rfl rfl dX10_init_81 ?_
  refine JR_iconst (pc := 82) G ci_5 dX10_init_82 ?_
  refine J_bd (fun n48 hn48 => ?_)
  refine JW_newaI (pc := 83) (t := 0) G rfl q263 hn48 (fun _ => rfl) dX10_init_83 ?_
  refine J_nm2 (fun S49 d50 hS49 hd50 => ?_)
  refine J_bd (fun z51 hz51 => ?_)
  refine JW_pRf (pc := 85) (k := 18) G cl_X10 in_X10 tyX10_ok nmX10 (by decide) (by decide) rfl (Or.inl rfl) rfl (hI rfl) rfl q1606 hz51 (fun _ => rfl) dX10_init_85 ?_
  refine J_nmS (fun S52 hS52 => ?_)
  refine JR_aload_n (pc := 88) (k := 0) (i := 0) (o := some this) G rfl rfl dX10_init_88 ?_
  refine JR_iconst (pc := 89) G ci_5 dX10_init_89 ?_
  refine J_bd (fun n53 hn53 => ?_)
  refine JW_newaI (pc := 90) (t := 0) G rfl q263 hn53 (fun _ => rfl) dX10_init_90 ?_
  refine J_nm2 (fun S54 d55 hS54 hd55 => ?_)
  refine J_bd (fun z56 hz56 => ?_)
  refine JW_pRf (pc := 92) (k := 19) G cl_X10 in_X10 tyX10_ok nmX10 (by decide) (by decide) rfl (Or.inl rfl) rfl (hI rfl) rfl q1607 hz56 (fun _ => rfl) dX10_init_92 ?_
  refine J_nmS (fun S57 hS57 => ?_)
  refine JR_aload_n (pc := 95) (k := 0) (i := 0) (o := some this) G rfl rfl dX10_init_95 ?_
  refine JR_iconst (pc := 96) G ci_5 dX10_init_96 ?_
  refine J_bd (fun n58 hn58 => ?_)
  refine JW_newaI (pc := 97) (t := 0) G rfl q263 hn58 (fun _ => rfl) dX10_init_97 ?_
  refine J_nm2 (fun S59 d60 hS59 hd60 => ?_)
  refine J_bd (fun z61 hz61 => ?_)
  refine JW_pRf (pc := 99) (k := 20) G cl_X10 in_X10 tyX10_ok nmX10 (by decide) (by decide) rfl (Or.inl rfl) rfl (hI rfl) rfl q1608 hz61 (fun _ => rfl) dX10_init_99 ?_
  refine J_nmS (fun S62 hS62 => ?_)
  refine JR_aload_n (pc := 102) (k := 0) (i := 0) (o := some this) G rfl rfl dX10_init_102 ?_
  refine JR_bipush (pc := 103) (v := 64) G (by decide) dX10_init_103 ?_
  refine J_bd (fun n63 hn63 => ?_)
  refine JW_newaI (pc := 105) (t := 0) G rfl q263 hn63 (fun _ => rfl) dX10_init_105 ?_
  refine J_nm2 (fun S64 d65 hS64 hd65 => ?_)
  refine J_bd (fun z66 hz66 => ?_)
  refine JW_pRf (pc := 107) (k := 22) G cl_X10 in_X10 tyX10_ok nmX10 (by decide) (by decide) rfl (Or.inl rfl) rfl (hI rfl) rfl q1610 hz66 (fun _ => rfl) dX10_init_107 ?_
  refine J_nmS (fun S67 hS67 => ?_)
  refine JR_aload_n (pc := 110) (k := 0) (i := 0) (o := some this) G rfl rfl dX10_init_110 ?_
  refine JR_iconst (pc := 111) G ci_m1 dX10_init_111 ?_
  refine J_bd (fun z68 hz68 => ?_)
  refine JW_pI (pc := 112) (k := 23) G cl_X10 in_X10 tyX10_ok nmX10 (by decide) (by decide) rfl (Or.inl rfl) rfl q1611 rfl rfl hz68 (fun _ => rfl) dX10_init_112 ?_
  refine J_nmD (fun d69 hd69 => ?_)
  refine JR_aload_n (pc := 115) (k := 0) (i := 0) (o := some this) G rfl rfl dX10_init_115 ?_
  refine JR_iconst (pc := 116) G ci_m1 dX10_init_116 ?_
  refine JW_pI (pc := 117) (k := 24) G cl_X10 in_X10 tyX10_ok nmX10 (by decide) (by decide) rfl (Or.inl rfl) rfl q1612 rfl rfl hz68 (fun _ => rfl) dX10_init_117 ?_
  refine J_nmD (fun d70 hd70 => ?_)
  refine JR_aload_n (pc := 120) (k := 0) (i := 0) (o := some this) G rfl rfl dX10_init_120 ?_
  refine JR_iconst (pc := 121) G ci_5 dX10_init_121 ?_
  refine J_bd (fun n71 hn71 => ?_)
  refine JW_newaI (pc := 122) (t := 0) G rfl q263 hn71 (fun _ => rfl) dX10_init_122 ?_
  refine J_nm2 (fun S72 d73 hS72 hd73 => ?_)
  refine J_bd (fun z74 hz74 => ?_)
  refine JW_pRf (pc := 124) (k := 28) G cl_X10 in_X10 tyX10_ok nmX10 (by decide) (by decide) rfl (Or.inl rfl) rfl (hI rfl) rfl q1616 hz74 (fun _ => rfl) dX10_init_124 ?_
  refine J_nmS (fun S75 hS75 => ?_)
  refine JR_aload_n (pc := 127) (k := 0) (i := 0) (o := some this) G rfl rfl dX10_init_127 ?_
  refine JR_iconst (pc := 128) G ci_5 dX10_init_128 ?_
  refine J_bd (fun n76 hn76 => ?_)
  refine JW_newaI (pc := 129) (t := 0) G rfl q263 hn76 (fun _ => rfl) dX10_init_129 ?_
  refine J_nm2 (fun S77 d78 hS77 hd78 => ?_)
  refine J_bd (fun z79 hz79 => ?_)
  refine JW_pRf (pc := 131) (k := 29) G cl_X10 in_X10 tyX10_ok nmX10 (by decide) (by decide) rfl (Or.inl rfl) rfl (hI rfl) rfl q1617 hz79 (fun _ => rfl) dX10_init_131 ?_
  refine J_nmS (fun S80 hS80 => ?_)
  refine JR_aload_n (pc := 134) (k := 0) (i := 0) (o := some this) G rfl rfl dX10_init_134 ?_
  refine JR_iconst (pc := 135) G ci_5 dX10_init_135 ?_
  refine J_bd (fun n81 hn81 => ?_)
  refine JW_newaI (pc := 136) (t := 0) G rfl q263 hn81 (fun _ => rfl) dX10_init_136 ?_
  refine J_nm2 (fun S82 d83 hS82 hd83 => ?_)
  refine J_bd (fun z84 hz84 => ?_)
  refine JW_pRf (pc := 138) (k := 30) G cl_X10 in_X10 tyX10_ok nmX10 (by decide) (by decide) rfl (Or.inl rfl) rfl (hI rfl) rfl q1618 hz84 (fun _ => rfl) dX10_init_138 ?_
  refine J_nmS (fun S85 hS85 => ?_)
  refine JR_aload_n (pc := 141) (k := 0) (i := 0) (o := some this) G rfl rfl dX10_init_141 ?_
  refine JR_iconst (pc := 142) G ci_5 dX10_init_142 ?_
  refine J_bd (fun n86 hn86 => ?_)
  refine JW_newaI (pc := 143) (t := 0) G rfl q263 hn86 (fun _ => rfl) dX10_init_143 ?_
  refine J_nm2 (fun S87 d88 hS87 hd88 => ?_)
  refine J_bd (fun z89 hz89 => ?_)
  refine JW_pRf (pc := 145) (k := 31) G cl_X10 in_X10 tyX10_ok nmX10 (by decide) (by decide) rfl (Or.inl rfl) rfl (hI rfl) rfl q1619 hz89 (fun _ => rfl) dX10_init_145 ?_
  refine J_nmS (fun S90 hS90 => ?_)
  refine JR_aload_n (pc := 148) (k := 0) (i := 0) (o := some this) G rfl rfl dX10_init_148 ?_
  refine JR_iconst (pc := 149) G ci_5 dX10_init_149 ?_
  refine J_bd (fun n91 hn91 => ?_)
  refine JW_newaI (pc := 150) (t := 0) G rfl q263 hn91 (fun _ => rfl) dX10_init_150 ?_
  refine J_nm2 (fun S92 d93 hS92 hd93 => ?_)
  refine J_bd (fun z94 hz94 => ?_)
  refine JW_pRf (pc := 152) (k := 32) G cl_X10 in_X10 tyX10_ok nmX10 (by decide) (by decide) rfl (Or.inl rfl) rfl (hI rfl) rfl q1620 hz94 (fun _ => rfl) dX10_init_152 ?_
  refine J_nmS (fun S95 hS95 => ?_)
  refine JR_aload_n (pc := 155) (k := 0) (i := 0) (o := some this) G rfl rfl dX10_init_155 ?_
  refine JR_iconst (pc := 156) G ci_5 dX10_init_156 ?_
  refine J_bd (fun n96 hn96 => ?_)
  refine JW_newaI (pc := 157) (t := 0) G rfl q263 hn96 (fun _ => rfl) dX10_init_157 ?_
  refine J_nm2 (fun S97 d98 hS97 hd98 => ?_)
  refine J_bd (fun z99 hz99 => ?_)
  refine JW_pRf (pc := 159) (k := 33) G cl_X10 in_X10 tyX10_ok nmX10 (by decide) (by decide) rfl (Or.inl rfl) rfl (hI rfl) rfl q1621 hz99 (fun _ => rfl) dX10_init_159 ?_
  refine J_nmS (fun S100 hS100 => ?_)
  refine JR_aload_n (pc := 162) (k := 0) (i := 0) (o := some this) G rfl rfl dX10_init_162 ?_
  refine JR_iconst (pc := 163) G ci_5 dX10_init_163 ?_
  refine J_bd (fun n101 hn101 => ?_)
  refine JW_newaI (pc := 164) (t := 0) G rfl q263 hn101 (fun _ => rfl) dX10_init_164 ?_
  refine J_nm2 (fun S102 d103 hS102 hd103 => ?_)
  refine J_bd (fun z104 hz104 => ?_)
  refine JW_pRf (pc := 166) (k := 34) G cl_X10 in_X10 tyX10_ok nmX10 (by decide) (by decide) rfl (Or.inl rfl) rfl (hI rfl) rfl q1622 hz104 (fun _ => rfl) dX10_init_166 ?_
  refine J_nmS (fun S105 hS105 => ?_)
  refine JR_aload_n (pc := 169) (k := 0) (i := 0) (o := some this) G rfl rfl dX10_init_169 ?_
  refine JR_iconst (pc := 170) G ci_5 dX10_init_170 ?_
  refine J_bd (fun n106 hn106 => ?_)
  refine JW_newaZ (pc := 171) (t := 1) G rfl q325 hn106 (fun _ => rfl) dX10_init_171 ?_
  refine J_nm2 (fun S107 d108 hS107 hd108 => ?_)
  refine J_bd (fun z109 hz109 => ?_)
  refine JW_pRf (pc := 173) (k := 35) G cl_X10 in_X10 tyX10_ok nmX10 (by decide) (by decide) rfl (Or.inl rfl) rfl (hI rfl) rfl q1623 hz109 (fun _ => rfl) dX10_init_173 ?_
  refine J_nmS (fun S110 hS110 => ?_)
  refine JR_aload_n (pc := 176) (k := 0) (i := 0) (o := some this) G rfl rfl dX10_init_176 ?_
  refine JR_iconst (pc := 177) G ci_5 dX10_init_177 ?_
  refine J_bd (fun n111 hn111 => ?_)
  refine JW_newaI (pc := 178) (t := 0) G rfl q263 hn111 (fun _ => rfl) dX10_init_178 ?_
  refine J_nm2 (fun S112 d113 hS112 hd113 => ?_)
  refine J_bd (fun z114 hz114 => ?_)
  refine JW_pRf (pc := 180) (k := 36) G cl_X10 in_X10 tyX10_ok nmX10 (by decide) (by decide) rfl (Or.inl rfl) rfl (hI rfl) rfl q1624 hz114 (fun _ => rfl) dX10_init_180 ?_
  refine J_nmS (fun S115 hS115 => ?_)
  refine JR_aload_n (pc := 183) (k := 0) (i := 0) (o := some this) G rfl rfl dX10_init_183 ?_
  refine JR_iconst (pc := 184) G ci_5 dX10_init_184 ?_
  refine J_bd (fun n116 hn116 => ?_)
  refine JW_newaI (pc := 185) (t := 0) G rfl q263 hn116 (fun _ => rfl) dX10_init_185 ?_
  refine J_nm2 (fun S117 d118 hS117 hd118 => ?_)
  refine J_bd (fun z119 hz119 => ?_)
  refine JW_pRf (pc := 187) (k := 37) G cl_X10 in_X10 tyX10_ok nmX10 (by decide) (by decide) rfl (Or.inl rfl) rfl (hI rfl) rfl q1625 hz119 (fun _ => rfl) dX10_init_187 ?_
  refine J_nmS (fun S120 hS120 => ?_)
  refine JR_aload_n (pc := 190) (k := 0) (i := 0) (o := some this) G rfl rfl dX10_init_190 ?_
  refine JR_iconst (pc := 191) G ci_5 dX10_init_191 ?_
  refine J_bd (fun n121 hn121 => ?_)
  refine JW_newaF (pc := 192) (t := 3) G rfl q1775 hn121 (fun _ => rfl) dX10_init_192 ?_
  refine J_nm2 (fun S122 d123 hS122 hd123 => ?_)
  refine J_bd (fun z124 hz124 => ?_)
  refine JW_pRf (pc := 194) (k := 38) G cl_X10 in_X10 tyX10_ok nmX10 (by decide) (by decide) rfl (Or.inl rfl) rfl (hI rfl) rfl q1626 hz124 (fun _ => rfl) dX10_init_194 ?_
  refine J_nmS (fun S125 hS125 => ?_)
  refine JR_aload_n (pc := 197) (k := 0) (i := 0) (o := some this) G rfl rfl dX10_init_197 ?_
  refine JR_iconst (pc := 198) G ci_5 dX10_init_198 ?_
  refine J_bd (fun n126 hn126 => ?_)
  refine JW_newaI (pc := 199) (t := 0) G rfl q263 hn126 (fun _ => rfl) dX10_init_199 ?_
  refine J_nm2 (fun S127 d128 hS127 hd128 => ?_)
  refine J_bd (fun z129 hz129 => ?_)
  refine JW_pRf (pc := 201) (k := 39) G cl_X10 in_X10 tyX10_ok nmX10 (by decide) (by decide) rfl (Or.inl rfl) rfl (hI rfl) rfl q1627 hz129 (fun _ => rfl) dX10_init_201 ?_
  refine J_nmS (fun S130 hS130 => ?_)
  refine JR_aload_n (pc := 204) (k := 0) (i := 0) (o := some this) G rfl rfl dX10_init_204 ?_
  refine JR_iconst (pc := 205) G ci_5 dX10_init_205 ?_
  refine J_bd (fun n131 hn131 => ?_)
  refine JW_newaZ (pc := 206) (t := 1) G rfl q325 hn131 (fun _ => rfl) dX10_init_206 ?_
  refine J_nm2 (fun S132 d133 hS132 hd133 => ?_)
  refine J_bd (fun z134 hz134 => ?_)
  refine JW_pRf (pc := 208) (k := 40) G cl_X10 in_X10 tyX10_ok nmX10 (by decide) (by decide) rfl (Or.inl rfl) rfl (hI rfl) rfl q1628 hz134 (fun _ => rfl) dX10_init_208 ?_
  refine J_nmS (fun S135 hS135 => ?_)
  refine JR_aload_n (pc := 211) (k := 0) (i := 0) (o := some this) G rfl rfl dX10_init_211 ?_
  refine JR_iconst (pc := 212) G ci_5 dX10_init_212 ?_
  refine J_bd (fun n136 hn136 => ?_)
  refine JW_newaI (pc := 213) (t := 0) G rfl q263 hn136 (fun _ => rfl) dX10_init_213 ?_
  refine J_nm2 (fun S137 d138 hS137 hd138 => ?_)
  refine J_bd (fun z139 hz139 => ?_)
  refine JW_pRf (pc := 215) (k := 41) G cl_X10 in_X10 tyX10_ok nmX10 (by decide) (by decide) rfl (Or.inl rfl) rfl (hI rfl) rfl q1629 hz139 (fun _ => rfl) dX10_init_215 ?_
  refine J_nmS (fun S140 hS140 => ?_)
  refine JR_aload_n (pc := 218) (k := 0) (i := 0) (o := some this) G rfl rfl dX10_init_218 ?_
  refine JR_iconst (pc := 219) G ci_5 dX10_init_219 ?_
  refine J_bd (fun n141 hn141 => ?_)
  refine JW_newaI (pc := 220) (t := 0) G rfl q263 hn141 (fun _ => rfl) dX10_init_220 ?_
  refine J_nm2 (fun S142 d143 hS142 hd143 => ?_)
  refine J_bd (fun z144 hz144 => ?_)
  refine JW_pRf (pc := 222) (k := 42) G cl_X10 in_X10 tyX10_ok nmX10 (by decide) (by decide) rfl (Or.inl rfl) rfl (hI rfl) rfl q1630 hz144 (fun _ => rfl) dX10_init_222 ?_
  refine J_nmS (fun S145 hS145 => ?_)
  refine JR_aload_n (pc := 225) (k := 0) (i := 0) (o := some this) G rfl rfl dX10_init_225 ?_
  refine JR_iconst (pc := 226) G ci_5 dX10_init_226 ?_
  refine J_bd (fun n146 hn146 => ?_)
  refine JW_newaF (pc := 227) (t := 3) G rfl q1775 hn146 (fun _ => rfl) dX10_init_227 ?_
  refine J_nm2 (fun S147 d148 hS147 hd148 => ?_)
  refine J_bd (fun z149 hz149 => ?_)
  refine JW_pRf (pc := 229) (k := 43) G cl_X10 in_X10 tyX10_ok nmX10 (by decide) (by decide) rfl (Or.inl rfl) rfl (hI rfl) rfl q1631 hz149 (fun _ => rfl) dX10_init_229 ?_
  refine J_nmS (fun S150 hS150 => ?_)
  refine JR_aload_n (pc := 232) (k := 0) (i := 0) (o := some this) G rfl rfl dX10_init_232 ?_
  refine JR_iconst (pc := 233) G ci_5 dX10_init_233 ?_
  refine J_bd (fun n151 hn151 => ?_)
  refine JW_newaD (pc := 234) (t := 4) G rfl q1776 hn151 (fun _ => rfl) dX10_init_234 ?_
  refine J_nm2 (fun S152 d153 hS152 hd153 => ?_)
  refine J_bd (fun z154 hz154 => ?_)
  refine JW_pRf (pc := 236) (k := 44) G cl_X10 in_X10 tyX10_ok nmX10 (by decide) (by decide) rfl (Or.inl rfl) rfl (hI rfl) rfl q1632 hz154 (fun _ => rfl) dX10_init_236 ?_
  refine J_nmS (fun S155 hS155 => ?_)
  refine JR_aload_n (pc := 239) (k := 0) (i := 0) (o := some this) G rfl rfl dX10_init_239 ?_
  refine JR_iconst (pc := 240) G ci_5 dX10_init_240 ?_
  refine J_bd (fun n156 hn156 => ?_)
  refine JW_newaI (pc := 241) (t := 0) G rfl q263 hn156 (fun _ => rfl) dX10_init_241 ?_
  refine J_nm2 (fun S157 d158 hS157 hd158 => ?_)
  refine J_bd (fun z159 hz159 => ?_)
  refine JW_pRf (pc := 243) (k := 45) G cl_X10 in_X10 tyX10_ok nmX10 (by decide) (by decide) rfl (Or.inl rfl) rfl (hI rfl) rfl q1633 hz159 (fun _ => rfl) dX10_init_243 ?_
  refine J_nmS (fun S160 hS160 => ?_)
  refine JR_aload_n (pc := 246) (k := 0) (i := 0) (o := some this) G rfl rfl dX10_init_246 ?_
  refine JR_sipush (pc := 247) (v := 1000) G (by decide) dX10_init_247 ?_
  refine J_bd (fun n161 hn161 => ?_)
  refine JW_newaI (pc := 250) (t := 0) G rfl q263 hn161 (fun _ => rfl) dX10_init_250 ?_
  refine J_nm2 (fun S162 d163 hS162 hd163 => ?_)
  refine J_bd (fun z164 hz164 => ?_)
  refine JW_pRf (pc := 252) (k := 46) G cl_X10 in_X10 tyX10_ok nmX10 (by decide) (by decide) rfl (Or.inl rfl) rfl (hI rfl) rfl q1634 hz164 (fun _ => rfl) dX10_init_252 ?_
  refine J_nmS (fun S165 hS165 => ?_)
  refine JR_aload_n (pc := 255) (k := 0) (i := 0) (o := some this) G rfl rfl dX10_init_255 ?_
  refine JR_sipush (pc := 256) (v := 255) G (by decide) dX10_init_256 ?_
  refine J_bd (fun n166 hn166 => ?_)
  refine JW_newaI (pc := 259) (t := 0) G rfl q263 hn166 (fun _ => rfl) dX10_init_259 ?_
  refine J_nm2 (fun S167 d168 hS167 hd168 => ?_)
  refine J_bd (fun z169 hz169 => ?_)
  refine JW_pRf (pc := 261) (k := 47) G cl_X10 in_X10 tyX10_ok nmX10 (by decide) (by decide) rfl (Or.inl rfl) rfl (hI rfl) rfl q1635 hz169 (fun _ => rfl) dX10_init_261 ?_
  refine J_nmS (fun S170 hS170 => ?_)
  refine JR_aload_n (pc := 264) (k := 0) (i := 0) (o := some this) G rfl rfl dX10_init_264 ?_
  refine JR_bipush (pc := 265) (v := 19) G (by decide) dX10_init_265 ?_
  refine J_bd (fun n171 hn171 => ?_)
  refine JW_newaZ (pc := 267) (t := 1) G rfl q325 hn171 (fun _ => rfl) dX10_init_267 ?_
  refine J_nm2 (fun S172 d173 hS172 hd173 => ?_)
  refine J_bd (fun z174 hz174 => ?_)
  refine JW_pRf (pc := 269) (k := 48) G cl_X10 in_X10 tyX10_ok nmX10 (by decide) (by decide) rfl (Or.inl rfl) rfl (hI rfl) rfl q1636 hz174 (fun _ => rfl) dX10_init_269 ?_
  refine J_nmS (fun S175 hS175 => ?_)
  refine JR_aload_n (pc := 272) (k := 0) (i := 0) (o := some this) G rfl rfl dX10_init_272 ?_
  refine JR_iconst (pc := 273) G ci_3 dX10_init_273 ?_
  refine J_bd (fun n176 hn176 => ?_)
  refine JW_newaZ (pc := 274) (t := 1) G rfl q325 hn176 (fun _ => rfl) dX10_init_274 ?_
  refine J_nm2 (fun S177 d178 hS177 hd178 => ?_)
  refine J_bd (fun z179 hz179 => ?_)
  refine JW_pRf (pc := 276) (k := 49) G cl_X10 in_X10 tyX10_ok nmX10 (by decide) (by decide) rfl (Or.inl rfl) rfl (hI rfl) rfl q1637 hz179 (fun _ => rfl) dX10_init_276 ?_
  refine J_nmS (fun S180 hS180 => ?_)
  refine JR_aload_n (pc := 279) (k := 0) (i := 0) (o := some this) G rfl rfl dX10_init_279 ?_
  refine JR_iconst (pc := 280) G ci_3 dX10_init_280 ?_
  refine J_bd (fun n181 hn181 => ?_)
  refine JW_newaZ (pc := 281) (t := 1) G rfl q325 hn181 (fun _ => rfl) dX10_init_281 ?_
  refine J_nm2 (fun S182 d183 hS182 hd183 => ?_)
  refine J_bd (fun z184 hz184 => ?_)
  refine JW_pRf (pc := 283) (k := 50) G cl_X10 in_X10 tyX10_ok nmX10 (by decide) (by decide) rfl (Or.inl rfl) rfl (hI rfl) rfl q1638 hz184 (fun _ => rfl) dX10_init_283 ?_
  refine J_nmS (fun S185 hS185 => ?_)
  refine JR_aload_n (pc := 286) (k := 0) (i := 0) (o := some this) G rfl rfl dX10_init_286 ?_
  refine JR_sipush (pc := 287) (v := 200) G (by decide) dX10_init_287 ?_
  refine J_bd (fun n186 hn186 => ?_)
  refine JW_newaI (pc := 290) (t := 0) G rfl q263 hn186 (fun _ => rfl) dX10_init_290 ?_
  refine J_nm2 (fun S187 d188 hS187 hd188 => ?_)
  refine J_bd (fun z189 hz189 => ?_)
  refine JW_pRf (pc := 292) (k := 51) G cl_X10 in_X10 tyX10_ok nmX10 (by decide) (by decide) rfl (Or.inl rfl) rfl (hI rfl) rfl q1639 hz189 (fun _ => rfl) dX10_init_292 ?_
  refine J_nmS (fun S190 hS190 => ?_)
  refine JR_aload_n (pc := 295) (k := 0) (i := 0) (o := some this) G rfl rfl dX10_init_295 ?_
  refine JR_sipush (pc := 296) (v := 4000) G (by decide) dX10_init_296 ?_
  refine J_bd (fun n191 hn191 => ?_)
  refine JW_newaI (pc := 299) (t := 0) G rfl q263 hn191 (fun _ => rfl) dX10_init_299 ?_
  refine J_nm2 (fun S192 d193 hS192 hd193 => ?_)
  refine J_bd (fun z194 hz194 => ?_)
  refine JW_pRf (pc := 301) (k := 52) G cl_X10 in_X10 tyX10_ok nmX10 (by decide) (by decide) rfl (Or.inl rfl) rfl (hI rfl) rfl q1640 hz194 (fun _ => rfl) dX10_init_301 ?_
  refine J_nmS (fun S195 hS195 => ?_)
  refine JR_aload_n (pc := 304) (k := 0) (i := 0) (o := some this) G rfl rfl dX10_init_304 ?_
  refine JR_sipush (pc := 305) (v := 4000) G (by decide) dX10_init_305 ?_
  refine J_bd (fun n196 hn196 => ?_)
  refine JW_newaI (pc := 308) (t := 0) G rfl q263 hn196 (fun _ => rfl) dX10_init_308 ?_
  refine J_nm2 (fun S197 d198 hS197 hd198 => ?_)
  refine J_bd (fun z199 hz199 => ?_)
  refine JW_pRf (pc := 310) (k := 53) G cl_X10 in_X10 tyX10_ok nmX10 (by decide) (by decide) rfl (Or.inl rfl) rfl (hI rfl) rfl q1641 hz199 (fun _ => rfl) dX10_init_310 ?_
  refine J_nmS (fun S200 hS200 => ?_)
  refine JR_aload_n (pc := 313) (k := 0) (i := 0) (o := some this) G rfl rfl dX10_init_313 ?_
  refine JR_sipush (pc := 314) (v := 4000) G (by decide) dX10_init_314 ?_
  refine J_bd (fun n201 hn201 => ?_)
  refine JW_newaI (pc := 317) (t := 0) G rfl q263 hn201 (fun _ => rfl) dX10_init_317 ?_
  refine J_nm2 (fun S202 d203 hS202 hd203 => ?_)
  refine J_bd (fun z204 hz204 => ?_)
  refine JW_pRf (pc := 319) (k := 54) G cl_X10 in_X10 tyX10_ok nmX10 (by decide) (by decide) rfl (Or.inl rfl) rfl (hI rfl) rfl q1642 hz204 (fun _ => rfl) dX10_init_319 ?_
  refine J_nmS (fun S205 hS205 => ?_)
  refine JR_aload_n (pc := 322) (k := 0) (i := 0) (o := some this) G rfl rfl dX10_init_322 ?_
  refine JR_sipush (pc := 323) (v := 4000) G (by decide) dX10_init_323 ?_
  refine J_bd (fun n206 hn206 => ?_)
  refine JW_newaI (pc := 326) (t := 0) G rfl q263 hn206 (fun _ => rfl) dX10_init_326 ?_
  refine J_nm2 (fun S207 d208 hS207 hd208 => ?_)
  refine J_bd (fun z209 hz209 => ?_)
  refine JW_pRf (pc := 328) (k := 55) G cl_X10 in_X10 tyX10_ok nmX10 (by decide) (by decide) rfl (Or.inl rfl) rfl (hI rfl) rfl q1643 hz209 (fun _ => rfl) dX10_init_328 ?_
  refine J_nmS (fun S210 hS210 => ?_)
  exact JR_vret (pc := 331) G hR dX10_init_331 rfl rfl

def Mo_in (p0 : Int64) (p2 : Int64) (p4 : Int64) (S : Sp) (d : Dt) : Option Int32 :=
  if (lg_cmp p0 p2) < 0 then
    some 0
  else
    if 0 < (lg_cmp p0 p4) then
      some 0
    else
      some 1
set_option maxHeartbeats 4000000 in
theorem Mo_in_fn (p0 : Int64) (p2 : Int64) (p4 : Int64) (S : Sp) (d : Dt) : Fn yX10_in (ws_ yX10_in cX10_in 6 (some .boolean)) 0 0 [.long p0, .long p2, .long p4] S d rvI Λp (Mo_in p0 p2 p4 S d) := by
  refine Fn.ofJ (own := RX10) (lv := [(0, .long p0), (2, .long p2), (4, .long p4)]) (by decide +kernel) rfl (by simp [cat_i, cat_l, cat_f, cat_d, rf_cat]) (by simp [lv_args, cat_i, cat_l, cat_f, cat_d, rf_cat]) ?_
  intro X F G hRm hR hI
  unfold Mo_in
  refine JR_lload_n (pc := 0) (k := 0) (i := 0) G rfl rfl dX10_in_0 ?_
  refine JR_lload_n (pc := 1) (k := 2) (i := 2) G rfl rfl dX10_in_1 ?_
  refine JR_lcmp (pc := 2) G dX10_in_2 ?_
  refine JR_if_lt (pc := 3) (tgt := 17) G dX10_in_3 (by decide) (fun c2 => ?_) (fun c2 => ?_)
  · refine JR_iconst (pc := 17) G ci_0 dX10_in_17 ?_
    exact JR_zret (pc := 18) G hR dX10_in_18 (Or.inl rfl) rfl rfl
  · refine JR_lload_n (pc := 6) (k := 0) (i := 0) G rfl rfl dX10_in_6 ?_
    refine JR_lload (pc := 7) (i := 4) G rfl dX10_in_7 ?_
    refine JR_lcmp (pc := 9) G dX10_in_9 ?_
    refine JR_if_gt (pc := 10) (tgt := 17) G dX10_in_10 (by decide) (fun c1 => ?_) (fun c1 => ?_)
    · refine JR_iconst (pc := 17) G ci_0 dX10_in_17 ?_
      exact JR_zret (pc := 18) G hR dX10_in_18 (Or.inl rfl) rfl rfl
    · refine JR_iconst (pc := 13) G ci_1 dX10_in_13 ?_
      refine JR_goto (pc := 14) (tgt := 18) G dX10_in_14 (by decide) ?_
      exact JR_zret (pc := 18) G hR dX10_in_18 (Or.inr rfl) rfl rfl

def Mo_image_h17 (this : Nat) (p1 : Int32) (S : Sp) : Nat → Int32 → Dt → Option (Int32 × Dt)
  | 0, _, _ => none
  | f + 1, v2, d =>
    if 201 ≤ v2 then
      (isK S 9 (some this)).bind fun z3 =>
      (aix S 51 (S.2.1 z3 3) p1).bind fun q4 =>
      (some (dI d q4.1 q4.2 (vp_nar .boolean 1))).bind fun d5 =>
      some (0, d5)
    else
      (isK S 9 (some this)).bind fun z6 =>
      (aix S 50 (S.2.1 z6 1) v2).bind fun q7 =>
      (aix S 50 (S.2.1 z6 2) ((201 * p1) + v2)).bind fun q8 =>
      (some (dI d q8.1 q8.2 (d.1 q7.1 q7.2))).bind fun d9 =>
      Mo_image_h17 this p1 S f (v2 + 1) d9
def Mo_image (this : Nat) (p1 : Int32) (S : Sp) (d : Dt) : Option (Int32 × Dt) :=
  (Mo_in (Int32.toInt64 p1) 0 2 S d).bind fun r1 =>
  if ¬ r1 = 0 then
    Mo_image_h17 this p1 S FU 0 d
  else
    some ((-2), d)
set_option maxHeartbeats 4000000 in
theorem Mo_image_fn (this : Nat) (p1 : Int32) (S : Sp) (d : Dt) : Fn yX10_image (ws_ yX10_image cX10_image 3 (some .int)) 1 25 [va_rf (some this), .int p1] S d rvI Λw (Mo_image this p1 S d) := by
  refine Fn.ofJ (own := RX10) (lv := [(0, va_rf (some this)), (1, .int p1)]) (by decide +kernel) rfl (by simp [cat_i, cat_l, cat_f, cat_d, rf_cat]) (by simp [lv_args, cat_i, cat_l, cat_f, cat_d, rf_cat]) ?_
  intro X F G hRm hR hI
  have hMo_image_h17 : ∀ (f : Nat) (v2 : Int32) (d : Dt), J X F Λw S d 17 [(0, va_rf (some this)), (1, .int p1), (2, .int v2)] [] (Mo_image_h17 this p1 S f v2 d) := by
    intro  f
    induction f with
    | zero => intro v2 d; exact J_no
    | succ f ih =>
      intro v2 d
      unfold Mo_image_h17
      refine JR_iload_n (pc := 17) (k := 2) (i := 2) G rfl rfl dX10_image_17 ?_
      refine JR_sipush (pc := 18) (v := 201) G (by decide) dX10_image_18 ?_
      refine JR_icmp_ge (pc := 21) (tgt := 48) G dX10_image_21 (by decide) (fun c10 => ?_) (fun c10 => ?_)
      · refine JR_aload_n (pc := 48) (k := 0) (i := 0) (o := some this) G rfl rfl dX10_image_48 ?_
        refine J_bd (fun z3 hz3 => ?_)
        refine JR_gR (pc := 49) (k := 3) G cl_X10 in_X10 (by decide) (by decide) rfl (Or.inl rfl) q1591 hz3 dX10_image_49 ?_
        refine JR_iload_n (pc := 52) (k := 1) (i := 1) G rfl rfl dX10_image_52 ?_
        refine JR_iconst (pc := 53) G ci_1 dX10_image_53 ?_
        refine J_bd (fun q4 hq4 => ?_)
        refine JW_zastore (pc := 54) G hq4 (fun _ => rfl) dX10_image_54 ?_
        refine J_nmD (fun d5 hd5 => ?_)
        refine JR_iconst (pc := 55) G ci_0 dX10_image_55 ?_
        exact JR_iret (pc := 56) G hR dX10_image_56 rfl rfl
      · refine JR_aload_n (pc := 24) (k := 0) (i := 0) (o := some this) G rfl rfl dX10_image_24 ?_
        refine J_bd (fun z6 hz6 => ?_)
        refine JR_gR (pc := 25) (k := 2) G cl_X10 in_X10 (by decide) (by decide) rfl (Or.inl rfl) q1590 hz6 dX10_image_25 ?_
        refine JR_sipush (pc := 28) (v := 201) G (by decide) dX10_image_28 ?_
        refine JR_iload_n (pc := 31) (k := 1) (i := 1) G rfl rfl dX10_image_31 ?_
        refine JR_imul (pc := 32) G dX10_image_32 ?_
        refine JR_iload_n (pc := 33) (k := 2) (i := 2) G rfl rfl dX10_image_33 ?_
        refine JR_iadd (pc := 34) G dX10_image_34 ?_
        refine JR_aload_n (pc := 35) (k := 0) (i := 0) (o := some this) G rfl rfl dX10_image_35 ?_
        refine JR_gR (pc := 36) (k := 1) G cl_X10 in_X10 (by decide) (by decide) rfl (Or.inl rfl) q1589 hz6 dX10_image_36 ?_
        refine JR_iload_n (pc := 39) (k := 2) (i := 2) G rfl rfl dX10_image_39 ?_
        refine J_bd (fun q7 hq7 => ?_)
        refine JR_iaload (pc := 40) G hq7 dX10_image_40 ?_
        refine J_bd (fun q8 hq8 => ?_)
        refine JW_iastore (pc := 41) G hq8 (fun _ => rfl) dX10_image_41 ?_
        refine J_nmD (fun d9 hd9 => ?_)
        refine JR_iinc (pc := 42) (i := 2) (v := v2 + 1) (lv' := [(2, .int (v2 + 1)), (0, va_rf (some this)), (1, .int p1)]) G rfl (congrArg (fun z => v2 + z) (by decide)) (by decide) rfl dX10_image_42 ?_
        refine JR_goto (pc := 45) (tgt := 17) G dX10_image_45 (by decide) ?_
        refine J_sub [1, 2, 0] rfl ?_
        exact ih (v2 + 1) d9
  unfold Mo_image
  refine JR_iload_n (pc := 0) (k := 1) (i := 1) G rfl rfl dX10_image_0 ?_
  refine JR_i2l (pc := 1) G dX10_image_1 ?_
  refine JR_lconst (pc := 2) G cl_0 dX10_image_2 ?_
  refine JR_ldc2 (pc := 3) G q1781 dX10_image_3 ?_
  refine JPS_I (pc := 6) (as := [.long (Int32.toInt64 p1), .long 0, .long 2]) (st' := []) G (Mo_in_fn (Int32.toInt64 p1) 0 2 S d) (JC_S (n := 3) G hRm q1782 q1783 q152 q1784 dd_X10_in ⟨by decide, by decide⟩ dX10_image_6 rfl (Nat.le_of_ble_eq_true rfl)) rfl (fun r1 hr1 => ?_)
  refine JR_if_ne (pc := 9) (tgt := 15) G dX10_image_9 (by decide) (fun c2 => ?_) (fun c2 => ?_)
  · refine JR_iconst (pc := 15) G ci_0 dX10_image_15 ?_
    refine JR_istore_n (pc := 16) (k := 2) (i := 2) (lv' := [(2, .int 0), (0, va_rf (some this)), (1, .int p1)]) G rfl (by decide) rfl dX10_image_16 ?_
    refine J_sub [1, 2, 0] rfl ?_
    exact hMo_image_h17 FU 0 d
  · refine JR_bipush (pc := 12) (v := (-2)) G (by decide) dX10_image_12 ?_
    exact JR_iret (pc := 14) G hR dX10_image_14 rfl rfl

def Mo_back_h29 (this : Nat) (p1 : Int32) (S : Sp) : Nat → Int32 → Dt → Option (Int32 × Dt)
  | 0, _, _ => none
  | f + 1, v2, d =>
    if 201 ≤ v2 then
      some (0, d)
    else
      (isK S 9 (some this)).bind fun z6 =>
      (aix S 50 (S.2.1 z6 2) ((201 * p1) + v2)).bind fun q7 =>
      (aix S 50 (S.2.1 z6 1) v2).bind fun q8 =>
      (some (dI d q8.1 q8.2 (d.1 q7.1 q7.2))).bind fun d9 =>
      Mo_back_h29 this p1 S f (v2 + 1) d9
def Mo_back (this : Nat) (p1 : Int32) (S : Sp) (d : Dt) : Option (Int32 × Dt) :=
  (Mo_in (Int32.toInt64 p1) 0 2 S d).bind fun r1 =>
  if ¬ r1 = 0 then
    (isK S 9 (some this)).bind fun z2 =>
    (aix S 51 (S.2.1 z2 3) p1).bind fun q3 =>
    if ¬ (d.1 q3.1 q3.2) = 0 then
      Mo_back_h29 this p1 S FU 0 d
    else
      some ((-6), d)
  else
    some ((-2), d)
set_option maxHeartbeats 4000000 in
theorem Mo_back_fn (this : Nat) (p1 : Int32) (S : Sp) (d : Dt) : Fn yX10_back (ws_ yX10_back cX10_back 3 (some .int)) 1 25 [va_rf (some this), .int p1] S d rvI Λw (Mo_back this p1 S d) := by
  refine Fn.ofJ (own := RX10) (lv := [(0, va_rf (some this)), (1, .int p1)]) (by decide +kernel) rfl (by simp [cat_i, cat_l, cat_f, cat_d, rf_cat]) (by simp [lv_args, cat_i, cat_l, cat_f, cat_d, rf_cat]) ?_
  intro X F G hRm hR hI
  have hMo_back_h29 : ∀ (f : Nat) (v2 : Int32) (d : Dt), J X F Λw S d 29 [(0, va_rf (some this)), (1, .int p1), (2, .int v2)] [] (Mo_back_h29 this p1 S f v2 d) := by
    intro  f
    induction f with
    | zero => intro v2 d; exact J_no
    | succ f ih =>
      intro v2 d
      unfold Mo_back_h29
      refine JR_iload_n (pc := 29) (k := 2) (i := 2) G rfl rfl dX10_back_29 ?_
      refine JR_sipush (pc := 30) (v := 201) G (by decide) dX10_back_30 ?_
      refine JR_icmp_ge (pc := 33) (tgt := 60) G dX10_back_33 (by decide) (fun c10 => ?_) (fun c10 => ?_)
      · refine JR_iconst (pc := 60) G ci_0 dX10_back_60 ?_
        exact JR_iret (pc := 61) G hR dX10_back_61 rfl rfl
      · refine JR_aload_n (pc := 36) (k := 0) (i := 0) (o := some this) G rfl rfl dX10_back_36 ?_
        refine J_bd (fun z6 hz6 => ?_)
        refine JR_gR (pc := 37) (k := 1) G cl_X10 in_X10 (by decide) (by decide) rfl (Or.inl rfl) q1589 hz6 dX10_back_37 ?_
        refine JR_iload_n (pc := 40) (k := 2) (i := 2) G rfl rfl dX10_back_40 ?_
        refine JR_aload_n (pc := 41) (k := 0) (i := 0) (o := some this) G rfl rfl dX10_back_41 ?_
        refine JR_gR (pc := 42) (k := 2) G cl_X10 in_X10 (by decide) (by decide) rfl (Or.inl rfl) q1590 hz6 dX10_back_42 ?_
        refine JR_sipush (pc := 45) (v := 201) G (by decide) dX10_back_45 ?_
        refine JR_iload_n (pc := 48) (k := 1) (i := 1) G rfl rfl dX10_back_48 ?_
        refine JR_imul (pc := 49) G dX10_back_49 ?_
        refine JR_iload_n (pc := 50) (k := 2) (i := 2) G rfl rfl dX10_back_50 ?_
        refine JR_iadd (pc := 51) G dX10_back_51 ?_
        refine J_bd (fun q7 hq7 => ?_)
        refine JR_iaload (pc := 52) G hq7 dX10_back_52 ?_
        refine J_bd (fun q8 hq8 => ?_)
        refine JW_iastore (pc := 53) G hq8 (fun _ => rfl) dX10_back_53 ?_
        refine J_nmD (fun d9 hd9 => ?_)
        refine JR_iinc (pc := 54) (i := 2) (v := v2 + 1) (lv' := [(2, .int (v2 + 1)), (0, va_rf (some this)), (1, .int p1)]) G rfl (congrArg (fun z => v2 + z) (by decide)) (by decide) rfl dX10_back_54 ?_
        refine JR_goto (pc := 57) (tgt := 29) G dX10_back_57 (by decide) ?_
        refine J_sub [1, 2, 0] rfl ?_
        exact ih (v2 + 1) d9
  unfold Mo_back
  refine JR_iload_n (pc := 0) (k := 1) (i := 1) G rfl rfl dX10_back_0 ?_
  refine JR_i2l (pc := 1) G dX10_back_1 ?_
  refine JR_lconst (pc := 2) G cl_0 dX10_back_2 ?_
  refine JR_ldc2 (pc := 3) G q1781 dX10_back_3 ?_
  refine JPS_I (pc := 6) (as := [.long (Int32.toInt64 p1), .long 0, .long 2]) (st' := []) G (Mo_in_fn (Int32.toInt64 p1) 0 2 S d) (JC_S (n := 3) G hRm q1782 q1783 q152 q1784 dd_X10_in ⟨by decide, by decide⟩ dX10_back_6 rfl (Nat.le_of_ble_eq_true rfl)) rfl (fun r1 hr1 => ?_)
  refine JR_if_ne (pc := 9) (tgt := 15) G dX10_back_9 (by decide) (fun c5 => ?_) (fun c5 => ?_)
  · refine JR_aload_n (pc := 15) (k := 0) (i := 0) (o := some this) G rfl rfl dX10_back_15 ?_
    refine J_bd (fun z2 hz2 => ?_)
    refine JR_gR (pc := 16) (k := 3) G cl_X10 in_X10 (by decide) (by decide) rfl (Or.inl rfl) q1591 hz2 dX10_back_16 ?_
    refine JR_iload_n (pc := 19) (k := 1) (i := 1) G rfl rfl dX10_back_19 ?_
    refine J_bd (fun q3 hq3 => ?_)
    refine JR_zaload (pc := 20) G hq3 dX10_back_20 ?_
    refine JR_if_ne (pc := 21) (tgt := 27) G dX10_back_21 (by decide) (fun c4 => ?_) (fun c4 => ?_)
    · refine JR_iconst (pc := 27) G ci_0 dX10_back_27 ?_
      refine JR_istore_n (pc := 28) (k := 2) (i := 2) (lv' := [(2, .int 0), (0, va_rf (some this)), (1, .int p1)]) G rfl (by decide) rfl dX10_back_28 ?_
      refine J_sub [1, 2, 0] rfl ?_
      exact hMo_back_h29 FU 0 d
    · refine JR_bipush (pc := 24) (v := (-6)) G (by decide) dX10_back_24 ?_
      exact JR_iret (pc := 26) G hR dX10_back_26 rfl rfl
  · refine JR_bipush (pc := 12) (v := (-2)) G (by decide) dX10_back_12 ?_
    exact JR_iret (pc := 14) G hR dX10_back_14 rfl rfl

def Mo_feed_h55 (this : Nat) (p1 : Int32) (p2 : Int32) (p3 : Int32) (p4 : Int32) (p5 : Int32) (S : Sp) : Nat → Int32 → Dt → Option (Int32 × Dt)
  | 0, _, _ => none
  | f + 1, v6, d =>
    if 20 ≤ v6 then
      (isK S 9 (some this)).bind fun z13 =>
      (some (dI d z13 5 ((d.1 z13 5) + 20))).bind fun d14 =>
      some (d14.1 z13 5, d14)
    else
      (isK S 9 (some this)).bind fun z15 =>
      (aix S 50 (S.2.1 z15 6) (v6 / 4)).bind fun q16 =>
      (aix S 52 (S.2.1 z15 4) ((d.1 z15 5) + v6)).bind fun q17 =>
      (some (dI d q17.1 q17.2 (vp_nar .byte ((Int32.toInt8 ((d.1 q16.1 q16.2) >>> ((24 - (8 * (irm v6 4))) &&& 31))).toInt32)))).bind fun d18 =>
      Mo_feed_h55 this p1 p2 p3 p4 p5 S f (v6 + 1) d18
def Mo_feed (this : Nat) (p1 : Int32) (p2 : Int32) (p3 : Int32) (p4 : Int32) (p5 : Int32) (S : Sp) (d : Dt) : Option (Int32 × Dt) :=
  (isK S 9 (some this)).bind fun z1 =>
  if ((d.1 z1 5) + 20) ≤ 1000 then
    (aix S 50 (S.2.1 z1 6) 0).bind fun q2 =>
    (some (dI d q2.1 q2.2 p1)).bind fun d3 =>
    (aix S 50 (S.2.1 z1 6) 1).bind fun q4 =>
    (some (dI d3 q4.1 q4.2 p2)).bind fun d5 =>
    (aix S 50 (S.2.1 z1 6) 2).bind fun q6 =>
    (some (dI d5 q6.1 q6.2 p3)).bind fun d7 =>
    (aix S 50 (S.2.1 z1 6) 3).bind fun q8 =>
    (some (dI d7 q8.1 q8.2 p4)).bind fun d9 =>
    (aix S 50 (S.2.1 z1 6) 4).bind fun q10 =>
    (some (dI d9 q10.1 q10.2 p5)).bind fun d11 =>
    Mo_feed_h55 this p1 p2 p3 p4 p5 S FU 0 d11
  else
    some ((-1), d)
set_option maxHeartbeats 4000000 in
theorem Mo_feed_fn (this : Nat) (p1 : Int32) (p2 : Int32) (p3 : Int32) (p4 : Int32) (p5 : Int32) (S : Sp) (d : Dt) : Fn yX10_feed (ws_ yX10_feed cX10_feed 7 (some .int)) 0 0 [va_rf (some this), .int p1, .int p2, .int p3, .int p4, .int p5] S d rvI Λw (Mo_feed this p1 p2 p3 p4 p5 S d) := by
  refine Fn.ofJ (own := RX10) (lv := [(0, va_rf (some this)), (1, .int p1), (2, .int p2), (3, .int p3), (4, .int p4), (5, .int p5)]) (by decide +kernel) rfl (by simp [cat_i, cat_l, cat_f, cat_d, rf_cat]) (by simp [lv_args, cat_i, cat_l, cat_f, cat_d, rf_cat]) ?_
  intro X F G hRm hR hI
  have hMo_feed_h55 : ∀ (f : Nat) (v6 : Int32) (d : Dt), J X F Λw S d 55 [(0, va_rf (some this)), (1, .int p1), (2, .int p2), (3, .int p3), (4, .int p4), (5, .int p5), (6, .int v6)] [] (Mo_feed_h55 this p1 p2 p3 p4 p5 S f v6 d) := by
    intro  f
    induction f with
    | zero => intro v6 d; exact J_no
    | succ f ih =>
      intro v6 d
      unfold Mo_feed_h55
      refine JR_iload (pc := 55) (i := 6) G rfl dX10_feed_55 ?_
      refine JR_bipush (pc := 57) (v := 20) G (by decide) dX10_feed_57 ?_
      refine JR_icmp_ge (pc := 59) (tgt := 101) G dX10_feed_59 (by decide) (fun c19 => ?_) (fun c19 => ?_)
      · refine JR_aload_n (pc := 101) (k := 0) (i := 0) (o := some this) G rfl rfl dX10_feed_101 ?_
        refine JR_dup (pc := 102) G (rf_cat _) dX10_feed_102 ?_
        refine J_bd (fun z13 hz13 => ?_)
        refine JR_gI (pc := 103) (k := 5) G cl_X10 in_X10 (by decide) (by decide) rfl (Or.inl rfl) q1593 hz13 dX10_feed_103 ?_
        refine JR_bipush (pc := 106) (v := 20) G (by decide) dX10_feed_106 ?_
        refine JR_iadd (pc := 108) G dX10_feed_108 ?_
        refine JW_pI (pc := 109) (k := 5) G cl_X10 in_X10 tyX10_ok nmX10 (by decide) (by decide) rfl (Or.inl rfl) rfl q1593 rfl rfl hz13 (fun _ => rfl) dX10_feed_109 ?_
        refine J_nmD (fun d14 hd14 => ?_)
        refine JR_aload_n (pc := 112) (k := 0) (i := 0) (o := some this) G rfl rfl dX10_feed_112 ?_
        refine JR_gI (pc := 113) (k := 5) G cl_X10 in_X10 (by decide) (by decide) rfl (Or.inl rfl) q1593 hz13 dX10_feed_113 ?_
        exact JR_iret (pc := 116) G hR dX10_feed_116 rfl rfl
      · refine JR_aload_n (pc := 62) (k := 0) (i := 0) (o := some this) G rfl rfl dX10_feed_62 ?_
        refine J_bd (fun z15 hz15 => ?_)
        refine JR_gR (pc := 63) (k := 4) G cl_X10 in_X10 (by decide) (by decide) rfl (Or.inl rfl) q1592 hz15 dX10_feed_63 ?_
        refine JR_aload_n (pc := 66) (k := 0) (i := 0) (o := some this) G rfl rfl dX10_feed_66 ?_
        refine JR_gI (pc := 67) (k := 5) G cl_X10 in_X10 (by decide) (by decide) rfl (Or.inl rfl) q1593 hz15 dX10_feed_67 ?_
        refine JR_iload (pc := 70) (i := 6) G rfl dX10_feed_70 ?_
        refine JR_iadd (pc := 72) G dX10_feed_72 ?_
        refine JR_aload_n (pc := 73) (k := 0) (i := 0) (o := some this) G rfl rfl dX10_feed_73 ?_
        refine JR_gR (pc := 74) (k := 6) G cl_X10 in_X10 (by decide) (by decide) rfl (Or.inl rfl) q1594 hz15 dX10_feed_74 ?_
        refine JR_iload (pc := 77) (i := 6) G rfl dX10_feed_77 ?_
        refine JR_iconst (pc := 79) G ci_4 dX10_feed_79 ?_
        refine JR_idiv (pc := 80) G (by decide) dX10_feed_80 ?_
        refine J_bd (fun q16 hq16 => ?_)
        refine JR_iaload (pc := 81) G hq16 dX10_feed_81 ?_
        refine JR_bipush (pc := 82) (v := 24) G (by decide) dX10_feed_82 ?_
        refine JR_bipush (pc := 84) (v := 8) G (by decide) dX10_feed_84 ?_
        refine JR_iload (pc := 86) (i := 6) G rfl dX10_feed_86 ?_
        refine JR_iconst (pc := 88) G ci_4 dX10_feed_88 ?_
        refine JR_irem (pc := 89) G (by decide) dX10_feed_89 ?_
        refine JR_imul (pc := 90) G dX10_feed_90 ?_
        refine JR_isub (pc := 91) G dX10_feed_91 ?_
        refine JR_ishr (pc := 92) G dX10_feed_92 ?_
        refine JR_i2b (pc := 93) G dX10_feed_93 ?_
        refine J_bd (fun q17 hq17 => ?_)
        refine JW_bastore (pc := 94) G hq17 (fun _ => rfl) dX10_feed_94 ?_
        refine J_nmD (fun d18 hd18 => ?_)
        refine JR_iinc (pc := 95) (i := 6) (v := v6 + 1) (lv' := [(6, .int (v6 + 1)), (0, va_rf (some this)), (1, .int p1), (2, .int p2), (3, .int p3), (4, .int p4), (5, .int p5)]) G rfl (congrArg (fun z => v6 + z) (by decide)) (by decide) rfl dX10_feed_95 ?_
        refine JR_goto (pc := 98) (tgt := 55) G dX10_feed_98 (by decide) ?_
        refine J_sub [1, 2, 3, 4, 5, 6, 0] rfl ?_
        exact ih (v6 + 1) d18
  unfold Mo_feed
  refine JR_aload_n (pc := 0) (k := 0) (i := 0) (o := some this) G rfl rfl dX10_feed_0 ?_
  refine J_bd (fun z1 hz1 => ?_)
  refine JR_gI (pc := 1) (k := 5) G cl_X10 in_X10 (by decide) (by decide) rfl (Or.inl rfl) q1593 hz1 dX10_feed_1 ?_
  refine JR_bipush (pc := 4) (v := 20) G (by decide) dX10_feed_4 ?_
  refine JR_iadd (pc := 6) G dX10_feed_6 ?_
  refine JR_sipush (pc := 7) (v := 1000) G (by decide) dX10_feed_7 ?_
  refine JR_icmp_le (pc := 10) (tgt := 15) G dX10_feed_10 (by decide) (fun c12 => ?_) (fun c12 => ?_)
  · refine JR_aload_n (pc := 15) (k := 0) (i := 0) (o := some this) G rfl rfl dX10_feed_15 ?_
    refine JR_gR (pc := 16) (k := 6) G cl_X10 in_X10 (by decide) (by decide) rfl (Or.inl rfl) q1594 hz1 dX10_feed_16 ?_
    refine JR_iconst (pc := 19) G ci_0 dX10_feed_19 ?_
    refine JR_iload_n (pc := 20) (k := 1) (i := 1) G rfl rfl dX10_feed_20 ?_
    refine J_bd (fun q2 hq2 => ?_)
    refine JW_iastore (pc := 21) G hq2 (fun _ => rfl) dX10_feed_21 ?_
    refine J_nmD (fun d3 hd3 => ?_)
    refine JR_aload_n (pc := 22) (k := 0) (i := 0) (o := some this) G rfl rfl dX10_feed_22 ?_
    refine JR_gR (pc := 23) (k := 6) G cl_X10 in_X10 (by decide) (by decide) rfl (Or.inl rfl) q1594 hz1 dX10_feed_23 ?_
    refine JR_iconst (pc := 26) G ci_1 dX10_feed_26 ?_
    refine JR_iload_n (pc := 27) (k := 2) (i := 2) G rfl rfl dX10_feed_27 ?_
    refine J_bd (fun q4 hq4 => ?_)
    refine JW_iastore (pc := 28) G hq4 (fun _ => rfl) dX10_feed_28 ?_
    refine J_nmD (fun d5 hd5 => ?_)
    refine JR_aload_n (pc := 29) (k := 0) (i := 0) (o := some this) G rfl rfl dX10_feed_29 ?_
    refine JR_gR (pc := 30) (k := 6) G cl_X10 in_X10 (by decide) (by decide) rfl (Or.inl rfl) q1594 hz1 dX10_feed_30 ?_
    refine JR_iconst (pc := 33) G ci_2 dX10_feed_33 ?_
    refine JR_iload_n (pc := 34) (k := 3) (i := 3) G rfl rfl dX10_feed_34 ?_
    refine J_bd (fun q6 hq6 => ?_)
    refine JW_iastore (pc := 35) G hq6 (fun _ => rfl) dX10_feed_35 ?_
    refine J_nmD (fun d7 hd7 => ?_)
    refine JR_aload_n (pc := 36) (k := 0) (i := 0) (o := some this) G rfl rfl dX10_feed_36 ?_
    refine JR_gR (pc := 37) (k := 6) G cl_X10 in_X10 (by decide) (by decide) rfl (Or.inl rfl) q1594 hz1 dX10_feed_37 ?_
    refine JR_iconst (pc := 40) G ci_3 dX10_feed_40 ?_
    refine JR_iload (pc := 41) (i := 4) G rfl dX10_feed_41 ?_
    refine J_bd (fun q8 hq8 => ?_)
    refine JW_iastore (pc := 43) G hq8 (fun _ => rfl) dX10_feed_43 ?_
    refine J_nmD (fun d9 hd9 => ?_)
    refine JR_aload_n (pc := 44) (k := 0) (i := 0) (o := some this) G rfl rfl dX10_feed_44 ?_
    refine JR_gR (pc := 45) (k := 6) G cl_X10 in_X10 (by decide) (by decide) rfl (Or.inl rfl) q1594 hz1 dX10_feed_45 ?_
    refine JR_iconst (pc := 48) G ci_4 dX10_feed_48 ?_
    refine JR_iload (pc := 49) (i := 5) G rfl dX10_feed_49 ?_
    refine J_bd (fun q10 hq10 => ?_)
    refine JW_iastore (pc := 51) G hq10 (fun _ => rfl) dX10_feed_51 ?_
    refine J_nmD (fun d11 hd11 => ?_)
    refine JR_iconst (pc := 52) G ci_0 dX10_feed_52 ?_
    refine JR_istore (pc := 53) (i := 6) (lv' := [(6, .int 0), (0, va_rf (some this)), (1, .int p1), (2, .int p2), (3, .int p3), (4, .int p4), (5, .int p5)]) G (by decide) rfl dX10_feed_53 ?_
    refine J_sub [1, 2, 3, 4, 5, 6, 0] rfl ?_
    exact hMo_feed_h55 FU 0 d11
  · refine JR_iconst (pc := 13) G ci_m1 dX10_feed_13 ?_
    exact JR_iret (pc := 14) G hR dX10_feed_14 rfl rfl

def Mo_end (this : Nat) (p1 : Int32) (S : Sp) (d : Dt) : Option (Int32 × Dt) :=
  (isK S 9 (some this)).bind fun z1 =>
  (Mo_in (Int32.toInt64 p1) 0 (Int32.toInt64 (d.1 z1 5)) S d).bind fun r2 =>
  if ¬ r2 = 0 then
    (some (dI d z1 5 p1)).bind fun d3 =>
    some (p1, d3)
  else
    some ((-1), d)
set_option maxHeartbeats 4000000 in
theorem Mo_end_fn (this : Nat) (p1 : Int32) (S : Sp) (d : Dt) : Fn yX10_end (ws_ yX10_end cX10_end 2 (some .int)) 1 25 [va_rf (some this), .int p1] S d rvI Λw (Mo_end this p1 S d) := by
  refine Fn.ofJ (own := RX10) (lv := [(0, va_rf (some this)), (1, .int p1)]) (by decide +kernel) rfl (by simp [cat_i, cat_l, cat_f, cat_d, rf_cat]) (by simp [lv_args, cat_i, cat_l, cat_f, cat_d, rf_cat]) ?_
  intro X F G hRm hR hI
  unfold Mo_end
  refine JR_iload_n (pc := 0) (k := 1) (i := 1) G rfl rfl dX10_end_0 ?_
  refine JR_i2l (pc := 1) G dX10_end_1 ?_
  refine JR_lconst (pc := 2) G cl_0 dX10_end_2 ?_
  refine JR_aload_n (pc := 3) (k := 0) (i := 0) (o := some this) G rfl rfl dX10_end_3 ?_
  refine J_bd (fun z1 hz1 => ?_)
  refine JR_gI (pc := 4) (k := 5) G cl_X10 in_X10 (by decide) (by decide) rfl (Or.inl rfl) q1593 hz1 dX10_end_4 ?_
  refine JR_i2l (pc := 7) G dX10_end_7 ?_
  refine JPS_I (pc := 8) (as := [.long (Int32.toInt64 p1), .long 0, .long (Int32.toInt64 (d.1 z1 5))]) (st' := []) G (Mo_in_fn (Int32.toInt64 p1) 0 (Int32.toInt64 (d.1 z1 5)) S d) (JC_S (n := 3) G hRm q1782 q1783 q152 q1784 dd_X10_in ⟨by decide, by decide⟩ dX10_end_8 rfl (Nat.le_of_ble_eq_true rfl)) rfl (fun r2 hr2 => ?_)
  refine JR_if_ne (pc := 11) (tgt := 16) G dX10_end_11 (by decide) (fun c4 => ?_) (fun c4 => ?_)
  · refine JR_aload_n (pc := 16) (k := 0) (i := 0) (o := some this) G rfl rfl dX10_end_16 ?_
    refine JR_iload_n (pc := 17) (k := 1) (i := 1) G rfl rfl dX10_end_17 ?_
    refine JW_pI (pc := 18) (k := 5) G cl_X10 in_X10 tyX10_ok nmX10 (by decide) (by decide) rfl (Or.inl rfl) rfl q1593 rfl rfl hz1 (fun _ => rfl) dX10_end_18 ?_
    refine J_nmD (fun d3 hd3 => ?_)
    refine JR_iload_n (pc := 21) (k := 1) (i := 1) G rfl rfl dX10_end_21 ?_
    exact JR_iret (pc := 22) G hR dX10_end_22 rfl rfl
  · refine JR_iconst (pc := 14) G ci_m1 dX10_end_14 ?_
    exact JR_iret (pc := 15) G hR dX10_end_15 rfl rfl

def Mo_fault (this : Nat) (p1 : Int32) (S : Sp) (d : Dt) : Option Int32 :=
  if ¬ p1 = 0 then
    if ¬ p1 = 1 then
      some ((-1))
    else
      (isK S 9 (some this)).bind fun z1 =>
      some (d.1 z1 13)
  else
    (isK S 9 (some this)).bind fun z3 =>
    some (d.1 z3 12)
set_option maxHeartbeats 4000000 in
theorem Mo_fault_fn (this : Nat) (p1 : Int32) (S : Sp) (d : Dt) : Fn yX10_fault (ws_ yX10_fault cX10_fault 2 (some .int)) 0 0 [va_rf (some this), .int p1] S d rvI Λp (Mo_fault this p1 S d) := by
  refine Fn.ofJ (own := RX10) (lv := [(0, va_rf (some this)), (1, .int p1)]) (by decide +kernel) rfl (by simp [cat_i, cat_l, cat_f, cat_d, rf_cat]) (by simp [lv_args, cat_i, cat_l, cat_f, cat_d, rf_cat]) ?_
  intro X F G hRm hR hI
  unfold Mo_fault
  refine JR_iload_n (pc := 0) (k := 1) (i := 1) G rfl rfl dX10_fault_0 ?_
  refine JR_if_ne (pc := 1) (tgt := 11) G dX10_fault_1 (by decide) (fun c4 => ?_) (fun c4 => ?_)
  · refine JR_iload_n (pc := 11) (k := 1) (i := 1) G rfl rfl dX10_fault_11 ?_
    refine JR_iconst (pc := 12) G ci_1 dX10_fault_12 ?_
    refine JR_icmp_ne (pc := 13) (tgt := 23) G dX10_fault_13 (by decide) (fun c2 => ?_) (fun c2 => ?_)
    · refine JR_iconst (pc := 23) G ci_m1 dX10_fault_23 ?_
      exact JR_iret (pc := 24) G hR dX10_fault_24 rfl rfl
    · refine JR_aload_n (pc := 16) (k := 0) (i := 0) (o := some this) G rfl rfl dX10_fault_16 ?_
      refine J_bd (fun z1 hz1 => ?_)
      refine JR_gI (pc := 17) (k := 13) G cl_X10 in_X10 (by decide) (by decide) rfl (Or.inl rfl) q1601 hz1 dX10_fault_17 ?_
      refine JR_goto (pc := 20) (tgt := 24) G dX10_fault_20 (by decide) ?_
      exact JR_iret (pc := 24) G hR dX10_fault_24 rfl rfl
  · refine JR_aload_n (pc := 4) (k := 0) (i := 0) (o := some this) G rfl rfl dX10_fault_4 ?_
    refine J_bd (fun z3 hz3 => ?_)
    refine JR_gI (pc := 5) (k := 12) G cl_X10 in_X10 (by decide) (by decide) rfl (Or.inl rfl) q1600 hz3 dX10_fault_5 ?_
    refine JR_goto (pc := 8) (tgt := 24) G dX10_fault_8 (by decide) ?_
    exact JR_iret (pc := 24) G hR dX10_fault_24 rfl rfl

def Mo_see (this : Nat) (p1 : Int32) (S : Sp) (d : Dt) : Option Int32 :=
  (isK S 9 (some this)).bind fun z1 =>
  if (d.1 z1 7) ≤ p1 then
    some ((-1))
  else
    (aix S 52 (S.2.1 z1 4) p1).bind fun q2 =>
    some ((d.1 q2.1 q2.2) &&& 255)
set_option maxHeartbeats 4000000 in
theorem Mo_see_fn (this : Nat) (p1 : Int32) (S : Sp) (d : Dt) : Fn yX10_see (ws_ yX10_see cX10_see 2 (some .int)) 0 0 [va_rf (some this), .int p1] S d rvI Λp (Mo_see this p1 S d) := by
  refine Fn.ofJ (own := RX10) (lv := [(0, va_rf (some this)), (1, .int p1)]) (by decide +kernel) rfl (by simp [cat_i, cat_l, cat_f, cat_d, rf_cat]) (by simp [lv_args, cat_i, cat_l, cat_f, cat_d, rf_cat]) ?_
  intro X F G hRm hR hI
  unfold Mo_see
  refine JR_iload_n (pc := 0) (k := 1) (i := 1) G rfl rfl dX10_see_0 ?_
  refine JR_aload_n (pc := 1) (k := 0) (i := 0) (o := some this) G rfl rfl dX10_see_1 ?_
  refine J_bd (fun z1 hz1 => ?_)
  refine JR_gI (pc := 2) (k := 7) G cl_X10 in_X10 (by decide) (by decide) rfl (Or.inl rfl) q1595 hz1 dX10_see_2 ?_
  refine JR_icmp_ge (pc := 5) (tgt := 21) G dX10_see_5 (by decide) (fun c3 => ?_) (fun c3 => ?_)
  · refine JR_iconst (pc := 21) G ci_m1 dX10_see_21 ?_
    exact JR_iret (pc := 22) G hR dX10_see_22 rfl rfl
  · refine JR_aload_n (pc := 8) (k := 0) (i := 0) (o := some this) G rfl rfl dX10_see_8 ?_
    refine JR_gR (pc := 9) (k := 4) G cl_X10 in_X10 (by decide) (by decide) rfl (Or.inl rfl) q1592 hz1 dX10_see_9 ?_
    refine JR_iload_n (pc := 12) (k := 1) (i := 1) G rfl rfl dX10_see_12 ?_
    refine J_bd (fun q2 hq2 => ?_)
    refine JR_baload (pc := 13) G hq2 dX10_see_13 ?_
    refine JR_sipush (pc := 14) (v := 255) G (by decide) dX10_see_14 ?_
    refine JR_iand (pc := 17) G dX10_see_17 ?_
    refine JR_goto (pc := 18) (tgt := 22) G dX10_see_18 (by decide) ?_
    exact JR_iret (pc := 22) G hR dX10_see_22 rfl rfl

def Mo_advance_b26 (this : Nat) (S : Sp) (k0 : Dt → Option (Unit × Dt)) (d : Dt) : Option (Unit × Dt) :=
  (isK S 9 (some this)).bind fun z16 =>
  (some (dI d z16 8 ((d.1 z16 8) + 1))).bind fun d17 =>
  k0 d17
def Mo_advance_h83 (this : Nat) (S : Sp) : Nat → Dt → Option (Unit × Dt)
  | 0, _ => none
  | f + 1, d =>
    (isK S 9 (some this)).bind fun z30 =>
    (Mo_see this (d.1 z30 8) S d).bind fun r31 =>
    (Mo_in (Int32.toInt64 r31) 97 122 S d).bind fun r32 =>
    if r32 = 0 then
      (some (dI d z30 10 1)).bind fun d33 =>
      some ((), d33)
    else
      (some (dI d z30 8 ((d.1 z30 8) + 1))).bind fun d34 =>
      Mo_advance_h83 this S f d34
def Mo_advance_h144 (this : Nat) (S : Sp) : Nat → Dt → Option (Unit × Dt)
  | 0, _ => none
  | f + 1, d =>
    (isK S 9 (some this)).bind fun z22 =>
    (Mo_see this (d.1 z22 8) S d).bind fun r23 =>
    (Mo_in (Int32.toInt64 r23) 48 57 S d).bind fun r24 =>
    if r24 = 0 then
      (some (dI d z22 10 2)).bind fun d25 =>
      some ((), d25)
    else
      (Mo_see this (d.1 z22 8) S d).bind fun r26 =>
      (some (dI d z22 11 (imin 99999 (((10 * (d.1 z22 11)) + r26) - 48)))).bind fun d27 =>
      (some (dI d27 z22 8 ((d27.1 z22 8) + 1))).bind fun d28 =>
      Mo_advance_h144 this S f d28
def Mo_advance_b226 (this : Nat) (S : Sp) (s0 : Int32) (s1 : Option Nat) (d : Dt) : Option (Unit × Dt) :=
  (isK S 9 s1).bind fun z18 =>
  (some (dI d z18 10 s0)).bind fun d19 =>
  (isK S 9 (some this)).bind fun z20 =>
  (some (dI d19 z20 8 ((d19.1 z20 8) + 1))).bind fun d21 =>
  some ((), d21)
def Mo_advance_h0 (this : Nat) (S : Sp) : Nat → Dt → Option (Unit × Dt)
  | 0, _ => none
  | f + 1, d =>
    (isK S 9 (some this)).bind fun z1 =>
    (Mo_see this (d.1 z1 8) S d).bind fun r2 =>
    if r2 = 32 then
      Mo_advance_b26 this S (Mo_advance_h0 this S f) d
    else
      (Mo_see this (d.1 z1 8) S d).bind fun r3 =>
      if ¬ r3 = 10 then
        (some (dI d z1 9 (d.1 z1 8))).bind fun d4 =>
        (Mo_see this (d4.1 z1 8) S d4).bind fun r5 =>
        if ¬ r5 = ((-1)) then
          (Mo_in (Int32.toInt64 r5) 97 122 S d4).bind fun r6 =>
          if r6 = 0 then
            (Mo_in (Int32.toInt64 r5) 48 57 S d4).bind fun r7 =>
            if r7 = 0 then
              Mo_advance_b226 this S (if ¬ r5 = 59 then 4 else 3) (some this) d4
            else
              (some (dI d4 z1 11 0)).bind fun d9 =>
              Mo_advance_h144 this S FU d9
          else
            Mo_advance_h83 this S FU d4
        else
          (some (dI d4 z1 10 0)).bind fun d12 =>
          some ((), d12)
      else
        Mo_advance_b26 this S (Mo_advance_h0 this S f) d
def Mo_advance (this : Nat) (S : Sp) (d : Dt) : Option (Unit × Dt) :=
  Mo_advance_h0 this S FU d
set_option maxHeartbeats 4000000 in
theorem Mo_advance_fn (this : Nat) (S : Sp) (d : Dt) : Fn yX10_advance (ws_ yX10_advance cX10_advance 2 none) 1 25 [va_rf (some this)] S d rvU Λw (Mo_advance this S d) := by
  refine Fn.ofJ (own := RX10) (lv := [(0, va_rf (some this))]) (by decide +kernel) rfl (by simp [cat_i, cat_l, cat_f, cat_d, rf_cat]) (by simp [lv_args, cat_i, cat_l, cat_f, cat_d, rf_cat]) ?_
  intro X F G hRm hR hI
  have hMo_advance_b26 : ∀ (k0 : Dt → Option (Unit × Dt)) (hk0 : ∀ (d : Dt), J X F Λw S d 0 [(0, va_rf (some this))] [] (k0 d)) (d : Dt), J X F Λw S d 26 [(0, va_rf (some this))] [] (Mo_advance_b26 this S k0 d) := by
    intro k0 hk0 d
    unfold Mo_advance_b26
    refine JR_aload_n (pc := 26) (k := 0) (i := 0) (o := some this) G rfl rfl dX10_advance_26 ?_
    refine JR_dup (pc := 27) G (rf_cat _) dX10_advance_27 ?_
    refine J_bd (fun z16 hz16 => ?_)
    refine JR_gI (pc := 28) (k := 8) G cl_X10 in_X10 (by decide) (by decide) rfl (Or.inl rfl) q1596 hz16 dX10_advance_28 ?_
    refine JR_iconst (pc := 31) G ci_1 dX10_advance_31 ?_
    refine JR_iadd (pc := 32) G dX10_advance_32 ?_
    refine JW_pI (pc := 33) (k := 8) G cl_X10 in_X10 tyX10_ok nmX10 (by decide) (by decide) rfl (Or.inl rfl) rfl q1596 rfl rfl hz16 (fun _ => rfl) dX10_advance_33 ?_
    refine J_nmD (fun d17 hd17 => ?_)
    refine JR_goto (pc := 36) (tgt := 0) G dX10_advance_36 (by decide) ?_
    exact hk0 d17
  have hMo_advance_h83 : ∀ (f : Nat) (d : Dt), J X F Λw S d 83 [(0, va_rf (some this))] [] (Mo_advance_h83 this S f d) := by
    intro  f
    induction f with
    | zero => intro d; exact J_no
    | succ f ih =>
      intro d
      unfold Mo_advance_h83
      refine JR_aload_n (pc := 83) (k := 0) (i := 0) (o := some this) G rfl rfl dX10_advance_83 ?_
      refine JR_aload_n (pc := 84) (k := 0) (i := 0) (o := some this) G rfl rfl dX10_advance_84 ?_
      refine J_bd (fun z30 hz30 => ?_)
      refine JR_gI (pc := 85) (k := 8) G cl_X10 in_X10 (by decide) (by decide) rfl (Or.inl rfl) q1596 hz30 dX10_advance_85 ?_
      refine JPV_I (pc := 88) (as := [.int (d.1 z30 8)]) (st' := []) (o := some this) G (Mo_see_fn this (d.1 z30 8) S d) (JC_V (n := 1) G hRm cl_X10 q1809 q1811 qs61 q152 q1812 ⟨rfl, dd_X10_see⟩ ⟨by decide, by decide⟩ dX10_advance_88 hz30 rfl (Nat.le_of_ble_eq_true rfl)) rfl (fun r31 hr31 => ?_)
      refine JR_i2l (pc := 91) G dX10_advance_91 ?_
      refine JR_ldc2 (pc := 92) G q1813 dX10_advance_92 ?_
      refine JR_ldc2 (pc := 95) G q1814 dX10_advance_95 ?_
      refine JPS_I (pc := 98) (as := [.long (Int32.toInt64 r31), .long 97, .long 122]) (st' := []) G (Mo_in_fn (Int32.toInt64 r31) 97 122 S d) (JC_S (n := 3) G hRm q1782 q1783 q152 q1784 dd_X10_in ⟨by decide, by decide⟩ dX10_advance_98 rfl (Nat.le_of_ble_eq_true rfl)) rfl (fun r32 hr32 => ?_)
      refine JR_if_eq (pc := 101) (tgt := 117) G dX10_advance_101 (by decide) (fun c35 => ?_) (fun c35 => ?_)
      · refine JR_aload_n (pc := 117) (k := 0) (i := 0) (o := some this) G rfl rfl dX10_advance_117 ?_
        refine JR_iconst (pc := 118) G ci_1 dX10_advance_118 ?_
        refine JW_pI (pc := 119) (k := 10) G cl_X10 in_X10 tyX10_ok nmX10 (by decide) (by decide) rfl (Or.inl rfl) rfl q1598 rfl rfl hz30 (fun _ => rfl) dX10_advance_119 ?_
        refine J_nmD (fun d33 hd33 => ?_)
        refine JR_goto (pc := 122) (tgt := 239) G dX10_advance_122 (by decide) ?_
        exact JR_vret (pc := 239) G hR dX10_advance_239 rfl rfl
      · refine JR_aload_n (pc := 104) (k := 0) (i := 0) (o := some this) G rfl rfl dX10_advance_104 ?_
        refine JR_dup (pc := 105) G (rf_cat _) dX10_advance_105 ?_
        refine JR_gI (pc := 106) (k := 8) G cl_X10 in_X10 (by decide) (by decide) rfl (Or.inl rfl) q1596 hz30 dX10_advance_106 ?_
        refine JR_iconst (pc := 109) G ci_1 dX10_advance_109 ?_
        refine JR_iadd (pc := 110) G dX10_advance_110 ?_
        refine JW_pI (pc := 111) (k := 8) G cl_X10 in_X10 tyX10_ok nmX10 (by decide) (by decide) rfl (Or.inl rfl) rfl q1596 rfl rfl hz30 (fun _ => rfl) dX10_advance_111 ?_
        refine J_nmD (fun d34 hd34 => ?_)
        refine JR_goto (pc := 114) (tgt := 83) G dX10_advance_114 (by decide) ?_
        exact ih d34
  have hMo_advance_h144 : ∀ (f : Nat) (d : Dt), J X F Λw S d 144 [(0, va_rf (some this))] [] (Mo_advance_h144 this S f d) := by
    intro  f
    induction f with
    | zero => intro d; exact J_no
    | succ f ih =>
      intro d
      unfold Mo_advance_h144
      refine JR_aload_n (pc := 144) (k := 0) (i := 0) (o := some this) G rfl rfl dX10_advance_144 ?_
      refine JR_aload_n (pc := 145) (k := 0) (i := 0) (o := some this) G rfl rfl dX10_advance_145 ?_
      refine J_bd (fun z22 hz22 => ?_)
      refine JR_gI (pc := 146) (k := 8) G cl_X10 in_X10 (by decide) (by decide) rfl (Or.inl rfl) q1596 hz22 dX10_advance_146 ?_
      refine JPV_I (pc := 149) (as := [.int (d.1 z22 8)]) (st' := []) (o := some this) G (Mo_see_fn this (d.1 z22 8) S d) (JC_V (n := 1) G hRm cl_X10 q1809 q1811 qs61 q152 q1812 ⟨rfl, dd_X10_see⟩ ⟨by decide, by decide⟩ dX10_advance_149 hz22 rfl (Nat.le_of_ble_eq_true rfl)) rfl (fun r23 hr23 => ?_)
      refine JR_i2l (pc := 152) G dX10_advance_152 ?_
      refine JR_ldc2 (pc := 153) G q1815 dX10_advance_153 ?_
      refine JR_ldc2 (pc := 156) G q1816 dX10_advance_156 ?_
      refine JPS_I (pc := 159) (as := [.long (Int32.toInt64 r23), .long 48, .long 57]) (st' := []) G (Mo_in_fn (Int32.toInt64 r23) 48 57 S d) (JC_S (n := 3) G hRm q1782 q1783 q152 q1784 dd_X10_in ⟨by decide, by decide⟩ dX10_advance_159 rfl (Nat.le_of_ble_eq_true rfl)) rfl (fun r24 hr24 => ?_)
      refine JR_if_eq (pc := 162) (tgt := 206) G dX10_advance_162 (by decide) (fun c29 => ?_) (fun c29 => ?_)
      · refine JR_aload_n (pc := 206) (k := 0) (i := 0) (o := some this) G rfl rfl dX10_advance_206 ?_
        refine JR_iconst (pc := 207) G ci_2 dX10_advance_207 ?_
        refine JW_pI (pc := 208) (k := 10) G cl_X10 in_X10 tyX10_ok nmX10 (by decide) (by decide) rfl (Or.inl rfl) rfl q1598 rfl rfl hz22 (fun _ => rfl) dX10_advance_208 ?_
        refine J_nmD (fun d25 hd25 => ?_)
        refine JR_goto (pc := 211) (tgt := 239) G dX10_advance_211 (by decide) ?_
        exact JR_vret (pc := 239) G hR dX10_advance_239 rfl rfl
      · refine JR_aload_n (pc := 165) (k := 0) (i := 0) (o := some this) G rfl rfl dX10_advance_165 ?_
        refine JR_ldcI (pc := 166) G q1817 dX10_advance_166 ?_
        refine JR_bipush (pc := 168) (v := 10) G (by decide) dX10_advance_168 ?_
        refine JR_aload_n (pc := 170) (k := 0) (i := 0) (o := some this) G rfl rfl dX10_advance_170 ?_
        refine JR_gI (pc := 171) (k := 11) G cl_X10 in_X10 (by decide) (by decide) rfl (Or.inl rfl) q1599 hz22 dX10_advance_171 ?_
        refine JR_imul (pc := 174) G dX10_advance_174 ?_
        refine JR_aload_n (pc := 175) (k := 0) (i := 0) (o := some this) G rfl rfl dX10_advance_175 ?_
        refine JR_aload_n (pc := 176) (k := 0) (i := 0) (o := some this) G rfl rfl dX10_advance_176 ?_
        refine JR_gI (pc := 177) (k := 8) G cl_X10 in_X10 (by decide) (by decide) rfl (Or.inl rfl) q1596 hz22 dX10_advance_177 ?_
        refine JPV_I (pc := 180) (as := [.int (d.1 z22 8)]) (st' := [.int (10 * (d.1 z22 11)), .int 99999, va_rf (some this)]) (o := some this) G (Mo_see_fn this (d.1 z22 8) S d) (JC_V (n := 1) G hRm cl_X10 q1809 q1811 qs61 q152 q1812 ⟨rfl, dd_X10_see⟩ ⟨by decide, by decide⟩ dX10_advance_180 hz22 rfl (Nat.le_of_ble_eq_true rfl)) rfl (fun r26 hr26 => ?_)
        refine JR_iadd (pc := 183) G dX10_advance_183 ?_
        refine JR_bipush (pc := 184) (v := 48) G (by decide) dX10_advance_184 ?_
        refine JR_isub (pc := 186) G dX10_advance_186 ?_
        refine JR_min (pc := 187) G hRm q1818 q610 q154 q611 ⟨by decide, by decide⟩ (Nat.le_of_ble_eq_true rfl) dX10_advance_187 ?_
        refine JW_pI (pc := 190) (k := 11) G cl_X10 in_X10 tyX10_ok nmX10 (by decide) (by decide) rfl (Or.inl rfl) rfl q1599 rfl rfl hz22 (fun _ => rfl) dX10_advance_190 ?_
        refine J_nmD (fun d27 hd27 => ?_)
        refine JR_aload_n (pc := 193) (k := 0) (i := 0) (o := some this) G rfl rfl dX10_advance_193 ?_
        refine JR_dup (pc := 194) G (rf_cat _) dX10_advance_194 ?_
        refine JR_gI (pc := 195) (k := 8) G cl_X10 in_X10 (by decide) (by decide) rfl (Or.inl rfl) q1596 hz22 dX10_advance_195 ?_
        refine JR_iconst (pc := 198) G ci_1 dX10_advance_198 ?_
        refine JR_iadd (pc := 199) G dX10_advance_199 ?_
        refine JW_pI (pc := 200) (k := 8) G cl_X10 in_X10 tyX10_ok nmX10 (by decide) (by decide) rfl (Or.inl rfl) rfl q1596 rfl rfl hz22 (fun _ => rfl) dX10_advance_200 ?_
        refine J_nmD (fun d28 hd28 => ?_)
        refine JR_goto (pc := 203) (tgt := 144) G dX10_advance_203 (by decide) ?_
        exact ih d28
  have hMo_advance_b226 : ∀ (s0 : Int32) (s1 : Option Nat) (d : Dt), J X F Λw S d 226 [(0, va_rf (some this))] [.int s0, va_rf s1] (Mo_advance_b226 this S s0 s1 d) := by
    intro s0 s1 d
    unfold Mo_advance_b226
    refine J_bd (fun z18 hz18 => ?_)
    refine JW_pI (pc := 226) (k := 10) G cl_X10 in_X10 tyX10_ok nmX10 (by decide) (by decide) rfl (Or.inl rfl) rfl q1598 rfl rfl hz18 (fun _ => rfl) dX10_advance_226 ?_
    refine J_nmD (fun d19 hd19 => ?_)
    refine JR_aload_n (pc := 229) (k := 0) (i := 0) (o := some this) G rfl rfl dX10_advance_229 ?_
    refine JR_dup (pc := 230) G (rf_cat _) dX10_advance_230 ?_
    refine J_bd (fun z20 hz20 => ?_)
    refine JR_gI (pc := 231) (k := 8) G cl_X10 in_X10 (by decide) (by decide) rfl (Or.inl rfl) q1596 hz20 dX10_advance_231 ?_
    refine JR_iconst (pc := 234) G ci_1 dX10_advance_234 ?_
    refine JR_iadd (pc := 235) G dX10_advance_235 ?_
    refine JW_pI (pc := 236) (k := 8) G cl_X10 in_X10 tyX10_ok nmX10 (by decide) (by decide) rfl (Or.inl rfl) rfl q1596 rfl rfl hz20 (fun _ => rfl) dX10_advance_236 ?_
    refine J_nmD (fun d21 hd21 => ?_)
    exact JR_vret (pc := 239) G hR dX10_advance_239 rfl rfl
  have hMo_advance_h0 : ∀ (f : Nat) (d : Dt), J X F Λw S d 0 [(0, va_rf (some this))] [] (Mo_advance_h0 this S f d) := by
    intro  f
    induction f with
    | zero => intro d; exact J_no
    | succ f ih =>
      intro d
      unfold Mo_advance_h0
      refine JR_aload_n (pc := 0) (k := 0) (i := 0) (o := some this) G rfl rfl dX10_advance_0 ?_
      refine JR_aload_n (pc := 1) (k := 0) (i := 0) (o := some this) G rfl rfl dX10_advance_1 ?_
      refine J_bd (fun z1 hz1 => ?_)
      refine JR_gI (pc := 2) (k := 8) G cl_X10 in_X10 (by decide) (by decide) rfl (Or.inl rfl) q1596 hz1 dX10_advance_2 ?_
      refine JPV_I (pc := 5) (as := [.int (d.1 z1 8)]) (st' := []) (o := some this) G (Mo_see_fn this (d.1 z1 8) S d) (JC_V (n := 1) G hRm cl_X10 q1809 q1811 qs61 q152 q1812 ⟨rfl, dd_X10_see⟩ ⟨by decide, by decide⟩ dX10_advance_5 hz1 rfl (Nat.le_of_ble_eq_true rfl)) rfl (fun r2 hr2 => ?_)
      refine JR_bipush (pc := 8) (v := 32) G (by decide) dX10_advance_8 ?_
      refine JR_icmp_eq (pc := 10) (tgt := 26) G dX10_advance_10 (by decide) (fun c15 => ?_) (fun c15 => ?_)
      · exact hMo_advance_b26 (Mo_advance_h0 this S f) ih d
      · refine JR_aload_n (pc := 13) (k := 0) (i := 0) (o := some this) G rfl rfl dX10_advance_13 ?_
        refine JR_aload_n (pc := 14) (k := 0) (i := 0) (o := some this) G rfl rfl dX10_advance_14 ?_
        refine JR_gI (pc := 15) (k := 8) G cl_X10 in_X10 (by decide) (by decide) rfl (Or.inl rfl) q1596 hz1 dX10_advance_15 ?_
        refine JPV_I (pc := 18) (as := [.int (d.1 z1 8)]) (st' := []) (o := some this) G (Mo_see_fn this (d.1 z1 8) S d) (JC_V (n := 1) G hRm cl_X10 q1809 q1811 qs61 q152 q1812 ⟨rfl, dd_X10_see⟩ ⟨by decide, by decide⟩ dX10_advance_18 hz1 rfl (Nat.le_of_ble_eq_true rfl)) rfl (fun r3 hr3 => ?_)
        refine JR_bipush (pc := 21) (v := 10) G (by decide) dX10_advance_21 ?_
        refine JR_icmp_ne (pc := 23) (tgt := 39) G dX10_advance_23 (by decide) (fun c14 => ?_) (fun c14 => ?_)
        · refine JR_aload_n (pc := 39) (k := 0) (i := 0) (o := some this) G rfl rfl dX10_advance_39 ?_
          refine JR_aload_n (pc := 40) (k := 0) (i := 0) (o := some this) G rfl rfl dX10_advance_40 ?_
          refine JR_gI (pc := 41) (k := 8) G cl_X10 in_X10 (by decide) (by decide) rfl (Or.inl rfl) q1596 hz1 dX10_advance_41 ?_
          refine JW_pI (pc := 44) (k := 9) G cl_X10 in_X10 tyX10_ok nmX10 (by decide) (by decide) rfl (Or.inl rfl) rfl q1597 rfl rfl hz1 (fun _ => rfl) dX10_advance_44 ?_
          refine J_nmD (fun d4 hd4 => ?_)
          refine JR_aload_n (pc := 47) (k := 0) (i := 0) (o := some this) G rfl rfl dX10_advance_47 ?_
          refine JR_aload_n (pc := 48) (k := 0) (i := 0) (o := some this) G rfl rfl dX10_advance_48 ?_
          refine JR_gI (pc := 49) (k := 8) G cl_X10 in_X10 (by decide) (by decide) rfl (Or.inl rfl) q1596 hz1 dX10_advance_49 ?_
          refine JPV_I (pc := 52) (as := [.int (d4.1 z1 8)]) (st' := []) (o := some this) G (Mo_see_fn this (d4.1 z1 8) S d4) (JC_V (n := 1) G hRm cl_X10 q1809 q1811 qs61 q152 q1812 ⟨rfl, dd_X10_see⟩ ⟨by decide, by decide⟩ dX10_advance_52 hz1 rfl (Nat.le_of_ble_eq_true rfl)) rfl (fun r5 hr5 => ?_)
          refine JR_istore_n (pc := 55) (k := 1) (i := 1) (lv' := [(1, .int r5), (0, va_rf (some this))]) G rfl (by decide) rfl dX10_advance_55 ?_
          refine JR_iload_n (pc := 56) (k := 1) (i := 1) G rfl rfl dX10_advance_56 ?_
          refine JR_iconst (pc := 57) G ci_m1 dX10_advance_57 ?_
          refine JR_icmp_ne (pc := 58) (tgt := 69) G dX10_advance_58 (by decide) (fun c13 => ?_) (fun c13 => ?_)
          · refine JR_iload_n (pc := 69) (k := 1) (i := 1) G rfl rfl dX10_advance_69 ?_
            refine JR_i2l (pc := 70) G dX10_advance_70 ?_
            refine JR_ldc2 (pc := 71) G q1813 dX10_advance_71 ?_
            refine JR_ldc2 (pc := 74) G q1814 dX10_advance_74 ?_
            refine JPS_I (pc := 77) (as := [.long (Int32.toInt64 r5), .long 97, .long 122]) (st' := []) G (Mo_in_fn (Int32.toInt64 r5) 97 122 S d4) (JC_S (n := 3) G hRm q1782 q1783 q152 q1784 dd_X10_in ⟨by decide, by decide⟩ dX10_advance_77 rfl (Nat.le_of_ble_eq_true rfl)) rfl (fun r6 hr6 => ?_)
            refine JR_if_eq (pc := 80) (tgt := 125) G dX10_advance_80 (by decide) (fun c11 => ?_) (fun c11 => ?_)
            · refine JR_iload_n (pc := 125) (k := 1) (i := 1) G rfl rfl dX10_advance_125 ?_
              refine JR_i2l (pc := 126) G dX10_advance_126 ?_
              refine JR_ldc2 (pc := 127) G q1815 dX10_advance_127 ?_
              refine JR_ldc2 (pc := 130) G q1816 dX10_advance_130 ?_
              refine JPS_I (pc := 133) (as := [.long (Int32.toInt64 r5), .long 48, .long 57]) (st' := []) G (Mo_in_fn (Int32.toInt64 r5) 48 57 S d4) (JC_S (n := 3) G hRm q1782 q1783 q152 q1784 dd_X10_in ⟨by decide, by decide⟩ dX10_advance_133 rfl (Nat.le_of_ble_eq_true rfl)) rfl (fun r7 hr7 => ?_)
              refine JR_if_eq (pc := 136) (tgt := 214) G dX10_advance_136 (by decide) (fun c10 => ?_) (fun c10 => ?_)
              · refine JR_aload_n (pc := 214) (k := 0) (i := 0) (o := some this) G rfl rfl dX10_advance_214 ?_
                refine JR_iload_n (pc := 215) (k := 1) (i := 1) G rfl rfl dX10_advance_215 ?_
                refine JR_bipush (pc := 216) (v := 59) G (by decide) dX10_advance_216 ?_
                refine J_eq (r' := if ¬ r5 = 59 then Mo_advance_b226 this S 4 (some this) d4 else Mo_advance_b226 this S 3 (some this) d4) (by split <;> rfl) ?_
                refine JR_icmp_ne (pc := 218) (tgt := 225) G dX10_advance_218 (by decide) (fun c8 => ?_) (fun c8 => ?_)
                · refine JR_iconst (pc := 225) G ci_4 dX10_advance_225 ?_
                  refine J_sub [1] rfl ?_
                  exact hMo_advance_b226 4 (some this) d4
                · refine JR_iconst (pc := 221) G ci_3 dX10_advance_221 ?_
                  refine JR_goto (pc := 222) (tgt := 226) G dX10_advance_222 (by decide) ?_
                  refine J_sub [1] rfl ?_
                  exact hMo_advance_b226 3 (some this) d4
              · refine JR_aload_n (pc := 139) (k := 0) (i := 0) (o := some this) G rfl rfl dX10_advance_139 ?_
                refine JR_iconst (pc := 140) G ci_0 dX10_advance_140 ?_
                refine JW_pI (pc := 141) (k := 11) G cl_X10 in_X10 tyX10_ok nmX10 (by decide) (by decide) rfl (Or.inl rfl) rfl q1599 rfl rfl hz1 (fun _ => rfl) dX10_advance_141 ?_
                refine J_nmD (fun d9 hd9 => ?_)
                refine J_sub [1] rfl ?_
                exact hMo_advance_h144 FU d9
            · refine J_sub [1] rfl ?_
              exact hMo_advance_h83 FU d4
          · refine JR_aload_n (pc := 61) (k := 0) (i := 0) (o := some this) G rfl rfl dX10_advance_61 ?_
            refine JR_iconst (pc := 62) G ci_0 dX10_advance_62 ?_
            refine JW_pI (pc := 63) (k := 10) G cl_X10 in_X10 tyX10_ok nmX10 (by decide) (by decide) rfl (Or.inl rfl) rfl q1598 rfl rfl hz1 (fun _ => rfl) dX10_advance_63 ?_
            refine J_nmD (fun d12 hd12 => ?_)
            refine JR_goto (pc := 66) (tgt := 239) G dX10_advance_66 (by decide) ?_
            exact JR_vret (pc := 239) G hR dX10_advance_239 rfl rfl
        · exact hMo_advance_b26 (Mo_advance_h0 this S f) ih d
  unfold Mo_advance
  exact hMo_advance_h0 FU d

def Mo_good (this : Nat) (S : Sp) (d : Dt) : Option Int32 :=
  (isK S 9 (some this)).bind fun z1 =>
  if ¬ (d.1 z1 12) = 0 then
    some 0
  else
    some 1
set_option maxHeartbeats 4000000 in
theorem Mo_good_fn (this : Nat) (S : Sp) (d : Dt) : Fn yX10_good (ws_ yX10_good cX10_good 1 (some .boolean)) 0 0 [va_rf (some this)] S d rvI Λp (Mo_good this S d) := by
  refine Fn.ofJ (own := RX10) (lv := [(0, va_rf (some this))]) (by decide +kernel) rfl (by simp [cat_i, cat_l, cat_f, cat_d, rf_cat]) (by simp [lv_args, cat_i, cat_l, cat_f, cat_d, rf_cat]) ?_
  intro X F G hRm hR hI
  unfold Mo_good
  refine JR_aload_n (pc := 0) (k := 0) (i := 0) (o := some this) G rfl rfl dX10_good_0 ?_
  refine J_bd (fun z1 hz1 => ?_)
  refine JR_gI (pc := 1) (k := 12) G cl_X10 in_X10 (by decide) (by decide) rfl (Or.inl rfl) q1600 hz1 dX10_good_1 ?_
  refine JR_if_ne (pc := 4) (tgt := 11) G dX10_good_4 (by decide) (fun c2 => ?_) (fun c2 => ?_)
  · refine JR_iconst (pc := 11) G ci_0 dX10_good_11 ?_
    exact JR_zret (pc := 12) G hR dX10_good_12 (Or.inl rfl) rfl rfl
  · refine JR_iconst (pc := 7) G ci_1 dX10_good_7 ?_
    refine JR_goto (pc := 8) (tgt := 12) G dX10_good_8 (by decide) ?_
    exact JR_zret (pc := 12) G hR dX10_good_12 (Or.inr rfl) rfl rfl

def Mo_wordOf (p0 : Int32) (S : Sp) (d : Dt) : Option (Option Nat) :=
  if p0 = nI 0 then
    some (some (OPQ + 0))
  else
    if p0 = nI 1 then
      some (some (OPQ + 1))
    else
      if p0 = nI 2 then
        some (some (OPQ + 2))
      else
        if p0 = nI 3 then
          some (some (OPQ + 3))
        else
          if p0 = nI 4 then
            some (some (OPQ + 4))
          else
            some (some (OPQ + 5))
set_option maxHeartbeats 4000000 in
theorem Mo_wordOf_fn (p0 : Int32) (S : Sp) (d : Dt) : Fn yX10_wordOf (ws_ yX10_wordOf cX10_wordOf 1 (some (.object "java/lang/String"))) 0 0 [.int p0] S d rvR Λp (Mo_wordOf p0 S d) := by
  refine Fn.ofJ (own := RX10) (lv := [(0, .int p0)]) (by decide +kernel) rfl (by simp [cat_i, cat_l, cat_f, cat_d, rf_cat]) (by simp [lv_args, cat_i, cat_l, cat_f, cat_d, rf_cat]) ?_
  intro X F G hRm hR hI
  unfold Mo_wordOf
  refine JR_iload_n (pc := 0) (k := 0) (i := 0) G rfl rfl dX10_wordOf_0 ?_
  refine J_if (fun c1 => ?_) (fun c1 => ?_)
  · refine JR_tsIn (pc := 1) (k := 0) (tgt := 36) G dX10_wordOf_1 c1 (by decide) (by decide) rfl (by decide) ?_
    refine JR_ldcwSM (pc := 36) (i := 266) (j := 0) G (by decide) (by decide) dX10_wordOf_36 ?_
    exact JR_aret (pc := 39) G hR ⟨_, rfl, Or.inl ⟨_, rfl⟩⟩ dX10_wordOf_39 rfl rfl
  · refine J_if (fun c2 => ?_) (fun c2 => ?_)
    · refine JR_tsIn (pc := 1) (k := 1) (tgt := 40) G dX10_wordOf_1 c2 (by decide) (by decide) rfl (by decide) ?_
      refine JR_ldcwSM (pc := 40) (i := 268) (j := 1) G (by decide) (by decide) dX10_wordOf_40 ?_
      exact JR_aret (pc := 43) G hR ⟨_, rfl, Or.inl ⟨_, rfl⟩⟩ dX10_wordOf_43 rfl rfl
    · refine J_if (fun c3 => ?_) (fun c3 => ?_)
      · refine JR_tsIn (pc := 1) (k := 2) (tgt := 44) G dX10_wordOf_1 c3 (by decide) (by decide) rfl (by decide) ?_
        refine JR_ldcwSM (pc := 44) (i := 270) (j := 2) G (by decide) (by decide) dX10_wordOf_44 ?_
        exact JR_aret (pc := 47) G hR ⟨_, rfl, Or.inl ⟨_, rfl⟩⟩ dX10_wordOf_47 rfl rfl
      · refine J_if (fun c4 => ?_) (fun c4 => ?_)
        · refine JR_tsIn (pc := 1) (k := 3) (tgt := 48) G dX10_wordOf_1 c4 (by decide) (by decide) rfl (by decide) ?_
          refine JR_ldcwSM (pc := 48) (i := 272) (j := 3) G (by decide) (by decide) dX10_wordOf_48 ?_
          exact JR_aret (pc := 51) G hR ⟨_, rfl, Or.inl ⟨_, rfl⟩⟩ dX10_wordOf_51 rfl rfl
        · refine J_if (fun c5 => ?_) (fun c5 => ?_)
          · refine JR_tsIn (pc := 1) (k := 4) (tgt := 52) G dX10_wordOf_1 c5 (by decide) (by decide) rfl (by decide) ?_
            refine JR_ldcwSM (pc := 52) (i := 274) (j := 4) G (by decide) (by decide) dX10_wordOf_52 ?_
            exact JR_aret (pc := 55) G hR ⟨_, rfl, Or.inl ⟨_, rfl⟩⟩ dX10_wordOf_55 rfl rfl
          · refine JR_tsOut (pc := 1) (tgt := 56) (n := 4) G dX10_wordOf_1 rfl (by decide) (fun k9 hk9 => by rcases (show k9 = 0 ∨ k9 = 1 ∨ k9 = 2 ∨ k9 = 3 ∨ k9 = 4 by omega) with rfl | rfl | rfl | rfl | rfl <;> assumption) (by decide) ?_
            refine JR_ldcwSM (pc := 56) (i := 276) (j := 5) G (by decide) (by decide) dX10_wordOf_56 ?_
            exact JR_aret (pc := 59) G hR ⟨_, rfl, Or.inl ⟨_, rfl⟩⟩ dX10_wordOf_59 rfl rfl

def Mo_is_b75 (this : Nat) (p1 : Option Nat) (S : Sp) (d : Dt) (k39 : Int32 → Int32 → Option (Int32)) (v3 : Int32) (s0 : Int32) : Option Int32 :=
  k39 s0 (v3 + 1)
def Mo_is_b82 (this : Nat) (p1 : Option Nat) (S : Sp) (d : Dt) (v2 : Int32) : Option Int32 :=
  (gb v2).bind fun b16 =>
  some b16
def Mo_is_h39 (this : Nat) (p1 : Option Nat) (S : Sp) (d : Dt) : Nat → Int32 → Int32 → Option Int32
  | 0, _, _ => none
  | f + 1, v2, v3 =>
    (isT p1).bind fun j8 =>
    (Js_length p1 S d).bind fun r9 =>
    if r9 ≤ v3 then
      Mo_is_b82 this p1 S d v2
    else
      if v2 = 0 then
        Mo_is_b82 this p1 S d v2
      else
        (isK S 9 (some this)).bind fun z10 =>
        (aix S 52 (S.2.1 z10 4) ((d.1 z10 9) + v3)).bind fun q11 =>
        (Js_charAt p1 v3 S d).bind fun r12 =>
        Mo_is_b75 this p1 S d (Mo_is_h39 this p1 S d f) v3 (if ¬ (d.1 q11.1 q11.2) = r12 then 0 else 1)
def Mo_is_b36 (this : Nat) (p1 : Option Nat) (S : Sp) (d : Dt) (s0 : Int32) : Option Int32 :=
  Mo_is_h39 this p1 S d FU s0 0
def Mo_is_b35 (this : Nat) (p1 : Option Nat) (S : Sp) (d : Dt) : Option Int32 :=
  Mo_is_b36 this p1 S d 0
def Mo_is (this : Nat) (p1 : Option Nat) (S : Sp) (d : Dt) : Option Int32 :=
  (isK S 9 (some this)).bind fun z1 =>
  (Mo_good this S d).bind fun r2 =>
  if r2 = 0 then
    Mo_is_b35 this p1 S d
  else
    if ¬ (d.1 z1 10) = 1 then
      Mo_is_b35 this p1 S d
    else
      (isT p1).bind fun j3 =>
      (Js_length p1 S d).bind fun r4 =>
      if ¬ ((d.1 z1 8) - (d.1 z1 9)) = r4 then
        Mo_is_b35 this p1 S d
      else
        Mo_is_b36 this p1 S d 1
set_option maxHeartbeats 4000000 in
theorem Mo_is_fn (this : Nat) (p1 : Option Nat) (S : Sp) (d : Dt) : Fn yX10_is (ws_ yX10_is cX10_is 4 (some .boolean)) 4 85 [va_rf (some this), va_rf p1] S d rvI Λp (Mo_is this p1 S d) := by
  refine Fn.ofJ (own := RX10) (lv := [(0, va_rf (some this)), (1, va_rf p1)]) (by decide +kernel) rfl (by simp [cat_i, cat_l, cat_f, cat_d, rf_cat]) (by simp [lv_args, cat_i, cat_l, cat_f, cat_d, rf_cat]) ?_
  intro X F G hRm hR hI
  have hMo_is_b75 : ∀ (k39 : Int32 → Int32 → Option (Int32)) (hk39 : ∀ (v2 : Int32) (v3 : Int32), J X F Λp S d 39 [(0, va_rf (some this)), (1, va_rf p1), (2, .int v2), (3, .int v3)] [] (k39 v2 v3)) (v3 : Int32) (s0 : Int32), J X F Λp S d 75 [(0, va_rf (some this)), (1, va_rf p1), (3, .int v3)] [.int s0] (Mo_is_b75 this p1 S d k39 v3 s0) := by
    intro k39 hk39 v3 s0
    unfold Mo_is_b75
    refine JR_istore_n (pc := 75) (k := 2) (i := 2) (lv' := [(2, .int s0), (0, va_rf (some this)), (1, va_rf p1), (3, .int v3)]) G rfl (by decide) (by simp [lvS, rf_cat]) dX10_is_75 ?_
    refine JR_iinc (pc := 76) (i := 3) (v := v3 + 1) (lv' := [(3, .int (v3 + 1)), (2, .int s0), (0, va_rf (some this)), (1, va_rf p1)]) G rfl (congrArg (fun z => v3 + z) (by decide)) (by decide) rfl dX10_is_76 ?_
    refine JR_goto (pc := 79) (tgt := 39) G dX10_is_79 (by decide) ?_
    refine J_sub [2, 3, 1, 0] rfl ?_
    exact hk39 s0 (v3 + 1)
  have hMo_is_b82 : ∀ (v2 : Int32), J X F Λp S d 82 [(0, va_rf (some this)), (1, va_rf p1), (2, .int v2)] [] (Mo_is_b82 this p1 S d v2) := by
    intro v2
    unfold Mo_is_b82
    refine JR_iload_n (pc := 82) (k := 2) (i := 2) G rfl rfl dX10_is_82 ?_
    refine J_bd (fun b16 hb16 => ?_)
    refine J_stk (st' := [.int b16]) (by rw [(gb_at hb16).1]) ?_
    exact JR_zret (pc := 83) G hR dX10_is_83 (by have h9 := gb_at hb16; rw [h9.1]; exact h9.2) rfl rfl
  have hMo_is_h39 : ∀ (f : Nat) (v2 : Int32) (v3 : Int32), J X F Λp S d 39 [(0, va_rf (some this)), (1, va_rf p1), (2, .int v2), (3, .int v3)] [] (Mo_is_h39 this p1 S d f v2 v3) := by
    intro  f
    induction f with
    | zero => intro v2 v3; exact J_no
    | succ f ih =>
      intro v2 v3
      unfold Mo_is_h39
      refine JR_iload_n (pc := 39) (k := 3) (i := 3) G rfl rfl dX10_is_39 ?_
      refine JR_aload_n (pc := 40) (k := 1) (i := 1) (o := p1) G rfl rfl dX10_is_40 ?_
      refine J_bd (fun j8 hj8 => ?_)
      refine JPV_I (pc := 41) (as := []) (st' := [.int v3]) (o := p1) G (Js_length_fn p1 S d) (JC_VT (n := 0) G hRm q1844 q659 q660 q155 q661 ⟨rfl, dd_J6_length⟩ ⟨by decide, by decide⟩ dX10_is_41 hj8 rfl (Nat.le_of_ble_eq_true rfl)) rfl (fun r9 hr9 => ?_)
      refine JR_icmp_ge (pc := 44) (tgt := 82) G dX10_is_44 (by decide) (fun c15 => ?_) (fun c15 => ?_)
      · refine J_sub [0, 1, 2] rfl ?_
        exact hMo_is_b82 v2
      · refine JR_iload_n (pc := 47) (k := 2) (i := 2) G rfl rfl dX10_is_47 ?_
        refine JR_if_eq (pc := 48) (tgt := 82) G dX10_is_48 (by decide) (fun c14 => ?_) (fun c14 => ?_)
        · refine J_sub [0, 1, 2] rfl ?_
          exact hMo_is_b82 v2
        · refine JR_aload_n (pc := 51) (k := 0) (i := 0) (o := some this) G rfl rfl dX10_is_51 ?_
          refine J_bd (fun z10 hz10 => ?_)
          refine JR_gR (pc := 52) (k := 4) G cl_X10 in_X10 (by decide) (by decide) rfl (Or.inl rfl) q1592 hz10 dX10_is_52 ?_
          refine JR_aload_n (pc := 55) (k := 0) (i := 0) (o := some this) G rfl rfl dX10_is_55 ?_
          refine JR_gI (pc := 56) (k := 9) G cl_X10 in_X10 (by decide) (by decide) rfl (Or.inl rfl) q1597 hz10 dX10_is_56 ?_
          refine JR_iload_n (pc := 59) (k := 3) (i := 3) G rfl rfl dX10_is_59 ?_
          refine JR_iadd (pc := 60) G dX10_is_60 ?_
          refine J_bd (fun q11 hq11 => ?_)
          refine JR_baload (pc := 61) G hq11 dX10_is_61 ?_
          refine JR_aload_n (pc := 62) (k := 1) (i := 1) (o := p1) G rfl rfl dX10_is_62 ?_
          refine JR_iload_n (pc := 63) (k := 3) (i := 3) G rfl rfl dX10_is_63 ?_
          refine JPV_I (pc := 64) (as := [.int v3]) (st' := [.int (d.1 q11.1 q11.2)]) (o := p1) G (Js_charAt_fn p1 v3 S d) (JC_VT (n := 1) G hRm q1845 q669 q670 q155 q671 ⟨rfl, dd_J6_charAt⟩ ⟨by decide, by decide⟩ dX10_is_64 hj8 rfl (Nat.le_of_ble_eq_true rfl)) rfl (fun r12 hr12 => ?_)
          refine J_eq (r' := if ¬ (d.1 q11.1 q11.2) = r12 then Mo_is_b75 this p1 S d (Mo_is_h39 this p1 S d f) v3 0 else Mo_is_b75 this p1 S d (Mo_is_h39 this p1 S d f) v3 1) (by split <;> rfl) ?_
          refine JR_icmp_ne (pc := 67) (tgt := 74) G dX10_is_67 (by decide) (fun c13 => ?_) (fun c13 => ?_)
          · refine JR_iconst (pc := 74) G ci_0 dX10_is_74 ?_
            refine J_sub [0, 1, 3] rfl ?_
            exact hMo_is_b75 (Mo_is_h39 this p1 S d f) ih v3 0
          · refine JR_iconst (pc := 70) G ci_1 dX10_is_70 ?_
            refine JR_goto (pc := 71) (tgt := 75) G dX10_is_71 (by decide) ?_
            refine J_sub [0, 1, 3] rfl ?_
            exact hMo_is_b75 (Mo_is_h39 this p1 S d f) ih v3 1
  have hMo_is_b36 : ∀ (s0 : Int32), J X F Λp S d 36 [(0, va_rf (some this)), (1, va_rf p1)] [.int s0] (Mo_is_b36 this p1 S d s0) := by
    intro s0
    unfold Mo_is_b36
    refine JR_istore_n (pc := 36) (k := 2) (i := 2) (lv' := [(2, .int s0), (0, va_rf (some this)), (1, va_rf p1)]) G rfl (by decide) (by simp [lvS, rf_cat]) dX10_is_36 ?_
    refine JR_iconst (pc := 37) G ci_0 dX10_is_37 ?_
    refine JR_istore_n (pc := 38) (k := 3) (i := 3) (lv' := [(3, .int 0), (2, .int s0), (0, va_rf (some this)), (1, va_rf p1)]) G rfl (by decide) rfl dX10_is_38 ?_
    refine J_sub [2, 3, 1, 0] rfl ?_
    exact hMo_is_h39 FU s0 0
  have hMo_is_b35 : J X F Λp S d 35 [(0, va_rf (some this)), (1, va_rf p1)] [] (Mo_is_b35 this p1 S d ) := by
    unfold Mo_is_b35
    refine JR_iconst (pc := 35) G ci_0 dX10_is_35 ?_
    exact hMo_is_b36 0
  unfold Mo_is
  refine JR_aload_n (pc := 0) (k := 0) (i := 0) (o := some this) G rfl rfl dX10_is_0 ?_
  refine J_bd (fun z1 hz1 => ?_)
  refine JPV_I (pc := 1) (as := []) (st' := []) (o := some this) G (Mo_good_fn this S d) (JC_V (n := 0) G hRm cl_X10 q1819 q1821 qs62 q152 q1822 ⟨rfl, dd_X10_good⟩ ⟨by decide, by decide⟩ dX10_is_1 hz1 rfl (Nat.le_of_ble_eq_true rfl)) rfl (fun r2 hr2 => ?_)
  refine JR_if_eq (pc := 4) (tgt := 35) G dX10_is_4 (by decide) (fun c7 => ?_) (fun c7 => ?_)
  · exact hMo_is_b35
  · refine JR_aload_n (pc := 7) (k := 0) (i := 0) (o := some this) G rfl rfl dX10_is_7 ?_
    refine JR_gI (pc := 8) (k := 10) G cl_X10 in_X10 (by decide) (by decide) rfl (Or.inl rfl) q1598 hz1 dX10_is_8 ?_
    refine JR_iconst (pc := 11) G ci_1 dX10_is_11 ?_
    refine JR_icmp_ne (pc := 12) (tgt := 35) G dX10_is_12 (by decide) (fun c6 => ?_) (fun c6 => ?_)
    · exact hMo_is_b35
    · refine JR_aload_n (pc := 15) (k := 0) (i := 0) (o := some this) G rfl rfl dX10_is_15 ?_
      refine JR_gI (pc := 16) (k := 8) G cl_X10 in_X10 (by decide) (by decide) rfl (Or.inl rfl) q1596 hz1 dX10_is_16 ?_
      refine JR_aload_n (pc := 19) (k := 0) (i := 0) (o := some this) G rfl rfl dX10_is_19 ?_
      refine JR_gI (pc := 20) (k := 9) G cl_X10 in_X10 (by decide) (by decide) rfl (Or.inl rfl) q1597 hz1 dX10_is_20 ?_
      refine JR_isub (pc := 23) G dX10_is_23 ?_
      refine JR_aload_n (pc := 24) (k := 1) (i := 1) (o := p1) G rfl rfl dX10_is_24 ?_
      refine J_bd (fun j3 hj3 => ?_)
      refine JPV_I (pc := 25) (as := []) (st' := [.int ((d.1 z1 8) - (d.1 z1 9))]) (o := p1) G (Js_length_fn p1 S d) (JC_VT (n := 0) G hRm q1844 q659 q660 q155 q661 ⟨rfl, dd_J6_length⟩ ⟨by decide, by decide⟩ dX10_is_25 hj3 rfl (Nat.le_of_ble_eq_true rfl)) rfl (fun r4 hr4 => ?_)
      refine JR_icmp_ne (pc := 28) (tgt := 35) G dX10_is_28 (by decide) (fun c5 => ?_) (fun c5 => ?_)
      · exact hMo_is_b35
      · refine JR_iconst (pc := 31) G ci_1 dX10_is_31 ?_
        refine JR_goto (pc := 32) (tgt := 36) G dX10_is_32 (by decide) ?_
        exact hMo_is_b36 1

def Mo_kindRead_h2 (this : Nat) (S : Sp) (d : Dt) : Nat → Int32 → Option Int32
  | 0, _ => none
  | f + 1, v1 =>
    if 5 < v1 then
      some ((-1))
    else
      (Mo_wordOf v1 S d).bind fun r1 =>
      (isK S 9 (some this)).bind fun z2 =>
      (Mo_is this r1 S d).bind fun r3 =>
      if r3 = 0 then
        Mo_kindRead_h2 this S d f (v1 + 1)
      else
        some v1
def Mo_kindRead (this : Nat) (S : Sp) (d : Dt) : Option Int32 :=
  Mo_kindRead_h2 this S d FU 0
set_option maxHeartbeats 4000000 in
theorem Mo_kindRead_fn (this : Nat) (S : Sp) (d : Dt) : Fn yX10_kindRead (ws_ yX10_kindRead cX10_kindRead 2 (some .int)) 5 108 [va_rf (some this)] S d rvI Λp (Mo_kindRead this S d) := by
  refine Fn.ofJ (own := RX10) (lv := [(0, va_rf (some this))]) (by decide +kernel) rfl (by simp [cat_i, cat_l, cat_f, cat_d, rf_cat]) (by simp [lv_args, cat_i, cat_l, cat_f, cat_d, rf_cat]) ?_
  intro X F G hRm hR hI
  have hMo_kindRead_h2 : ∀ (f : Nat) (v1 : Int32), J X F Λp S d 2 [(0, va_rf (some this)), (1, .int v1)] [] (Mo_kindRead_h2 this S d f v1) := by
    intro  f
    induction f with
    | zero => intro v1; exact J_no
    | succ f ih =>
      intro v1
      unfold Mo_kindRead_h2
      refine JR_iload_n (pc := 2) (k := 1) (i := 1) G rfl rfl dX10_kindRead_2 ?_
      refine JR_iconst (pc := 3) G ci_5 dX10_kindRead_3 ?_
      refine JR_icmp_gt (pc := 4) (tgt := 26) G dX10_kindRead_4 (by decide) (fun c5 => ?_) (fun c5 => ?_)
      · refine JR_iconst (pc := 26) G ci_m1 dX10_kindRead_26 ?_
        exact JR_iret (pc := 27) G hR dX10_kindRead_27 rfl rfl
      · refine JR_aload_n (pc := 7) (k := 0) (i := 0) (o := some this) G rfl rfl dX10_kindRead_7 ?_
        refine JR_iload_n (pc := 8) (k := 1) (i := 1) G rfl rfl dX10_kindRead_8 ?_
        refine JPS_R (pc := 9) (as := [.int v1]) (st' := [va_rf (some this)]) G (Mo_wordOf_fn v1 S d) (JC_S (n := 1) G hRm q1831 q1832 q152 q1833 dd_X10_wordOf ⟨by decide, by decide⟩ dX10_kindRead_9 rfl (Nat.le_of_ble_eq_true rfl)) rfl (fun r1 hr1 => ?_)
        refine J_bd (fun z2 hz2 => ?_)
        refine JPV_I (pc := 12) (as := [va_rf r1]) (st' := []) (o := some this) G (Mo_is_fn this r1 S d) (JC_V (n := 1) G hRm cl_X10 q1840 q1842 qs65 q152 q1843 ⟨rfl, dd_X10_is⟩ ⟨by decide, by decide⟩ dX10_kindRead_12 hz2 rfl (Nat.le_of_ble_eq_true rfl)) rfl (fun r3 hr3 => ?_)
        refine JR_if_eq (pc := 15) (tgt := 20) G dX10_kindRead_15 (by decide) (fun c4 => ?_) (fun c4 => ?_)
        · refine JR_iinc (pc := 20) (i := 1) (v := v1 + 1) (lv' := [(1, .int (v1 + 1)), (0, va_rf (some this))]) G rfl (congrArg (fun z => v1 + z) (by decide)) (by decide) rfl dX10_kindRead_20 ?_
          refine JR_goto (pc := 23) (tgt := 2) G dX10_kindRead_23 (by decide) ?_
          refine J_sub [1, 0] rfl ?_
          exact ih (v1 + 1)
        · refine JR_iload_n (pc := 18) (k := 1) (i := 1) G rfl rfl dX10_kindRead_18 ?_
          exact JR_iret (pc := 19) G hR dX10_kindRead_19 rfl rfl
  unfold Mo_kindRead
  refine JR_iconst (pc := 0) G ci_0 dX10_kindRead_0 ?_
  refine JR_istore_n (pc := 1) (k := 1) (i := 1) (lv' := [(1, .int 0), (0, va_rf (some this))]) G rfl (by decide) rfl dX10_kindRead_1 ?_
  refine J_sub [1, 0] rfl ?_
  exact hMo_kindRead_h2 FU 0

def Mo_errs (this : Nat) (p1 : Int32) (S : Sp) (d : Dt) : Option (Unit × Dt) :=
  (isK S 9 (some this)).bind fun z1 =>
  (Mo_good this S d).bind fun r2 =>
  if ¬ r2 = 0 then
    (some (dI d z1 12 p1)).bind fun d3 =>
    (some (dI d3 z1 13 (d3.1 z1 9))).bind fun d4 =>
    some ((), d4)
  else
    some ((), d)
set_option maxHeartbeats 4000000 in
theorem Mo_errs_fn (this : Nat) (p1 : Int32) (S : Sp) (d : Dt) : Fn yX10_errs (ws_ yX10_errs cX10_errs 2 none) 1 20 [va_rf (some this), .int p1] S d rvU Λw (Mo_errs this p1 S d) := by
  refine Fn.ofJ (own := RX10) (lv := [(0, va_rf (some this)), (1, .int p1)]) (by decide +kernel) rfl (by simp [cat_i, cat_l, cat_f, cat_d, rf_cat]) (by simp [lv_args, cat_i, cat_l, cat_f, cat_d, rf_cat]) ?_
  intro X F G hRm hR hI
  unfold Mo_errs
  refine JR_aload_n (pc := 0) (k := 0) (i := 0) (o := some this) G rfl rfl dX10_errs_0 ?_
  refine J_bd (fun z1 hz1 => ?_)
  refine JPV_I (pc := 1) (as := []) (st' := []) (o := some this) G (Mo_good_fn this S d) (JC_V (n := 0) G hRm cl_X10 q1819 q1821 qs62 q152 q1822 ⟨rfl, dd_X10_good⟩ ⟨by decide, by decide⟩ dX10_errs_1 hz1 rfl (Nat.le_of_ble_eq_true rfl)) rfl (fun r2 hr2 => ?_)
  refine JR_if_ne (pc := 4) (tgt := 8) G dX10_errs_4 (by decide) (fun c5 => ?_) (fun c5 => ?_)
  · refine JR_aload_n (pc := 8) (k := 0) (i := 0) (o := some this) G rfl rfl dX10_errs_8 ?_
    refine JR_iload_n (pc := 9) (k := 1) (i := 1) G rfl rfl dX10_errs_9 ?_
    refine JW_pI (pc := 10) (k := 12) G cl_X10 in_X10 tyX10_ok nmX10 (by decide) (by decide) rfl (Or.inl rfl) rfl q1600 rfl rfl hz1 (fun _ => rfl) dX10_errs_10 ?_
    refine J_nmD (fun d3 hd3 => ?_)
    refine JR_aload_n (pc := 13) (k := 0) (i := 0) (o := some this) G rfl rfl dX10_errs_13 ?_
    refine JR_aload_n (pc := 14) (k := 0) (i := 0) (o := some this) G rfl rfl dX10_errs_14 ?_
    refine JR_gI (pc := 15) (k := 9) G cl_X10 in_X10 (by decide) (by decide) rfl (Or.inl rfl) q1597 hz1 dX10_errs_15 ?_
    refine JW_pI (pc := 18) (k := 13) G cl_X10 in_X10 tyX10_ok nmX10 (by decide) (by decide) rfl (Or.inl rfl) rfl q1601 rfl rfl hz1 (fun _ => rfl) dX10_errs_18 ?_
    refine J_nmD (fun d4 hd4 => ?_)
    exact JR_vret (pc := 21) G hR dX10_errs_21 rfl rfl
  · exact JR_vret (pc := 7) G hR dX10_errs_7 rfl rfl

def Mo_expects (this : Nat) (p1 : Option Nat) (S : Sp) (d : Dt) : Option (Unit × Dt) :=
  (isK S 9 (some this)).bind fun z1 =>
  (Mo_is this p1 S d).bind fun r2 =>
  if r2 = 0 then
    bind2 (Mo_errs this 1 S d) fun _ d3 =>
    some ((), d3)
  else
    bind2 (Mo_advance this S d) fun _ d4 =>
    some ((), d4)
set_option maxHeartbeats 4000000 in
theorem Mo_expects_fn (this : Nat) (p1 : Option Nat) (S : Sp) (d : Dt) : Fn yX10_expects (ws_ yX10_expects cX10_expects 2 none) 5 108 [va_rf (some this), va_rf p1] S d rvU Λw (Mo_expects this p1 S d) := by
  refine Fn.ofJ (own := RX10) (lv := [(0, va_rf (some this)), (1, va_rf p1)]) (by decide +kernel) rfl (by simp [cat_i, cat_l, cat_f, cat_d, rf_cat]) (by simp [lv_args, cat_i, cat_l, cat_f, cat_d, rf_cat]) ?_
  intro X F G hRm hR hI
  unfold Mo_expects
  refine JR_aload_n (pc := 0) (k := 0) (i := 0) (o := some this) G rfl rfl dX10_expects_0 ?_
  refine JR_aload_n (pc := 1) (k := 1) (i := 1) (o := p1) G rfl rfl dX10_expects_1 ?_
  refine J_bd (fun z1 hz1 => ?_)
  refine JPV_I (pc := 2) (as := [va_rf p1]) (st' := []) (o := some this) G (Mo_is_fn this p1 S d) (JC_V (n := 1) G hRm cl_X10 q1840 q1842 qs65 q152 q1843 ⟨rfl, dd_X10_is⟩ ⟨by decide, by decide⟩ dX10_expects_2 hz1 rfl (Nat.le_of_ble_eq_true rfl)) rfl (fun r2 hr2 => ?_)
  refine JR_if_eq (pc := 5) (tgt := 15) G dX10_expects_5 (by decide) (fun c5 => ?_) (fun c5 => ?_)
  · refine JR_aload_n (pc := 15) (k := 0) (i := 0) (o := some this) G rfl rfl dX10_expects_15 ?_
    refine JR_iconst (pc := 16) G ci_1 dX10_expects_16 ?_
    refine JQV_U (pc := 17) (as := [.int 1]) (st' := []) (o := some this) G (Mo_errs_fn this 1 S d) (JC_V (n := 1) G hRm cl_X10 q1855 q1857 qs68 q152 q1858 ⟨rfl, dd_X10_errs⟩ ⟨by decide, by decide⟩ dX10_expects_17 hz1 rfl (Nat.le_of_ble_eq_true rfl)) rfl (fun _ _ => rfl) (fun _ d3 hd3 => ?_)
    exact JR_vret (pc := 20) G hR dX10_expects_20 rfl rfl
  · refine JR_aload_n (pc := 8) (k := 0) (i := 0) (o := some this) G rfl rfl dX10_expects_8 ?_
    refine JQV_U (pc := 9) (as := []) (st' := []) (o := some this) G (Mo_advance_fn this S d) (JC_V (n := 0) G hRm cl_X10 q1805 q1807 qs60 q152 q1808 ⟨rfl, dd_X10_advance⟩ ⟨by decide, by decide⟩ dX10_expects_9 hz1 rfl (Nat.le_of_ble_eq_true rfl)) rfl (fun _ _ => rfl) (fun _ d4 hd4 => ?_)
    refine JR_goto (pc := 12) (tgt := 20) G dX10_expects_12 (by decide) ?_
    exact JR_vret (pc := 20) G hR dX10_expects_20 rfl rfl

def Mo_takes_b47 (this : Nat) (p1 : Int32) (p2 : Int32) (S : Sp) (d : Dt) : Option (Int32 × Dt) :=
  (isK S 9 (some this)).bind fun z12 =>
  (Mo_good this S d).bind fun r13 =>
  if ¬ r13 = 0 then
    (some (d.1 z12 11)).bind fun x14 =>
    bind2 (Mo_advance this S d) fun _ d15 =>
    some (x14, d15)
  else
    some (0, d)
def Mo_takes_b20 (this : Nat) (p1 : Int32) (p2 : Int32) (S : Sp) (d : Dt) : Option (Int32 × Dt) :=
  (isK S 9 (some this)).bind fun z6 =>
  (Mo_good this S d).bind fun r7 =>
  if r7 = 0 then
    Mo_takes_b47 this p1 p2 S d
  else
    (Mo_in (Int32.toInt64 (d.1 z6 11)) (Int32.toInt64 p1) (Int32.toInt64 p2) S d).bind fun r8 =>
    if ¬ r8 = 0 then
      Mo_takes_b47 this p1 p2 S d
    else
      bind2 (Mo_errs this 2 S d) fun _ d9 =>
      Mo_takes_b47 this p1 p2 S d9
def Mo_takes (this : Nat) (p1 : Int32) (p2 : Int32) (S : Sp) (d : Dt) : Option (Int32 × Dt) :=
  (isK S 9 (some this)).bind fun z1 =>
  (Mo_good this S d).bind fun r2 =>
  if r2 = 0 then
    Mo_takes_b20 this p1 p2 S d
  else
    if (d.1 z1 10) = 2 then
      Mo_takes_b20 this p1 p2 S d
    else
      bind2 (Mo_errs this 1 S d) fun _ d3 =>
      Mo_takes_b20 this p1 p2 S d3
set_option maxHeartbeats 4000000 in
theorem Mo_takes_fn (this : Nat) (p1 : Int32) (p2 : Int32) (S : Sp) (d : Dt) : Fn yX10_takes (ws_ yX10_takes cX10_takes 4 (some .int)) 2 46 [va_rf (some this), .int p1, .int p2] S d rvI Λw (Mo_takes this p1 p2 S d) := by
  refine Fn.ofJ (own := RX10) (lv := [(0, va_rf (some this)), (1, .int p1), (2, .int p2)]) (by decide +kernel) rfl (by simp [cat_i, cat_l, cat_f, cat_d, rf_cat]) (by simp [lv_args, cat_i, cat_l, cat_f, cat_d, rf_cat]) ?_
  intro X F G hRm hR hI
  have hMo_takes_b47 : ∀ (d : Dt), J X F Λw S d 47 [(0, va_rf (some this)), (1, .int p1), (2, .int p2)] [] (Mo_takes_b47 this p1 p2 S d) := by
    intro d
    unfold Mo_takes_b47
    refine JR_aload_n (pc := 47) (k := 0) (i := 0) (o := some this) G rfl rfl dX10_takes_47 ?_
    refine J_bd (fun z12 hz12 => ?_)
    refine JPV_I (pc := 48) (as := []) (st' := []) (o := some this) G (Mo_good_fn this S d) (JC_V (n := 0) G hRm cl_X10 q1819 q1821 qs62 q152 q1822 ⟨rfl, dd_X10_good⟩ ⟨by decide, by decide⟩ dX10_takes_48 hz12 rfl (Nat.le_of_ble_eq_true rfl)) rfl (fun r13 hr13 => ?_)
    refine JR_if_ne (pc := 51) (tgt := 56) G dX10_takes_51 (by decide) (fun c16 => ?_) (fun c16 => ?_)
    · refine JR_aload_n (pc := 56) (k := 0) (i := 0) (o := some this) G rfl rfl dX10_takes_56 ?_
      refine JR_gI (pc := 57) (k := 11) G cl_X10 in_X10 (by decide) (by decide) rfl (Or.inl rfl) q1599 hz12 dX10_takes_57 ?_
      refine J_nm (fun x14 hx14 => ?_)
      refine JR_istore_n (pc := 60) (k := 3) (i := 3) (lv' := [(3, .int x14), (0, va_rf (some this)), (1, .int p1), (2, .int p2)]) G rfl (by decide) rfl dX10_takes_60 ?_
      refine JR_aload_n (pc := 61) (k := 0) (i := 0) (o := some this) G rfl rfl dX10_takes_61 ?_
      refine JQV_U (pc := 62) (as := []) (st' := []) (o := some this) G (Mo_advance_fn this S d) (JC_V (n := 0) G hRm cl_X10 q1805 q1807 qs60 q152 q1808 ⟨rfl, dd_X10_advance⟩ ⟨by decide, by decide⟩ dX10_takes_62 hz12 rfl (Nat.le_of_ble_eq_true rfl)) rfl (fun _ _ => rfl) (fun _ d15 hd15 => ?_)
      refine JR_iload_n (pc := 65) (k := 3) (i := 3) G rfl rfl dX10_takes_65 ?_
      exact JR_iret (pc := 66) G hR dX10_takes_66 rfl rfl
    · refine JR_iconst (pc := 54) G ci_0 dX10_takes_54 ?_
      exact JR_iret (pc := 55) G hR dX10_takes_55 rfl rfl
  have hMo_takes_b20 : ∀ (d : Dt), J X F Λw S d 20 [(0, va_rf (some this)), (1, .int p1), (2, .int p2)] [] (Mo_takes_b20 this p1 p2 S d) := by
    intro d
    unfold Mo_takes_b20
    refine JR_aload_n (pc := 20) (k := 0) (i := 0) (o := some this) G rfl rfl dX10_takes_20 ?_
    refine J_bd (fun z6 hz6 => ?_)
    refine JPV_I (pc := 21) (as := []) (st' := []) (o := some this) G (Mo_good_fn this S d) (JC_V (n := 0) G hRm cl_X10 q1819 q1821 qs62 q152 q1822 ⟨rfl, dd_X10_good⟩ ⟨by decide, by decide⟩ dX10_takes_21 hz6 rfl (Nat.le_of_ble_eq_true rfl)) rfl (fun r7 hr7 => ?_)
    refine JR_if_eq (pc := 24) (tgt := 47) G dX10_takes_24 (by decide) (fun c11 => ?_) (fun c11 => ?_)
    · exact hMo_takes_b47 d
    · refine JR_aload_n (pc := 27) (k := 0) (i := 0) (o := some this) G rfl rfl dX10_takes_27 ?_
      refine JR_gI (pc := 28) (k := 11) G cl_X10 in_X10 (by decide) (by decide) rfl (Or.inl rfl) q1599 hz6 dX10_takes_28 ?_
      refine JR_i2l (pc := 31) G dX10_takes_31 ?_
      refine JR_iload_n (pc := 32) (k := 1) (i := 1) G rfl rfl dX10_takes_32 ?_
      refine JR_i2l (pc := 33) G dX10_takes_33 ?_
      refine JR_iload_n (pc := 34) (k := 2) (i := 2) G rfl rfl dX10_takes_34 ?_
      refine JR_i2l (pc := 35) G dX10_takes_35 ?_
      refine JPS_I (pc := 36) (as := [.long (Int32.toInt64 (d.1 z6 11)), .long (Int32.toInt64 p1), .long (Int32.toInt64 p2)]) (st' := []) G (Mo_in_fn (Int32.toInt64 (d.1 z6 11)) (Int32.toInt64 p1) (Int32.toInt64 p2) S d) (JC_S (n := 3) G hRm q1782 q1783 q152 q1784 dd_X10_in ⟨by decide, by decide⟩ dX10_takes_36 rfl (Nat.le_of_ble_eq_true rfl)) rfl (fun r8 hr8 => ?_)
      refine JR_if_ne (pc := 39) (tgt := 47) G dX10_takes_39 (by decide) (fun c10 => ?_) (fun c10 => ?_)
      · exact hMo_takes_b47 d
      · refine JR_aload_n (pc := 42) (k := 0) (i := 0) (o := some this) G rfl rfl dX10_takes_42 ?_
        refine JR_iconst (pc := 43) G ci_2 dX10_takes_43 ?_
        refine JQV_U (pc := 44) (as := [.int 2]) (st' := []) (o := some this) G (Mo_errs_fn this 2 S d) (JC_V (n := 1) G hRm cl_X10 q1855 q1857 qs68 q152 q1858 ⟨rfl, dd_X10_errs⟩ ⟨by decide, by decide⟩ dX10_takes_44 hz6 rfl (Nat.le_of_ble_eq_true rfl)) rfl (fun _ _ => rfl) (fun _ d9 hd9 => ?_)
        exact hMo_takes_b47 d9
  unfold Mo_takes
  refine JR_aload_n (pc := 0) (k := 0) (i := 0) (o := some this) G rfl rfl dX10_takes_0 ?_
  refine J_bd (fun z1 hz1 => ?_)
  refine JPV_I (pc := 1) (as := []) (st' := []) (o := some this) G (Mo_good_fn this S d) (JC_V (n := 0) G hRm cl_X10 q1819 q1821 qs62 q152 q1822 ⟨rfl, dd_X10_good⟩ ⟨by decide, by decide⟩ dX10_takes_1 hz1 rfl (Nat.le_of_ble_eq_true rfl)) rfl (fun r2 hr2 => ?_)
  refine JR_if_eq (pc := 4) (tgt := 20) G dX10_takes_4 (by decide) (fun c5 => ?_) (fun c5 => ?_)
  · exact hMo_takes_b20 d
  · refine JR_aload_n (pc := 7) (k := 0) (i := 0) (o := some this) G rfl rfl dX10_takes_7 ?_
    refine JR_gI (pc := 8) (k := 10) G cl_X10 in_X10 (by decide) (by decide) rfl (Or.inl rfl) q1598 hz1 dX10_takes_8 ?_
    refine JR_iconst (pc := 11) G ci_2 dX10_takes_11 ?_
    refine JR_icmp_eq (pc := 12) (tgt := 20) G dX10_takes_12 (by decide) (fun c4 => ?_) (fun c4 => ?_)
    · exact hMo_takes_b20 d
    · refine JR_aload_n (pc := 15) (k := 0) (i := 0) (o := some this) G rfl rfl dX10_takes_15 ?_
      refine JR_iconst (pc := 16) G ci_1 dX10_takes_16 ?_
      refine JQV_U (pc := 17) (as := [.int 1]) (st' := []) (o := some this) G (Mo_errs_fn this 1 S d) (JC_V (n := 1) G hRm cl_X10 q1855 q1857 qs68 q152 q1858 ⟨rfl, dd_X10_errs⟩ ⟨by decide, by decide⟩ dX10_takes_17 hz1 rfl (Nat.le_of_ble_eq_true rfl)) rfl (fun _ _ => rfl) (fun _ d3 hd3 => ?_)
      exact hMo_takes_b20 d3

def Mo_toldBy (this : Nat) (p1 : Option Nat) (p2 : Int32) (p3 : Int32) (S : Sp) (d : Dt) : Option (Int32 × Dt) :=
  (isK S 9 (some this)).bind fun z1 =>
  bind2 (Mo_expects this p1 S d) fun _ d2 =>
  bind2 (Mo_takes this p2 p3 S d2) fun r3 d4 =>
  some (r3, d4)
set_option maxHeartbeats 4000000 in
theorem Mo_toldBy_fn (this : Nat) (p1 : Option Nat) (p2 : Int32) (p3 : Int32) (S : Sp) (d : Dt) : Fn yX10_toldBy (ws_ yX10_toldBy cX10_toldBy 4 (some .int)) 6 129 [va_rf (some this), va_rf p1, .int p2, .int p3] S d rvI Λw (Mo_toldBy this p1 p2 p3 S d) := by
  refine Fn.ofJ (own := RX10) (lv := [(0, va_rf (some this)), (1, va_rf p1), (2, .int p2), (3, .int p3)]) (by decide +kernel) rfl (by simp [cat_i, cat_l, cat_f, cat_d, rf_cat]) (by simp [lv_args, cat_i, cat_l, cat_f, cat_d, rf_cat]) ?_
  intro X F G hRm hR hI
  unfold Mo_toldBy
  refine JR_aload_n (pc := 0) (k := 0) (i := 0) (o := some this) G rfl rfl dX10_toldBy_0 ?_
  refine JR_aload_n (pc := 1) (k := 1) (i := 1) (o := p1) G rfl rfl dX10_toldBy_1 ?_
  refine J_bd (fun z1 hz1 => ?_)
  refine JQV_U (pc := 2) (as := [va_rf p1]) (st' := []) (o := some this) G (Mo_expects_fn this p1 S d) (JC_V (n := 1) G hRm cl_X10 q1851 q1853 qs67 q152 q1854 ⟨rfl, dd_X10_expects⟩ ⟨by decide, by decide⟩ dX10_toldBy_2 hz1 rfl (Nat.le_of_ble_eq_true rfl)) rfl (fun _ _ => rfl) (fun _ d2 hd2 => ?_)
  refine JR_aload_n (pc := 5) (k := 0) (i := 0) (o := some this) G rfl rfl dX10_toldBy_5 ?_
  refine JR_iload_n (pc := 6) (k := 2) (i := 2) G rfl rfl dX10_toldBy_6 ?_
  refine JR_iload_n (pc := 7) (k := 3) (i := 3) G rfl rfl dX10_toldBy_7 ?_
  refine JQV_I (pc := 8) (as := [.int p2, .int p3]) (st' := []) (o := some this) G (Mo_takes_fn this p2 p3 S d2) (JC_V (n := 2) G hRm cl_X10 q1864 q1866 qs70 q152 q1867 ⟨rfl, dd_X10_takes⟩ ⟨by decide, by decide⟩ dX10_toldBy_8 hz1 rfl (Nat.le_of_ble_eq_true rfl)) rfl (fun _ _ => rfl) (fun r3 d4 hd4 => ?_)
  exact JR_iret (pc := 11) G hR dX10_toldBy_11 rfl rfl

def Mo_readBoard (this : Nat) (S : Sp) (d : Dt) : Option (Unit × Dt) :=
  (isK S 9 (some this)).bind fun z1 =>
  bind2 (Mo_expects this (some (OPQ + 6)) S d) fun _ d2 =>
  bind2 (Mo_toldBy this (some (OPQ + 7)) 20 200 S d2) fun r3 d4 =>
  (aix S 50 (S.2.1 z1 14) 0).bind fun q5 =>
  (some (dI d4 q5.1 q5.2 r3)).bind fun d6 =>
  bind2 (Mo_toldBy this (some (OPQ + 8)) 5 50 S d6) fun r7 d8 =>
  (aix S 50 (S.2.1 z1 14) 1).bind fun q9 =>
  (some (dI d8 q9.1 q9.2 r7)).bind fun d10 =>
  bind2 (Mo_toldBy this (some (OPQ + 9)) 0 9 S d10) fun r11 d12 =>
  (aix S 50 (S.2.1 z1 14) 2).bind fun q13 =>
  (some (dI d12 q13.1 q13.2 r11)).bind fun d14 =>
  some ((), d14)
set_option maxHeartbeats 4000000 in
theorem Mo_readBoard_fn (this : Nat) (S : Sp) (d : Dt) : Fn yX10_readBoard (ws_ yX10_readBoard cX10_readBoard 1 none) 7 152 [va_rf (some this)] S d rvU Λw (Mo_readBoard this S d) := by
  refine Fn.ofJ (own := RX10) (lv := [(0, va_rf (some this))]) (by decide +kernel) rfl (by simp [cat_i, cat_l, cat_f, cat_d, rf_cat]) (by simp [lv_args, cat_i, cat_l, cat_f, cat_d, rf_cat]) ?_
  intro X F G hRm hR hI
  unfold Mo_readBoard
  refine JR_aload_n (pc := 0) (k := 0) (i := 0) (o := some this) G rfl rfl dX10_readBoard_0 ?_
  refine JR_ldcSM (pc := 1) (i := 231) (j := 6) G (by decide) (by decide) dX10_readBoard_1 ?_
  refine J_bd (fun z1 hz1 => ?_)
  refine JQV_U (pc := 3) (as := [va_rf (some (OPQ + 6))]) (st' := []) (o := some this) G (Mo_expects_fn this (some (OPQ + 6)) S d) (JC_V (n := 1) G hRm cl_X10 q1851 q1853 qs67 q152 q1854 ⟨rfl, dd_X10_expects⟩ ⟨by decide, by decide⟩ dX10_readBoard_3 hz1 rfl (Nat.le_of_ble_eq_true rfl)) rfl (fun _ _ => rfl) (fun _ d2 hd2 => ?_)
  refine JR_aload_n (pc := 6) (k := 0) (i := 0) (o := some this) G rfl rfl dX10_readBoard_6 ?_
  refine JR_gR (pc := 7) (k := 14) G cl_X10 in_X10 (by decide) (by decide) rfl (Or.inl rfl) q1602 hz1 dX10_readBoard_7 ?_
  refine JR_iconst (pc := 10) G ci_0 dX10_readBoard_10 ?_
  refine JR_aload_n (pc := 11) (k := 0) (i := 0) (o := some this) G rfl rfl dX10_readBoard_11 ?_
  refine JR_ldcSM (pc := 12) (i := 233) (j := 7) G (by decide) (by decide) dX10_readBoard_12 ?_
  refine JR_bipush (pc := 14) (v := 20) G (by decide) dX10_readBoard_14 ?_
  refine JR_sipush (pc := 16) (v := 200) G (by decide) dX10_readBoard_16 ?_
  refine JQV_I (pc := 19) (as := [va_rf (some (OPQ + 7)), .int 20, .int 200]) (st' := [.int 0, va_rf (S.2.1 z1 14)]) (o := some this) G (Mo_toldBy_fn this (some (OPQ + 7)) 20 200 S d2) (JC_V (n := 3) G hRm cl_X10 q1860 q1862 qs69 q152 q1863 ⟨rfl, dd_X10_toldBy⟩ ⟨by decide, by decide⟩ dX10_readBoard_19 hz1 rfl (Nat.le_of_ble_eq_true rfl)) rfl (fun _ _ => rfl) (fun r3 d4 hd4 => ?_)
  refine J_bd (fun q5 hq5 => ?_)
  refine JW_iastore (pc := 22) G hq5 (fun _ => rfl) dX10_readBoard_22 ?_
  refine J_nmD (fun d6 hd6 => ?_)
  refine JR_aload_n (pc := 23) (k := 0) (i := 0) (o := some this) G rfl rfl dX10_readBoard_23 ?_
  refine JR_gR (pc := 24) (k := 14) G cl_X10 in_X10 (by decide) (by decide) rfl (Or.inl rfl) q1602 hz1 dX10_readBoard_24 ?_
  refine JR_iconst (pc := 27) G ci_1 dX10_readBoard_27 ?_
  refine JR_aload_n (pc := 28) (k := 0) (i := 0) (o := some this) G rfl rfl dX10_readBoard_28 ?_
  refine JR_ldcSM (pc := 29) (i := 239) (j := 8) G (by decide) (by decide) dX10_readBoard_29 ?_
  refine JR_iconst (pc := 31) G ci_5 dX10_readBoard_31 ?_
  refine JR_bipush (pc := 32) (v := 50) G (by decide) dX10_readBoard_32 ?_
  refine JQV_I (pc := 34) (as := [va_rf (some (OPQ + 8)), .int 5, .int 50]) (st' := [.int 1, va_rf (S.2.1 z1 14)]) (o := some this) G (Mo_toldBy_fn this (some (OPQ + 8)) 5 50 S d6) (JC_V (n := 3) G hRm cl_X10 q1860 q1862 qs69 q152 q1863 ⟨rfl, dd_X10_toldBy⟩ ⟨by decide, by decide⟩ dX10_readBoard_34 hz1 rfl (Nat.le_of_ble_eq_true rfl)) rfl (fun _ _ => rfl) (fun r7 d8 hd8 => ?_)
  refine J_bd (fun q9 hq9 => ?_)
  refine JW_iastore (pc := 37) G hq9 (fun _ => rfl) dX10_readBoard_37 ?_
  refine J_nmD (fun d10 hd10 => ?_)
  refine JR_aload_n (pc := 38) (k := 0) (i := 0) (o := some this) G rfl rfl dX10_readBoard_38 ?_
  refine JR_gR (pc := 39) (k := 14) G cl_X10 in_X10 (by decide) (by decide) rfl (Or.inl rfl) q1602 hz1 dX10_readBoard_39 ?_
  refine JR_iconst (pc := 42) G ci_2 dX10_readBoard_42 ?_
  refine JR_aload_n (pc := 43) (k := 0) (i := 0) (o := some this) G rfl rfl dX10_readBoard_43 ?_
  refine JR_ldcSM (pc := 44) (i := 241) (j := 9) G (by decide) (by decide) dX10_readBoard_44 ?_
  refine JR_iconst (pc := 46) G ci_0 dX10_readBoard_46 ?_
  refine JR_bipush (pc := 47) (v := 9) G (by decide) dX10_readBoard_47 ?_
  refine JQV_I (pc := 49) (as := [va_rf (some (OPQ + 9)), .int 0, .int 9]) (st' := [.int 2, va_rf (S.2.1 z1 14)]) (o := some this) G (Mo_toldBy_fn this (some (OPQ + 9)) 0 9 S d10) (JC_V (n := 3) G hRm cl_X10 q1860 q1862 qs69 q152 q1863 ⟨rfl, dd_X10_toldBy⟩ ⟨by decide, by decide⟩ dX10_readBoard_49 hz1 rfl (Nat.le_of_ble_eq_true rfl)) rfl (fun _ _ => rfl) (fun r11 d12 hd12 => ?_)
  refine J_bd (fun q13 hq13 => ?_)
  refine JW_iastore (pc := 52) G hq13 (fun _ => rfl) dX10_readBoard_52 ?_
  refine J_nmD (fun d14 hd14 => ?_)
  exact JR_vret (pc := 53) G hR dX10_readBoard_53 rfl rfl

def Mo_canTake_b33 (this : Nat) (p1 : Int32) (p2 : Int32) (S : Sp) (d : Dt) : Option (Int32 × Dt) :=
  (isK S 9 (some this)).bind fun z11 =>
  (Mo_good this S d).bind fun r12 =>
  (gb r12).bind fun b13 =>
  some (b13, d)
def Mo_canTake_b22 (this : Nat) (p1 : Int32) (p2 : Int32) (S : Sp) (d : Dt) : Option (Int32 × Dt) :=
  (isK S 9 (some this)).bind fun z7 =>
  (Mo_good this S d).bind fun r8 =>
  if r8 = 0 then
    Mo_canTake_b33 this p1 p2 S d
  else
    bind2 (Mo_advance this S d) fun _ d9 =>
    Mo_canTake_b33 this p1 p2 S d9
def Mo_canTake (this : Nat) (p1 : Int32) (p2 : Int32) (S : Sp) (d : Dt) : Option (Int32 × Dt) :=
  (isK S 9 (some this)).bind fun z1 =>
  (Mo_good this S d).bind fun r2 =>
  if r2 = 0 then
    Mo_canTake_b22 this p1 p2 S d
  else
    (aix S 50 (S.2.1 z1 14) p1).bind fun q3 =>
    if ¬ (d.1 q3.1 q3.2) = p2 then
      Mo_canTake_b22 this p1 p2 S d
    else
      bind2 (Mo_errs this 3 S d) fun _ d4 =>
      Mo_canTake_b22 this p1 p2 S d4
set_option maxHeartbeats 4000000 in
theorem Mo_canTake_fn (this : Nat) (p1 : Int32) (p2 : Int32) (S : Sp) (d : Dt) : Fn yX10_canTake (ws_ yX10_canTake cX10_canTake 3 (some .boolean)) 2 46 [va_rf (some this), .int p1, .int p2] S d rvI Λw (Mo_canTake this p1 p2 S d) := by
  refine Fn.ofJ (own := RX10) (lv := [(0, va_rf (some this)), (1, .int p1), (2, .int p2)]) (by decide +kernel) rfl (by simp [cat_i, cat_l, cat_f, cat_d, rf_cat]) (by simp [lv_args, cat_i, cat_l, cat_f, cat_d, rf_cat]) ?_
  intro X F G hRm hR hI
  have hMo_canTake_b33 : ∀ (d : Dt), J X F Λw S d 33 [(0, va_rf (some this)), (1, .int p1), (2, .int p2)] [] (Mo_canTake_b33 this p1 p2 S d) := by
    intro d
    unfold Mo_canTake_b33
    refine JR_aload_n (pc := 33) (k := 0) (i := 0) (o := some this) G rfl rfl dX10_canTake_33 ?_
    refine J_bd (fun z11 hz11 => ?_)
    refine JPV_I (pc := 34) (as := []) (st' := []) (o := some this) G (Mo_good_fn this S d) (JC_V (n := 0) G hRm cl_X10 q1819 q1821 qs62 q152 q1822 ⟨rfl, dd_X10_good⟩ ⟨by decide, by decide⟩ dX10_canTake_34 hz11 rfl (Nat.le_of_ble_eq_true rfl)) rfl (fun r12 hr12 => ?_)
    refine J_bd (fun b13 hb13 => ?_)
    refine J_stk (st' := [.int b13]) (by rw [(gb_at hb13).1]) ?_
    exact JR_zret (pc := 37) G hR dX10_canTake_37 (by have h9 := gb_at hb13; rw [h9.1]; exact h9.2) rfl rfl
  have hMo_canTake_b22 : ∀ (d : Dt), J X F Λw S d 22 [(0, va_rf (some this)), (1, .int p1), (2, .int p2)] [] (Mo_canTake_b22 this p1 p2 S d) := by
    intro d
    unfold Mo_canTake_b22
    refine JR_aload_n (pc := 22) (k := 0) (i := 0) (o := some this) G rfl rfl dX10_canTake_22 ?_
    refine J_bd (fun z7 hz7 => ?_)
    refine JPV_I (pc := 23) (as := []) (st' := []) (o := some this) G (Mo_good_fn this S d) (JC_V (n := 0) G hRm cl_X10 q1819 q1821 qs62 q152 q1822 ⟨rfl, dd_X10_good⟩ ⟨by decide, by decide⟩ dX10_canTake_23 hz7 rfl (Nat.le_of_ble_eq_true rfl)) rfl (fun r8 hr8 => ?_)
    refine JR_if_eq (pc := 26) (tgt := 33) G dX10_canTake_26 (by decide) (fun c10 => ?_) (fun c10 => ?_)
    · exact hMo_canTake_b33 d
    · refine JR_aload_n (pc := 29) (k := 0) (i := 0) (o := some this) G rfl rfl dX10_canTake_29 ?_
      refine JQV_U (pc := 30) (as := []) (st' := []) (o := some this) G (Mo_advance_fn this S d) (JC_V (n := 0) G hRm cl_X10 q1805 q1807 qs60 q152 q1808 ⟨rfl, dd_X10_advance⟩ ⟨by decide, by decide⟩ dX10_canTake_30 hz7 rfl (Nat.le_of_ble_eq_true rfl)) rfl (fun _ _ => rfl) (fun _ d9 hd9 => ?_)
      exact hMo_canTake_b33 d9
  unfold Mo_canTake
  refine JR_aload_n (pc := 0) (k := 0) (i := 0) (o := some this) G rfl rfl dX10_canTake_0 ?_
  refine J_bd (fun z1 hz1 => ?_)
  refine JPV_I (pc := 1) (as := []) (st' := []) (o := some this) G (Mo_good_fn this S d) (JC_V (n := 0) G hRm cl_X10 q1819 q1821 qs62 q152 q1822 ⟨rfl, dd_X10_good⟩ ⟨by decide, by decide⟩ dX10_canTake_1 hz1 rfl (Nat.le_of_ble_eq_true rfl)) rfl (fun r2 hr2 => ?_)
  refine JR_if_eq (pc := 4) (tgt := 22) G dX10_canTake_4 (by decide) (fun c6 => ?_) (fun c6 => ?_)
  · exact hMo_canTake_b22 d
  · refine JR_aload_n (pc := 7) (k := 0) (i := 0) (o := some this) G rfl rfl dX10_canTake_7 ?_
    refine JR_gR (pc := 8) (k := 14) G cl_X10 in_X10 (by decide) (by decide) rfl (Or.inl rfl) q1602 hz1 dX10_canTake_8 ?_
    refine JR_iload_n (pc := 11) (k := 1) (i := 1) G rfl rfl dX10_canTake_11 ?_
    refine J_bd (fun q3 hq3 => ?_)
    refine JR_iaload (pc := 12) G hq3 dX10_canTake_12 ?_
    refine JR_iload_n (pc := 13) (k := 2) (i := 2) G rfl rfl dX10_canTake_13 ?_
    refine JR_icmp_ne (pc := 14) (tgt := 22) G dX10_canTake_14 (by decide) (fun c5 => ?_) (fun c5 => ?_)
    · exact hMo_canTake_b22 d
    · refine JR_aload_n (pc := 17) (k := 0) (i := 0) (o := some this) G rfl rfl dX10_canTake_17 ?_
      refine JR_iconst (pc := 18) G ci_3 dX10_canTake_18 ?_
      refine JQV_U (pc := 19) (as := [.int 3]) (st' := []) (o := some this) G (Mo_errs_fn this 3 S d) (JC_V (n := 1) G hRm cl_X10 q1855 q1857 qs68 q152 q1858 ⟨rfl, dd_X10_errs⟩ ⟨by decide, by decide⟩ dX10_canTake_19 hz1 rfl (Nat.le_of_ble_eq_true rfl)) rfl (fun _ _ => rfl) (fun _ d4 hd4 => ?_)
      exact hMo_canTake_b22 d4

def Mo_readWatcher_b46 (this : Nat) (S : Sp) (v1 : Int32) (d : Dt) : Option (Unit × Dt) :=
  (isK S 9 (some this)).bind fun z10 =>
  (aix S 50 (S.2.1 z10 14) 3).bind fun q11 =>
  (aix S 50 (S.2.1 z10 14) (8 + (d.1 q11.1 q11.2))).bind fun q12 =>
  (some (dI d q12.1 q12.2 v1)).bind fun d13 =>
  (some (dI d13 q11.1 q11.2 ((d13.1 q11.1 q11.2) + 1))).bind fun d14 =>
  some ((), d14)
def Mo_readWatcher (this : Nat) (S : Sp) (d : Dt) : Option (Unit × Dt) :=
  (isK S 9 (some this)).bind fun z1 =>
  bind2 (Mo_canTake this 3 3 S d) fun r2 d3 =>
  if ¬ r2 = 0 then
    (aix S 50 (S.2.1 z1 14) 3).bind fun q4 =>
    if ¬ (d3.1 q4.1 q4.2) = 0 then
      bind2 (Mo_toldBy this (some (OPQ + 12)) 0 ((d3.1 q4.1 q4.2) - 1) S d3) fun r5 d6 =>
      Mo_readWatcher_b46 this S r5 d6
    else
      bind2 (Mo_expects this (some (OPQ + 11)) S d3) fun _ d7 =>
      Mo_readWatcher_b46 this S ((-1)) d7
  else
    some ((), d3)
set_option maxHeartbeats 4000000 in
theorem Mo_readWatcher_fn (this : Nat) (S : Sp) (d : Dt) : Fn yX10_readWatcher (ws_ yX10_readWatcher cX10_readWatcher 2 none) 7 152 [va_rf (some this)] S d rvU Λw (Mo_readWatcher this S d) := by
  refine Fn.ofJ (own := RX10) (lv := [(0, va_rf (some this))]) (by decide +kernel) rfl (by simp [cat_i, cat_l, cat_f, cat_d, rf_cat]) (by simp [lv_args, cat_i, cat_l, cat_f, cat_d, rf_cat]) ?_
  intro X F G hRm hR hI
  have hMo_readWatcher_b46 : ∀ (v1 : Int32) (d : Dt), J X F Λw S d 46 [(0, va_rf (some this)), (1, .int v1)] [] (Mo_readWatcher_b46 this S v1 d) := by
    intro v1 d
    unfold Mo_readWatcher_b46
    refine JR_aload_n (pc := 46) (k := 0) (i := 0) (o := some this) G rfl rfl dX10_readWatcher_46 ?_
    refine J_bd (fun z10 hz10 => ?_)
    refine JR_gR (pc := 47) (k := 14) G cl_X10 in_X10 (by decide) (by decide) rfl (Or.inl rfl) q1602 hz10 dX10_readWatcher_47 ?_
    refine JR_bipush (pc := 50) (v := 8) G (by decide) dX10_readWatcher_50 ?_
    refine JR_aload_n (pc := 52) (k := 0) (i := 0) (o := some this) G rfl rfl dX10_readWatcher_52 ?_
    refine JR_gR (pc := 53) (k := 14) G cl_X10 in_X10 (by decide) (by decide) rfl (Or.inl rfl) q1602 hz10 dX10_readWatcher_53 ?_
    refine JR_iconst (pc := 56) G ci_3 dX10_readWatcher_56 ?_
    refine J_bd (fun q11 hq11 => ?_)
    refine JR_iaload (pc := 57) G hq11 dX10_readWatcher_57 ?_
    refine JR_iadd (pc := 58) G dX10_readWatcher_58 ?_
    refine JR_iload_n (pc := 59) (k := 1) (i := 1) G rfl rfl dX10_readWatcher_59 ?_
    refine J_bd (fun q12 hq12 => ?_)
    refine JW_iastore (pc := 60) G hq12 (fun _ => rfl) dX10_readWatcher_60 ?_
    refine J_nmD (fun d13 hd13 => ?_)
    refine JR_aload_n (pc := 61) (k := 0) (i := 0) (o := some this) G rfl rfl dX10_readWatcher_61 ?_
    refine JR_gR (pc := 62) (k := 14) G cl_X10 in_X10 (by decide) (by decide) rfl (Or.inl rfl) q1602 hz10 dX10_readWatcher_62 ?_
    refine JR_iconst (pc := 65) G ci_3 dX10_readWatcher_65 ?_
    refine JR_dup2 (pc := 66) G rfl (rf_cat _) dX10_readWatcher_66 ?_
    refine JR_iaload (pc := 67) G hq11 dX10_readWatcher_67 ?_
    refine JR_iconst (pc := 68) G ci_1 dX10_readWatcher_68 ?_
    refine JR_iadd (pc := 69) G dX10_readWatcher_69 ?_
    refine JW_iastore (pc := 70) G hq11 (fun _ => rfl) dX10_readWatcher_70 ?_
    refine J_nmD (fun d14 hd14 => ?_)
    exact JR_vret (pc := 71) G hR dX10_readWatcher_71 rfl rfl
  unfold Mo_readWatcher
  refine JR_aload_n (pc := 0) (k := 0) (i := 0) (o := some this) G rfl rfl dX10_readWatcher_0 ?_
  refine JR_iconst (pc := 1) G ci_3 dX10_readWatcher_1 ?_
  refine JR_iconst (pc := 2) G ci_3 dX10_readWatcher_2 ?_
  refine J_bd (fun z1 hz1 => ?_)
  refine JQV_I (pc := 3) (as := [.int 3, .int 3]) (st' := []) (o := some this) G (Mo_canTake_fn this 3 3 S d) (JC_V (n := 2) G hRm cl_X10 q1875 q1877 qs72 q152 q1878 ⟨rfl, dd_X10_canTake⟩ ⟨by decide, by decide⟩ dX10_readWatcher_3 hz1 rfl (Nat.le_of_ble_eq_true rfl)) rfl (fun _ _ => rfl) (fun r2 d3 hd3 => ?_)
  refine JR_if_ne (pc := 6) (tgt := 10) G dX10_readWatcher_6 (by decide) (fun c9 => ?_) (fun c9 => ?_)
  · refine JR_iconst (pc := 10) G ci_m1 dX10_readWatcher_10 ?_
    refine JR_istore_n (pc := 11) (k := 1) (i := 1) (lv' := [(1, .int ((-1))), (0, va_rf (some this))]) G rfl (by decide) rfl dX10_readWatcher_11 ?_
    refine JR_aload_n (pc := 12) (k := 0) (i := 0) (o := some this) G rfl rfl dX10_readWatcher_12 ?_
    refine JR_gR (pc := 13) (k := 14) G cl_X10 in_X10 (by decide) (by decide) rfl (Or.inl rfl) q1602 hz1 dX10_readWatcher_13 ?_
    refine JR_iconst (pc := 16) G ci_3 dX10_readWatcher_16 ?_
    refine J_bd (fun q4 hq4 => ?_)
    refine JR_iaload (pc := 17) G hq4 dX10_readWatcher_17 ?_
    refine JR_if_ne (pc := 18) (tgt := 30) G dX10_readWatcher_18 (by decide) (fun c8 => ?_) (fun c8 => ?_)
    · refine JR_aload_n (pc := 30) (k := 0) (i := 0) (o := some this) G rfl rfl dX10_readWatcher_30 ?_
      refine JR_ldcSM (pc := 31) (i := 249) (j := 12) G (by decide) (by decide) dX10_readWatcher_31 ?_
      refine JR_iconst (pc := 33) G ci_0 dX10_readWatcher_33 ?_
      refine JR_aload_n (pc := 34) (k := 0) (i := 0) (o := some this) G rfl rfl dX10_readWatcher_34 ?_
      refine JR_gR (pc := 35) (k := 14) G cl_X10 in_X10 (by decide) (by decide) rfl (Or.inl rfl) q1602 hz1 dX10_readWatcher_35 ?_
      refine JR_iconst (pc := 38) G ci_3 dX10_readWatcher_38 ?_
      refine JR_iaload (pc := 39) G hq4 dX10_readWatcher_39 ?_
      refine JR_iconst (pc := 40) G ci_1 dX10_readWatcher_40 ?_
      refine JR_isub (pc := 41) G dX10_readWatcher_41 ?_
      refine JQV_I (pc := 42) (as := [va_rf (some (OPQ + 12)), .int 0, .int ((d3.1 q4.1 q4.2) - 1)]) (st' := []) (o := some this) G (Mo_toldBy_fn this (some (OPQ + 12)) 0 ((d3.1 q4.1 q4.2) - 1) S d3) (JC_V (n := 3) G hRm cl_X10 q1860 q1862 qs69 q152 q1863 ⟨rfl, dd_X10_toldBy⟩ ⟨by decide, by decide⟩ dX10_readWatcher_42 hz1 rfl (Nat.le_of_ble_eq_true rfl)) rfl (fun _ _ => rfl) (fun r5 d6 hd6 => ?_)
      refine JR_istore_n (pc := 45) (k := 1) (i := 1) (lv' := [(1, .int r5), (0, va_rf (some this))]) G rfl (by decide) rfl dX10_readWatcher_45 ?_
      refine J_sub [1, 0] rfl ?_
      exact hMo_readWatcher_b46 r5 d6
    · refine JR_aload_n (pc := 21) (k := 0) (i := 0) (o := some this) G rfl rfl dX10_readWatcher_21 ?_
      refine JR_ldcSM (pc := 22) (i := 247) (j := 11) G (by decide) (by decide) dX10_readWatcher_22 ?_
      refine JQV_U (pc := 24) (as := [va_rf (some (OPQ + 11))]) (st' := []) (o := some this) G (Mo_expects_fn this (some (OPQ + 11)) S d3) (JC_V (n := 1) G hRm cl_X10 q1851 q1853 qs67 q152 q1854 ⟨rfl, dd_X10_expects⟩ ⟨by decide, by decide⟩ dX10_readWatcher_24 hz1 rfl (Nat.le_of_ble_eq_true rfl)) rfl (fun _ _ => rfl) (fun _ d7 hd7 => ?_)
      refine JR_goto (pc := 27) (tgt := 46) G dX10_readWatcher_27 (by decide) ?_
      refine J_sub [1, 0] rfl ?_
      exact hMo_readWatcher_b46 ((-1)) d7
  · exact JR_vret (pc := 9) G hR dX10_readWatcher_9 rfl rfl

def Mo_readTask (this : Nat) (S : Sp) (d : Dt) : Option (Unit × Dt) :=
  (isK S 9 (some this)).bind fun z1 =>
  bind2 (Mo_canTake this 4 5 S d) fun r2 d3 =>
  if ¬ r2 = 0 then
    (aix S 50 (S.2.1 z1 14) 4).bind fun q4 =>
    (some (11 + (7 * (d3.1 q4.1 q4.2)))).bind fun x5 =>
    (aix S 50 (S.2.1 z1 14) 3).bind fun q6 =>
    bind2 (Mo_toldBy this (some (OPQ + 12)) 0 ((d3.1 q6.1 q6.2) - 1) S d3) fun r7 d8 =>
    (aix S 50 (S.2.1 z1 14) x5).bind fun q9 =>
    (some (dI d8 q9.1 q9.2 r7)).bind fun d10 =>
    bind2 (Mo_toldBy this (some (OPQ + 14)) 4 60 S d10) fun r11 d12 =>
    (aix S 50 (S.2.1 z1 14) (x5 + 1)).bind fun q13 =>
    (some (dI d12 q13.1 q13.2 r11)).bind fun d14 =>
    bind2 (Mo_toldBy this (some (OPQ + 15)) 0 99 S d14) fun r15 d16 =>
    (aix S 50 (S.2.1 z1 14) (x5 + 2)).bind fun q17 =>
    (some (dI d16 q17.1 q17.2 r15)).bind fun d18 =>
    bind2 (Mo_toldBy this (some (OPQ + 16)) ((d18.1 q17.1 q17.2) + 1) 120 S d18) fun r19 d20 =>
    (aix S 50 (S.2.1 z1 14) (x5 + 3)).bind fun q21 =>
    (some (dI d20 q21.1 q21.2 r19)).bind fun d22 =>
    bind2 (Mo_toldBy this (some (OPQ + 17)) 0 20 S d22) fun r23 d24 =>
    (aix S 50 (S.2.1 z1 14) (x5 + 4)).bind fun q25 =>
    (some (dI d24 q25.1 q25.2 r23)).bind fun d26 =>
    bind2 (Mo_toldBy this (some (OPQ + 18)) (d26.1 q25.1 q25.2) 40 S d26) fun r27 d28 =>
    (aix S 50 (S.2.1 z1 14) (x5 + 5)).bind fun q29 =>
    (some (dI d28 q29.1 q29.2 r27)).bind fun d30 =>
    (some (dI d30 q4.1 q4.2 ((d30.1 q4.1 q4.2) + 1))).bind fun d31 =>
    some ((), d31)
  else
    some ((), d3)
set_option maxHeartbeats 4000000 in
theorem Mo_readTask_fn (this : Nat) (S : Sp) (d : Dt) : Fn yX10_readTask (ws_ yX10_readTask cX10_readTask 2 none) 7 152 [va_rf (some this)] S d rvU Λw (Mo_readTask this S d) := by
  refine Fn.ofJ (own := RX10) (lv := [(0, va_rf (some this))]) (by decide +kernel) rfl (by simp [cat_i, cat_l, cat_f, cat_d, rf_cat]) (by simp [lv_args, cat_i, cat_l, cat_f, cat_d, rf_cat]) ?_
  intro X F G hRm hR hI
  unfold Mo_readTask
  refine JR_aload_n (pc := 0) (k := 0) (i := 0) (o := some this) G rfl rfl dX10_readTask_0 ?_
  refine JR_iconst (pc := 1) G ci_4 dX10_readTask_1 ?_
  refine JR_iconst (pc := 2) G ci_5 dX10_readTask_2 ?_
  refine J_bd (fun z1 hz1 => ?_)
  refine JQV_I (pc := 3) (as := [.int 4, .int 5]) (st' := []) (o := some this) G (Mo_canTake_fn this 4 5 S d) (JC_V (n := 2) G hRm cl_X10 q1875 q1877 qs72 q152 q1878 ⟨rfl, dd_X10_canTake⟩ ⟨by decide, by decide⟩ dX10_readTask_3 hz1 rfl (Nat.le_of_ble_eq_true rfl)) rfl (fun _ _ => rfl) (fun r2 d3 hd3 => ?_)
  refine JR_if_ne (pc := 6) (tgt := 10) G dX10_readTask_6 (by decide) (fun c32 => ?_) (fun c32 => ?_)
  · refine JR_bipush (pc := 10) (v := 11) G (by decide) dX10_readTask_10 ?_
    refine JR_bipush (pc := 12) (v := 7) G (by decide) dX10_readTask_12 ?_
    refine JR_aload_n (pc := 14) (k := 0) (i := 0) (o := some this) G rfl rfl dX10_readTask_14 ?_
    refine JR_gR (pc := 15) (k := 14) G cl_X10 in_X10 (by decide) (by decide) rfl (Or.inl rfl) q1602 hz1 dX10_readTask_15 ?_
    refine JR_iconst (pc := 18) G ci_4 dX10_readTask_18 ?_
    refine J_bd (fun q4 hq4 => ?_)
    refine JR_iaload (pc := 19) G hq4 dX10_readTask_19 ?_
    refine JR_imul (pc := 20) G dX10_readTask_20 ?_
    refine JR_iadd (pc := 21) G dX10_readTask_21 ?_
    refine J_nm (fun x5 hx5 => ?_)
    refine JR_istore_n (pc := 22) (k := 1) (i := 1) (lv' := [(1, .int x5), (0, va_rf (some this))]) G rfl (by decide) rfl dX10_readTask_22 ?_
    refine JR_aload_n (pc := 23) (k := 0) (i := 0) (o := some this) G rfl rfl dX10_readTask_23 ?_
    refine JR_gR (pc := 24) (k := 14) G cl_X10 in_X10 (by decide) (by decide) rfl (Or.inl rfl) q1602 hz1 dX10_readTask_24 ?_
    refine JR_iload_n (pc := 27) (k := 1) (i := 1) G rfl rfl dX10_readTask_27 ?_
    refine JR_aload_n (pc := 28) (k := 0) (i := 0) (o := some this) G rfl rfl dX10_readTask_28 ?_
    refine JR_ldcSM (pc := 29) (i := 249) (j := 12) G (by decide) (by decide) dX10_readTask_29 ?_
    refine JR_iconst (pc := 31) G ci_0 dX10_readTask_31 ?_
    refine JR_aload_n (pc := 32) (k := 0) (i := 0) (o := some this) G rfl rfl dX10_readTask_32 ?_
    refine JR_gR (pc := 33) (k := 14) G cl_X10 in_X10 (by decide) (by decide) rfl (Or.inl rfl) q1602 hz1 dX10_readTask_33 ?_
    refine JR_iconst (pc := 36) G ci_3 dX10_readTask_36 ?_
    refine J_bd (fun q6 hq6 => ?_)
    refine JR_iaload (pc := 37) G hq6 dX10_readTask_37 ?_
    refine JR_iconst (pc := 38) G ci_1 dX10_readTask_38 ?_
    refine JR_isub (pc := 39) G dX10_readTask_39 ?_
    refine JQV_I (pc := 40) (as := [va_rf (some (OPQ + 12)), .int 0, .int ((d3.1 q6.1 q6.2) - 1)]) (st' := [.int x5, va_rf (S.2.1 z1 14)]) (o := some this) G (Mo_toldBy_fn this (some (OPQ + 12)) 0 ((d3.1 q6.1 q6.2) - 1) S d3) (JC_V (n := 3) G hRm cl_X10 q1860 q1862 qs69 q152 q1863 ⟨rfl, dd_X10_toldBy⟩ ⟨by decide, by decide⟩ dX10_readTask_40 hz1 rfl (Nat.le_of_ble_eq_true rfl)) rfl (fun _ _ => rfl) (fun r7 d8 hd8 => ?_)
    refine J_bd (fun q9 hq9 => ?_)
    refine JW_iastore (pc := 43) G hq9 (fun _ => rfl) dX10_readTask_43 ?_
    refine J_nmD (fun d10 hd10 => ?_)
    refine JR_aload_n (pc := 44) (k := 0) (i := 0) (o := some this) G rfl rfl dX10_readTask_44 ?_
    refine JR_gR (pc := 45) (k := 14) G cl_X10 in_X10 (by decide) (by decide) rfl (Or.inl rfl) q1602 hz1 dX10_readTask_45 ?_
    refine JR_iload_n (pc := 48) (k := 1) (i := 1) G rfl rfl dX10_readTask_48 ?_
    refine JR_iconst (pc := 49) G ci_1 dX10_readTask_49 ?_
    refine JR_iadd (pc := 50) G dX10_readTask_50 ?_
    refine JR_aload_n (pc := 51) (k := 0) (i := 0) (o := some this) G rfl rfl dX10_readTask_51 ?_
    refine JR_ldcSM (pc := 52) (i := 251) (j := 14) G (by decide) (by decide) dX10_readTask_52 ?_
    refine JR_iconst (pc := 54) G ci_4 dX10_readTask_54 ?_
    refine JR_bipush (pc := 55) (v := 60) G (by decide) dX10_readTask_55 ?_
    refine JQV_I (pc := 57) (as := [va_rf (some (OPQ + 14)), .int 4, .int 60]) (st' := [.int (x5 + 1), va_rf (S.2.1 z1 14)]) (o := some this) G (Mo_toldBy_fn this (some (OPQ + 14)) 4 60 S d10) (JC_V (n := 3) G hRm cl_X10 q1860 q1862 qs69 q152 q1863 ⟨rfl, dd_X10_toldBy⟩ ⟨by decide, by decide⟩ dX10_readTask_57 hz1 rfl (Nat.le_of_ble_eq_true rfl)) rfl (fun _ _ => rfl) (fun r11 d12 hd12 => ?_)
    refine J_bd (fun q13 hq13 => ?_)
    refine JW_iastore (pc := 60) G hq13 (fun _ => rfl) dX10_readTask_60 ?_
    refine J_nmD (fun d14 hd14 => ?_)
    refine JR_aload_n (pc := 61) (k := 0) (i := 0) (o := some this) G rfl rfl dX10_readTask_61 ?_
    refine JR_gR (pc := 62) (k := 14) G cl_X10 in_X10 (by decide) (by decide) rfl (Or.inl rfl) q1602 hz1 dX10_readTask_62 ?_
    refine JR_iload_n (pc := 65) (k := 1) (i := 1) G rfl rfl dX10_readTask_65 ?_
    refine JR_iconst (pc := 66) G ci_2 dX10_readTask_66 ?_
    refine JR_iadd (pc := 67) G dX10_readTask_67 ?_
    refine JR_aload_n (pc := 68) (k := 0) (i := 0) (o := some this) G rfl rfl dX10_readTask_68 ?_
    refine JR_ldcSM (pc := 69) (i := 253) (j := 15) G (by decide) (by decide) dX10_readTask_69 ?_
    refine JR_iconst (pc := 71) G ci_0 dX10_readTask_71 ?_
    refine JR_bipush (pc := 72) (v := 99) G (by decide) dX10_readTask_72 ?_
    refine JQV_I (pc := 74) (as := [va_rf (some (OPQ + 15)), .int 0, .int 99]) (st' := [.int (x5 + 2), va_rf (S.2.1 z1 14)]) (o := some this) G (Mo_toldBy_fn this (some (OPQ + 15)) 0 99 S d14) (JC_V (n := 3) G hRm cl_X10 q1860 q1862 qs69 q152 q1863 ⟨rfl, dd_X10_toldBy⟩ ⟨by decide, by decide⟩ dX10_readTask_74 hz1 rfl (Nat.le_of_ble_eq_true rfl)) rfl (fun _ _ => rfl) (fun r15 d16 hd16 => ?_)
    refine J_bd (fun q17 hq17 => ?_)
    refine JW_iastore (pc := 77) G hq17 (fun _ => rfl) dX10_readTask_77 ?_
    refine J_nmD (fun d18 hd18 => ?_)
    refine JR_aload_n (pc := 78) (k := 0) (i := 0) (o := some this) G rfl rfl dX10_readTask_78 ?_
    refine JR_gR (pc := 79) (k := 14) G cl_X10 in_X10 (by decide) (by decide) rfl (Or.inl rfl) q1602 hz1 dX10_readTask_79 ?_
    refine JR_iload_n (pc := 82) (k := 1) (i := 1) G rfl rfl dX10_readTask_82 ?_
    refine JR_iconst (pc := 83) G ci_3 dX10_readTask_83 ?_
    refine JR_iadd (pc := 84) G dX10_readTask_84 ?_
    refine JR_aload_n (pc := 85) (k := 0) (i := 0) (o := some this) G rfl rfl dX10_readTask_85 ?_
    refine JR_ldcSM (pc := 86) (i := 255) (j := 16) G (by decide) (by decide) dX10_readTask_86 ?_
    refine JR_aload_n (pc := 88) (k := 0) (i := 0) (o := some this) G rfl rfl dX10_readTask_88 ?_
    refine JR_gR (pc := 89) (k := 14) G cl_X10 in_X10 (by decide) (by decide) rfl (Or.inl rfl) q1602 hz1 dX10_readTask_89 ?_
    refine JR_iload_n (pc := 92) (k := 1) (i := 1) G rfl rfl dX10_readTask_92 ?_
    refine JR_iconst (pc := 93) G ci_2 dX10_readTask_93 ?_
    refine JR_iadd (pc := 94) G dX10_readTask_94 ?_
    refine JR_iaload (pc := 95) G hq17 dX10_readTask_95 ?_
    refine JR_iconst (pc := 96) G ci_1 dX10_readTask_96 ?_
    refine JR_iadd (pc := 97) G dX10_readTask_97 ?_
    refine JR_bipush (pc := 98) (v := 120) G (by decide) dX10_readTask_98 ?_
    refine JQV_I (pc := 100) (as := [va_rf (some (OPQ + 16)), .int ((d18.1 q17.1 q17.2) + 1), .int 120]) (st' := [.int (x5 + 3), va_rf (S.2.1 z1 14)]) (o := some this) G (Mo_toldBy_fn this (some (OPQ + 16)) ((d18.1 q17.1 q17.2) + 1) 120 S d18) (JC_V (n := 3) G hRm cl_X10 q1860 q1862 qs69 q152 q1863 ⟨rfl, dd_X10_toldBy⟩ ⟨by decide, by decide⟩ dX10_readTask_100 hz1 rfl (Nat.le_of_ble_eq_true rfl)) rfl (fun _ _ => rfl) (fun r19 d20 hd20 => ?_)
    refine J_bd (fun q21 hq21 => ?_)
    refine JW_iastore (pc := 103) G hq21 (fun _ => rfl) dX10_readTask_103 ?_
    refine J_nmD (fun d22 hd22 => ?_)
    refine JR_aload_n (pc := 104) (k := 0) (i := 0) (o := some this) G rfl rfl dX10_readTask_104 ?_
    refine JR_gR (pc := 105) (k := 14) G cl_X10 in_X10 (by decide) (by decide) rfl (Or.inl rfl) q1602 hz1 dX10_readTask_105 ?_
    refine JR_iload_n (pc := 108) (k := 1) (i := 1) G rfl rfl dX10_readTask_108 ?_
    refine JR_iconst (pc := 109) G ci_4 dX10_readTask_109 ?_
    refine JR_iadd (pc := 110) G dX10_readTask_110 ?_
    refine JR_aload_n (pc := 111) (k := 0) (i := 0) (o := some this) G rfl rfl dX10_readTask_111 ?_
    refine JR_ldcwSM (pc := 112) (i := 257) (j := 17) G (by decide) (by decide) dX10_readTask_112 ?_
    refine JR_iconst (pc := 115) G ci_0 dX10_readTask_115 ?_
    refine JR_bipush (pc := 116) (v := 20) G (by decide) dX10_readTask_116 ?_
    refine JQV_I (pc := 118) (as := [va_rf (some (OPQ + 17)), .int 0, .int 20]) (st' := [.int (x5 + 4), va_rf (S.2.1 z1 14)]) (o := some this) G (Mo_toldBy_fn this (some (OPQ + 17)) 0 20 S d22) (JC_V (n := 3) G hRm cl_X10 q1860 q1862 qs69 q152 q1863 ⟨rfl, dd_X10_toldBy⟩ ⟨by decide, by decide⟩ dX10_readTask_118 hz1 rfl (Nat.le_of_ble_eq_true rfl)) rfl (fun _ _ => rfl) (fun r23 d24 hd24 => ?_)
    refine J_bd (fun q25 hq25 => ?_)
    refine JW_iastore (pc := 121) G hq25 (fun _ => rfl) dX10_readTask_121 ?_
    refine J_nmD (fun d26 hd26 => ?_)
    refine JR_aload_n (pc := 122) (k := 0) (i := 0) (o := some this) G rfl rfl dX10_readTask_122 ?_
    refine JR_gR (pc := 123) (k := 14) G cl_X10 in_X10 (by decide) (by decide) rfl (Or.inl rfl) q1602 hz1 dX10_readTask_123 ?_
    refine JR_iload_n (pc := 126) (k := 1) (i := 1) G rfl rfl dX10_readTask_126 ?_
    refine JR_iconst (pc := 127) G ci_5 dX10_readTask_127 ?_
    refine JR_iadd (pc := 128) G dX10_readTask_128 ?_
    refine JR_aload_n (pc := 129) (k := 0) (i := 0) (o := some this) G rfl rfl dX10_readTask_129 ?_
    refine JR_ldcwSM (pc := 130) (i := 259) (j := 18) G (by decide) (by decide) dX10_readTask_130 ?_
    refine JR_aload_n (pc := 133) (k := 0) (i := 0) (o := some this) G rfl rfl dX10_readTask_133 ?_
    refine JR_gR (pc := 134) (k := 14) G cl_X10 in_X10 (by decide) (by decide) rfl (Or.inl rfl) q1602 hz1 dX10_readTask_134 ?_
    refine JR_iload_n (pc := 137) (k := 1) (i := 1) G rfl rfl dX10_readTask_137 ?_
    refine JR_iconst (pc := 138) G ci_4 dX10_readTask_138 ?_
    refine JR_iadd (pc := 139) G dX10_readTask_139 ?_
    refine JR_iaload (pc := 140) G hq25 dX10_readTask_140 ?_
    refine JR_bipush (pc := 141) (v := 40) G (by decide) dX10_readTask_141 ?_
    refine JQV_I (pc := 143) (as := [va_rf (some (OPQ + 18)), .int (d26.1 q25.1 q25.2), .int 40]) (st' := [.int (x5 + 5), va_rf (S.2.1 z1 14)]) (o := some this) G (Mo_toldBy_fn this (some (OPQ + 18)) (d26.1 q25.1 q25.2) 40 S d26) (JC_V (n := 3) G hRm cl_X10 q1860 q1862 qs69 q152 q1863 ⟨rfl, dd_X10_toldBy⟩ ⟨by decide, by decide⟩ dX10_readTask_143 hz1 rfl (Nat.le_of_ble_eq_true rfl)) rfl (fun _ _ => rfl) (fun r27 d28 hd28 => ?_)
    refine J_bd (fun q29 hq29 => ?_)
    refine JW_iastore (pc := 146) G hq29 (fun _ => rfl) dX10_readTask_146 ?_
    refine J_nmD (fun d30 hd30 => ?_)
    refine JR_aload_n (pc := 147) (k := 0) (i := 0) (o := some this) G rfl rfl dX10_readTask_147 ?_
    refine JR_gR (pc := 148) (k := 14) G cl_X10 in_X10 (by decide) (by decide) rfl (Or.inl rfl) q1602 hz1 dX10_readTask_148 ?_
    refine JR_iconst (pc := 151) G ci_4 dX10_readTask_151 ?_
    refine JR_dup2 (pc := 152) G rfl (rf_cat _) dX10_readTask_152 ?_
    refine JR_iaload (pc := 153) G hq4 dX10_readTask_153 ?_
    refine JR_iconst (pc := 154) G ci_1 dX10_readTask_154 ?_
    refine JR_iadd (pc := 155) G dX10_readTask_155 ?_
    refine JW_iastore (pc := 156) G hq4 (fun _ => rfl) dX10_readTask_156 ?_
    refine J_nmD (fun d31 hd31 => ?_)
    exact JR_vret (pc := 157) G hR dX10_readTask_157 rfl rfl
  · exact JR_vret (pc := 9) G hR dX10_readTask_9 rfl rfl

def Mo_takesNew_b40 (this : Nat) (p1 : Int32) (p2 : Int32) (S : Sp) (d : Dt) : Option (Int32 × Dt) :=
  (isK S 9 (some this)).bind fun z8 =>
  bind2 (Mo_takes this 0 p2 S d) fun r9 d10 =>
  some (r9, d10)
def Mo_takesNew (this : Nat) (p1 : Int32) (p2 : Int32) (S : Sp) (d : Dt) : Option (Int32 × Dt) :=
  (isK S 9 (some this)).bind fun z1 =>
  (Mo_good this S d).bind fun r2 =>
  if r2 = 0 then
    Mo_takesNew_b40 this p1 p2 S d
  else
    if ¬ (d.1 z1 10) = 2 then
      Mo_takesNew_b40 this p1 p2 S d
    else
      if p2 < (d.1 z1 11) then
        Mo_takesNew_b40 this p1 p2 S d
      else
        if ¬ ((p1 >>> ((d.1 z1 11) &&& 31)) &&& 1) = 1 then
          Mo_takesNew_b40 this p1 p2 S d
        else
          bind2 (Mo_errs this 2 S d) fun _ d3 =>
          Mo_takesNew_b40 this p1 p2 S d3
set_option maxHeartbeats 4000000 in
theorem Mo_takesNew_fn (this : Nat) (p1 : Int32) (p2 : Int32) (S : Sp) (d : Dt) : Fn yX10_takesNew (ws_ yX10_takesNew cX10_takesNew 3 (some .int)) 3 69 [va_rf (some this), .int p1, .int p2] S d rvI Λw (Mo_takesNew this p1 p2 S d) := by
  refine Fn.ofJ (own := RX10) (lv := [(0, va_rf (some this)), (1, .int p1), (2, .int p2)]) (by decide +kernel) rfl (by simp [cat_i, cat_l, cat_f, cat_d, rf_cat]) (by simp [lv_args, cat_i, cat_l, cat_f, cat_d, rf_cat]) ?_
  intro X F G hRm hR hI
  have hMo_takesNew_b40 : ∀ (d : Dt), J X F Λw S d 40 [(0, va_rf (some this)), (1, .int p1), (2, .int p2)] [] (Mo_takesNew_b40 this p1 p2 S d) := by
    intro d
    unfold Mo_takesNew_b40
    refine JR_aload_n (pc := 40) (k := 0) (i := 0) (o := some this) G rfl rfl dX10_takesNew_40 ?_
    refine JR_iconst (pc := 41) G ci_0 dX10_takesNew_41 ?_
    refine JR_iload_n (pc := 42) (k := 2) (i := 2) G rfl rfl dX10_takesNew_42 ?_
    refine J_bd (fun z8 hz8 => ?_)
    refine JQV_I (pc := 43) (as := [.int 0, .int p2]) (st' := []) (o := some this) G (Mo_takes_fn this 0 p2 S d) (JC_V (n := 2) G hRm cl_X10 q1864 q1866 qs70 q152 q1867 ⟨rfl, dd_X10_takes⟩ ⟨by decide, by decide⟩ dX10_takesNew_43 hz8 rfl (Nat.le_of_ble_eq_true rfl)) rfl (fun _ _ => rfl) (fun r9 d10 hd10 => ?_)
    exact JR_iret (pc := 46) G hR dX10_takesNew_46 rfl rfl
  unfold Mo_takesNew
  refine JR_aload_n (pc := 0) (k := 0) (i := 0) (o := some this) G rfl rfl dX10_takesNew_0 ?_
  refine J_bd (fun z1 hz1 => ?_)
  refine JPV_I (pc := 1) (as := []) (st' := []) (o := some this) G (Mo_good_fn this S d) (JC_V (n := 0) G hRm cl_X10 q1819 q1821 qs62 q152 q1822 ⟨rfl, dd_X10_good⟩ ⟨by decide, by decide⟩ dX10_takesNew_1 hz1 rfl (Nat.le_of_ble_eq_true rfl)) rfl (fun r2 hr2 => ?_)
  refine JR_if_eq (pc := 4) (tgt := 40) G dX10_takesNew_4 (by decide) (fun c7 => ?_) (fun c7 => ?_)
  · exact hMo_takesNew_b40 d
  · refine JR_aload_n (pc := 7) (k := 0) (i := 0) (o := some this) G rfl rfl dX10_takesNew_7 ?_
    refine JR_gI (pc := 8) (k := 10) G cl_X10 in_X10 (by decide) (by decide) rfl (Or.inl rfl) q1598 hz1 dX10_takesNew_8 ?_
    refine JR_iconst (pc := 11) G ci_2 dX10_takesNew_11 ?_
    refine JR_icmp_ne (pc := 12) (tgt := 40) G dX10_takesNew_12 (by decide) (fun c6 => ?_) (fun c6 => ?_)
    · exact hMo_takesNew_b40 d
    · refine JR_aload_n (pc := 15) (k := 0) (i := 0) (o := some this) G rfl rfl dX10_takesNew_15 ?_
      refine JR_gI (pc := 16) (k := 11) G cl_X10 in_X10 (by decide) (by decide) rfl (Or.inl rfl) q1599 hz1 dX10_takesNew_16 ?_
      refine JR_iload_n (pc := 19) (k := 2) (i := 2) G rfl rfl dX10_takesNew_19 ?_
      refine JR_icmp_gt (pc := 20) (tgt := 40) G dX10_takesNew_20 (by decide) (fun c5 => ?_) (fun c5 => ?_)
      · exact hMo_takesNew_b40 d
      · refine JR_iload_n (pc := 23) (k := 1) (i := 1) G rfl rfl dX10_takesNew_23 ?_
        refine JR_aload_n (pc := 24) (k := 0) (i := 0) (o := some this) G rfl rfl dX10_takesNew_24 ?_
        refine JR_gI (pc := 25) (k := 11) G cl_X10 in_X10 (by decide) (by decide) rfl (Or.inl rfl) q1599 hz1 dX10_takesNew_25 ?_
        refine JR_ishr (pc := 28) G dX10_takesNew_28 ?_
        refine JR_iconst (pc := 29) G ci_1 dX10_takesNew_29 ?_
        refine JR_iand (pc := 30) G dX10_takesNew_30 ?_
        refine JR_iconst (pc := 31) G ci_1 dX10_takesNew_31 ?_
        refine JR_icmp_ne (pc := 32) (tgt := 40) G dX10_takesNew_32 (by decide) (fun c4 => ?_) (fun c4 => ?_)
        · exact hMo_takesNew_b40 d
        · refine JR_aload_n (pc := 35) (k := 0) (i := 0) (o := some this) G rfl rfl dX10_takesNew_35 ?_
          refine JR_iconst (pc := 36) G ci_2 dX10_takesNew_36 ?_
          refine JQV_U (pc := 37) (as := [.int 2]) (st' := []) (o := some this) G (Mo_errs_fn this 2 S d) (JC_V (n := 1) G hRm cl_X10 q1855 q1857 qs68 q152 q1858 ⟨rfl, dd_X10_errs⟩ ⟨by decide, by decide⟩ dX10_takesNew_37 hz1 rfl (Nat.le_of_ble_eq_true rfl)) rfl (fun _ _ => rfl) (fun _ d3 hd3 => ?_)
          exact hMo_takesNew_b40 d3

def Mo_readNode_b131 (this : Nat) (S : Sp) (v1 : Int32) (v2 : Int32) (v3 : Int32) (v4 : Int32) (d : Dt) : Option (Unit × Dt) :=
  (isK S 9 (some this)).bind fun z21 =>
  (aix S 50 (S.2.1 z21 14) (46 + (2 * ((6 * v1) + v2)))).bind fun q22 =>
  (some (dI d q22.1 q22.2 v3)).bind fun d23 =>
  (aix S 50 (S.2.1 z21 14) ((46 + (2 * ((6 * v1) + v2))) + 1)).bind fun q24 =>
  (some (dI d23 q24.1 q24.2 v4)).bind fun d25 =>
  (aix S 50 (S.2.1 z21 14) ((11 + (7 * v1)) + 6)).bind fun q26 =>
  (some (dI d25 q26.1 q26.2 ((d25.1 q26.1 q26.2) + 1))).bind fun d27 =>
  some ((), d27)
def Mo_readNode_h96 (this : Nat) (S : Sp) : Nat → Int32 → Int32 → Int32 → Int32 → Dt → Option (Unit × Dt)
  | 0, _, _, _, _, _ => none
  | f + 1, v1, v2, v3, v4, d =>
    (isK S 9 (some this)).bind fun z28 =>
    bind2 (Mo_takesNew this v4 (v2 - 1) S d) fun r29 d30 =>
    (some (v4 ||| (1 <<< (r29 &&& 31)))).bind fun x31 =>
    (Mo_good this S d30).bind fun r32 =>
    if r32 = 0 then
      Mo_readNode_b131 this S v1 v2 v3 x31 d30
    else
      if (d30.1 z28 10) = 2 then
        Mo_readNode_h96 this S f v1 v2 v3 x31 d30
      else
        Mo_readNode_b131 this S v1 v2 v3 x31 d30
def Mo_readNode_b21 (this : Nat) (S : Sp) (d : Dt) : Option (Unit × Dt) :=
  (isK S 9 (some this)).bind fun z7 =>
  (Mo_good this S d).bind fun r8 =>
  if ¬ r8 = 0 then
    (aix S 50 (S.2.1 z7 14) 4).bind fun q9 =>
    (some ((d.1 q9.1 q9.2) - 1)).bind fun x10 =>
    bind2 (Mo_canTake this ((11 + (7 * x10)) + 6) 6 S d) fun r11 d12 =>
    if ¬ r11 = 0 then
      (aix S 50 (S.2.1 z7 14) ((11 + (7 * x10)) + 6)).bind fun q13 =>
      (some (d12.1 q13.1 q13.2)).bind fun x14 =>
      bind2 (Mo_takes this 1 9 S d12) fun r15 d16 =>
      if x14 ≤ 0 then
        Mo_readNode_b131 this S x10 x14 r15 0 d16
      else
        bind2 (Mo_expects this (some (OPQ + 20)) S d16) fun _ d17 =>
        Mo_readNode_h96 this S FU x10 x14 r15 0 d17
    else
      some ((), d12)
  else
    some ((), d)
def Mo_readNode (this : Nat) (S : Sp) (d : Dt) : Option (Unit × Dt) :=
  (isK S 9 (some this)).bind fun z1 =>
  (Mo_good this S d).bind fun r2 =>
  if r2 = 0 then
    Mo_readNode_b21 this S d
  else
    (aix S 50 (S.2.1 z1 14) 4).bind fun q3 =>
    if ¬ (d.1 q3.1 q3.2) = 0 then
      Mo_readNode_b21 this S d
    else
      bind2 (Mo_errs this 1 S d) fun _ d4 =>
      Mo_readNode_b21 this S d4
set_option maxHeartbeats 4000000 in
theorem Mo_readNode_fn (this : Nat) (S : Sp) (d : Dt) : Fn yX10_readNode (ws_ yX10_readNode cX10_readNode 6 none) 6 129 [va_rf (some this)] S d rvU Λw (Mo_readNode this S d) := by
  refine Fn.ofJ (own := RX10) (lv := [(0, va_rf (some this))]) (by decide +kernel) rfl (by simp [cat_i, cat_l, cat_f, cat_d, rf_cat]) (by simp [lv_args, cat_i, cat_l, cat_f, cat_d, rf_cat]) ?_
  intro X F G hRm hR hI
  have hMo_readNode_b131 : ∀ (v1 : Int32) (v2 : Int32) (v3 : Int32) (v4 : Int32) (d : Dt), J X F Λw S d 131 [(0, va_rf (some this)), (1, .int v1), (2, .int v2), (3, .int v3), (4, .int v4)] [] (Mo_readNode_b131 this S v1 v2 v3 v4 d) := by
    intro v1 v2 v3 v4 d
    unfold Mo_readNode_b131
    refine JR_aload_n (pc := 131) (k := 0) (i := 0) (o := some this) G rfl rfl dX10_readNode_131 ?_
    refine J_bd (fun z21 hz21 => ?_)
    refine JR_gR (pc := 132) (k := 14) G cl_X10 in_X10 (by decide) (by decide) rfl (Or.inl rfl) q1602 hz21 dX10_readNode_132 ?_
    refine JR_bipush (pc := 135) (v := 46) G (by decide) dX10_readNode_135 ?_
    refine JR_iconst (pc := 137) G ci_2 dX10_readNode_137 ?_
    refine JR_bipush (pc := 138) (v := 6) G (by decide) dX10_readNode_138 ?_
    refine JR_iload_n (pc := 140) (k := 1) (i := 1) G rfl rfl dX10_readNode_140 ?_
    refine JR_imul (pc := 141) G dX10_readNode_141 ?_
    refine JR_iload_n (pc := 142) (k := 2) (i := 2) G rfl rfl dX10_readNode_142 ?_
    refine JR_iadd (pc := 143) G dX10_readNode_143 ?_
    refine JR_imul (pc := 144) G dX10_readNode_144 ?_
    refine JR_iadd (pc := 145) G dX10_readNode_145 ?_
    refine JR_iload_n (pc := 146) (k := 3) (i := 3) G rfl rfl dX10_readNode_146 ?_
    refine J_bd (fun q22 hq22 => ?_)
    refine JW_iastore (pc := 147) G hq22 (fun _ => rfl) dX10_readNode_147 ?_
    refine J_nmD (fun d23 hd23 => ?_)
    refine JR_aload_n (pc := 148) (k := 0) (i := 0) (o := some this) G rfl rfl dX10_readNode_148 ?_
    refine JR_gR (pc := 149) (k := 14) G cl_X10 in_X10 (by decide) (by decide) rfl (Or.inl rfl) q1602 hz21 dX10_readNode_149 ?_
    refine JR_bipush (pc := 152) (v := 46) G (by decide) dX10_readNode_152 ?_
    refine JR_iconst (pc := 154) G ci_2 dX10_readNode_154 ?_
    refine JR_bipush (pc := 155) (v := 6) G (by decide) dX10_readNode_155 ?_
    refine JR_iload_n (pc := 157) (k := 1) (i := 1) G rfl rfl dX10_readNode_157 ?_
    refine JR_imul (pc := 158) G dX10_readNode_158 ?_
    refine JR_iload_n (pc := 159) (k := 2) (i := 2) G rfl rfl dX10_readNode_159 ?_
    refine JR_iadd (pc := 160) G dX10_readNode_160 ?_
    refine JR_imul (pc := 161) G dX10_readNode_161 ?_
    refine JR_iadd (pc := 162) G dX10_readNode_162 ?_
    refine JR_iconst (pc := 163) G ci_1 dX10_readNode_163 ?_
    refine JR_iadd (pc := 164) G dX10_readNode_164 ?_
    refine JR_iload (pc := 165) (i := 4) G rfl dX10_readNode_165 ?_
    refine J_bd (fun q24 hq24 => ?_)
    refine JW_iastore (pc := 167) G hq24 (fun _ => rfl) dX10_readNode_167 ?_
    refine J_nmD (fun d25 hd25 => ?_)
    refine JR_aload_n (pc := 168) (k := 0) (i := 0) (o := some this) G rfl rfl dX10_readNode_168 ?_
    refine JR_gR (pc := 169) (k := 14) G cl_X10 in_X10 (by decide) (by decide) rfl (Or.inl rfl) q1602 hz21 dX10_readNode_169 ?_
    refine JR_bipush (pc := 172) (v := 11) G (by decide) dX10_readNode_172 ?_
    refine JR_bipush (pc := 174) (v := 7) G (by decide) dX10_readNode_174 ?_
    refine JR_iload_n (pc := 176) (k := 1) (i := 1) G rfl rfl dX10_readNode_176 ?_
    refine JR_imul (pc := 177) G dX10_readNode_177 ?_
    refine JR_iadd (pc := 178) G dX10_readNode_178 ?_
    refine JR_bipush (pc := 179) (v := 6) G (by decide) dX10_readNode_179 ?_
    refine JR_iadd (pc := 181) G dX10_readNode_181 ?_
    refine JR_dup2 (pc := 182) G rfl (rf_cat _) dX10_readNode_182 ?_
    refine J_bd (fun q26 hq26 => ?_)
    refine JR_iaload (pc := 183) G hq26 dX10_readNode_183 ?_
    refine JR_iconst (pc := 184) G ci_1 dX10_readNode_184 ?_
    refine JR_iadd (pc := 185) G dX10_readNode_185 ?_
    refine JW_iastore (pc := 186) G hq26 (fun _ => rfl) dX10_readNode_186 ?_
    refine J_nmD (fun d27 hd27 => ?_)
    exact JR_vret (pc := 187) G hR dX10_readNode_187 rfl rfl
  have hMo_readNode_h96 : ∀ (f : Nat) (v1 : Int32) (v2 : Int32) (v3 : Int32) (v4 : Int32) (d : Dt), J X F Λw S d 96 [(0, va_rf (some this)), (1, .int v1), (2, .int v2), (3, .int v3), (4, .int v4)] [] (Mo_readNode_h96 this S f v1 v2 v3 v4 d) := by
    intro  f
    induction f with
    | zero => intro v1 v2 v3 v4 d; exact J_no
    | succ f ih =>
      intro v1 v2 v3 v4 d
      unfold Mo_readNode_h96
      refine JR_aload_n (pc := 96) (k := 0) (i := 0) (o := some this) G rfl rfl dX10_readNode_96 ?_
      refine JR_iload (pc := 97) (i := 4) G rfl dX10_readNode_97 ?_
      refine JR_iload_n (pc := 99) (k := 2) (i := 2) G rfl rfl dX10_readNode_99 ?_
      refine JR_iconst (pc := 100) G ci_1 dX10_readNode_100 ?_
      refine JR_isub (pc := 101) G dX10_readNode_101 ?_
      refine J_bd (fun z28 hz28 => ?_)
      refine JQV_I (pc := 102) (as := [.int v4, .int (v2 - 1)]) (st' := []) (o := some this) G (Mo_takesNew_fn this v4 (v2 - 1) S d) (JC_V (n := 2) G hRm cl_X10 q1897 q1899 qs75 q152 q1900 ⟨rfl, dd_X10_takesNew⟩ ⟨by decide, by decide⟩ dX10_readNode_102 hz28 rfl (Nat.le_of_ble_eq_true rfl)) rfl (fun _ _ => rfl) (fun r29 d30 hd30 => ?_)
      refine JR_istore (pc := 105) (i := 5) (lv' := [(5, .int r29), (0, va_rf (some this)), (1, .int v1), (2, .int v2), (3, .int v3), (4, .int v4)]) G (by decide) rfl dX10_readNode_105 ?_
      refine JR_iload (pc := 107) (i := 4) G rfl dX10_readNode_107 ?_
      refine JR_iconst (pc := 109) G ci_1 dX10_readNode_109 ?_
      refine JR_iload (pc := 110) (i := 5) G rfl dX10_readNode_110 ?_
      refine JR_ishl (pc := 112) G dX10_readNode_112 ?_
      refine JR_ior (pc := 113) G dX10_readNode_113 ?_
      refine J_nm (fun x31 hx31 => ?_)
      refine JR_istore (pc := 114) (i := 4) (lv' := [(4, .int x31), (5, .int r29), (0, va_rf (some this)), (1, .int v1), (2, .int v2), (3, .int v3)]) G (by decide) rfl dX10_readNode_114 ?_
      refine JR_aload_n (pc := 116) (k := 0) (i := 0) (o := some this) G rfl rfl dX10_readNode_116 ?_
      refine JPV_I (pc := 117) (as := []) (st' := []) (o := some this) G (Mo_good_fn this S d30) (JC_V (n := 0) G hRm cl_X10 q1819 q1821 qs62 q152 q1822 ⟨rfl, dd_X10_good⟩ ⟨by decide, by decide⟩ dX10_readNode_117 hz28 rfl (Nat.le_of_ble_eq_true rfl)) rfl (fun r32 hr32 => ?_)
      refine JR_if_eq (pc := 120) (tgt := 131) G dX10_readNode_120 (by decide) (fun c34 => ?_) (fun c34 => ?_)
      · refine J_sub [2, 3, 4, 5, 0] rfl ?_
        exact hMo_readNode_b131 v1 v2 v3 x31 d30
      · refine JR_aload_n (pc := 123) (k := 0) (i := 0) (o := some this) G rfl rfl dX10_readNode_123 ?_
        refine JR_gI (pc := 124) (k := 10) G cl_X10 in_X10 (by decide) (by decide) rfl (Or.inl rfl) q1598 hz28 dX10_readNode_124 ?_
        refine JR_iconst (pc := 127) G ci_2 dX10_readNode_127 ?_
        refine JR_icmp_eq (pc := 128) (tgt := 96) G dX10_readNode_128 (by decide) (fun c33 => ?_) (fun c33 => ?_)
        · refine J_sub [2, 3, 4, 5, 0] rfl ?_
          exact ih v1 v2 v3 x31 d30
        · refine J_sub [2, 3, 4, 5, 0] rfl ?_
          exact hMo_readNode_b131 v1 v2 v3 x31 d30
  have hMo_readNode_b21 : ∀ (d : Dt), J X F Λw S d 21 [(0, va_rf (some this))] [] (Mo_readNode_b21 this S d) := by
    intro d
    unfold Mo_readNode_b21
    refine JR_aload_n (pc := 21) (k := 0) (i := 0) (o := some this) G rfl rfl dX10_readNode_21 ?_
    refine J_bd (fun z7 hz7 => ?_)
    refine JPV_I (pc := 22) (as := []) (st' := []) (o := some this) G (Mo_good_fn this S d) (JC_V (n := 0) G hRm cl_X10 q1819 q1821 qs62 q152 q1822 ⟨rfl, dd_X10_good⟩ ⟨by decide, by decide⟩ dX10_readNode_22 hz7 rfl (Nat.le_of_ble_eq_true rfl)) rfl (fun r8 hr8 => ?_)
    refine JR_if_ne (pc := 25) (tgt := 29) G dX10_readNode_25 (by decide) (fun c20 => ?_) (fun c20 => ?_)
    · refine JR_aload_n (pc := 29) (k := 0) (i := 0) (o := some this) G rfl rfl dX10_readNode_29 ?_
      refine JR_gR (pc := 30) (k := 14) G cl_X10 in_X10 (by decide) (by decide) rfl (Or.inl rfl) q1602 hz7 dX10_readNode_30 ?_
      refine JR_iconst (pc := 33) G ci_4 dX10_readNode_33 ?_
      refine J_bd (fun q9 hq9 => ?_)
      refine JR_iaload (pc := 34) G hq9 dX10_readNode_34 ?_
      refine JR_iconst (pc := 35) G ci_1 dX10_readNode_35 ?_
      refine JR_isub (pc := 36) G dX10_readNode_36 ?_
      refine J_nm (fun x10 hx10 => ?_)
      refine JR_istore_n (pc := 37) (k := 1) (i := 1) (lv' := [(1, .int x10), (0, va_rf (some this))]) G rfl (by decide) rfl dX10_readNode_37 ?_
      refine JR_aload_n (pc := 38) (k := 0) (i := 0) (o := some this) G rfl rfl dX10_readNode_38 ?_
      refine JR_bipush (pc := 39) (v := 11) G (by decide) dX10_readNode_39 ?_
      refine JR_bipush (pc := 41) (v := 7) G (by decide) dX10_readNode_41 ?_
      refine JR_iload_n (pc := 43) (k := 1) (i := 1) G rfl rfl dX10_readNode_43 ?_
      refine JR_imul (pc := 44) G dX10_readNode_44 ?_
      refine JR_iadd (pc := 45) G dX10_readNode_45 ?_
      refine JR_bipush (pc := 46) (v := 6) G (by decide) dX10_readNode_46 ?_
      refine JR_iadd (pc := 48) G dX10_readNode_48 ?_
      refine JR_bipush (pc := 49) (v := 6) G (by decide) dX10_readNode_49 ?_
      refine JQV_I (pc := 51) (as := [.int ((11 + (7 * x10)) + 6), .int 6]) (st' := []) (o := some this) G (Mo_canTake_fn this ((11 + (7 * x10)) + 6) 6 S d) (JC_V (n := 2) G hRm cl_X10 q1875 q1877 qs72 q152 q1878 ⟨rfl, dd_X10_canTake⟩ ⟨by decide, by decide⟩ dX10_readNode_51 hz7 rfl (Nat.le_of_ble_eq_true rfl)) rfl (fun _ _ => rfl) (fun r11 d12 hd12 => ?_)
      refine JR_if_ne (pc := 54) (tgt := 58) G dX10_readNode_54 (by decide) (fun c19 => ?_) (fun c19 => ?_)
      · refine JR_aload_n (pc := 58) (k := 0) (i := 0) (o := some this) G rfl rfl dX10_readNode_58 ?_
        refine JR_gR (pc := 59) (k := 14) G cl_X10 in_X10 (by decide) (by decide) rfl (Or.inl rfl) q1602 hz7 dX10_readNode_59 ?_
        refine JR_bipush (pc := 62) (v := 11) G (by decide) dX10_readNode_62 ?_
        refine JR_bipush (pc := 64) (v := 7) G (by decide) dX10_readNode_64 ?_
        refine JR_iload_n (pc := 66) (k := 1) (i := 1) G rfl rfl dX10_readNode_66 ?_
        refine JR_imul (pc := 67) G dX10_readNode_67 ?_
        refine JR_iadd (pc := 68) G dX10_readNode_68 ?_
        refine JR_bipush (pc := 69) (v := 6) G (by decide) dX10_readNode_69 ?_
        refine JR_iadd (pc := 71) G dX10_readNode_71 ?_
        refine J_bd (fun q13 hq13 => ?_)
        refine JR_iaload (pc := 72) G hq13 dX10_readNode_72 ?_
        refine J_nm (fun x14 hx14 => ?_)
        refine JR_istore_n (pc := 73) (k := 2) (i := 2) (lv' := [(2, .int x14), (1, .int x10), (0, va_rf (some this))]) G rfl (by decide) rfl dX10_readNode_73 ?_
        refine JR_aload_n (pc := 74) (k := 0) (i := 0) (o := some this) G rfl rfl dX10_readNode_74 ?_
        refine JR_iconst (pc := 75) G ci_1 dX10_readNode_75 ?_
        refine JR_bipush (pc := 76) (v := 9) G (by decide) dX10_readNode_76 ?_
        refine JQV_I (pc := 78) (as := [.int 1, .int 9]) (st' := []) (o := some this) G (Mo_takes_fn this 1 9 S d12) (JC_V (n := 2) G hRm cl_X10 q1864 q1866 qs70 q152 q1867 ⟨rfl, dd_X10_takes⟩ ⟨by decide, by decide⟩ dX10_readNode_78 hz7 rfl (Nat.le_of_ble_eq_true rfl)) rfl (fun _ _ => rfl) (fun r15 d16 hd16 => ?_)
        refine JR_istore_n (pc := 81) (k := 3) (i := 3) (lv' := [(3, .int r15), (2, .int x14), (1, .int x10), (0, va_rf (some this))]) G rfl (by decide) rfl dX10_readNode_81 ?_
        refine JR_iconst (pc := 82) G ci_0 dX10_readNode_82 ?_
        refine JR_istore (pc := 83) (i := 4) (lv' := [(4, .int 0), (3, .int r15), (2, .int x14), (1, .int x10), (0, va_rf (some this))]) G (by decide) rfl dX10_readNode_83 ?_
        refine JR_iload_n (pc := 85) (k := 2) (i := 2) G rfl rfl dX10_readNode_85 ?_
        refine JR_if_le (pc := 86) (tgt := 131) G dX10_readNode_86 (by decide) (fun c18 => ?_) (fun c18 => ?_)
        · refine J_sub [4, 3, 2, 1, 0] rfl ?_
          exact hMo_readNode_b131 x10 x14 r15 0 d16
        · refine JR_aload_n (pc := 89) (k := 0) (i := 0) (o := some this) G rfl rfl dX10_readNode_89 ?_
          refine JR_ldcwSM (pc := 90) (i := 261) (j := 20) G (by decide) (by decide) dX10_readNode_90 ?_
          refine JQV_U (pc := 93) (as := [va_rf (some (OPQ + 20))]) (st' := []) (o := some this) G (Mo_expects_fn this (some (OPQ + 20)) S d16) (JC_V (n := 1) G hRm cl_X10 q1851 q1853 qs67 q152 q1854 ⟨rfl, dd_X10_expects⟩ ⟨by decide, by decide⟩ dX10_readNode_93 hz7 rfl (Nat.le_of_ble_eq_true rfl)) rfl (fun _ _ => rfl) (fun _ d17 hd17 => ?_)
          refine J_sub [4, 3, 2, 1, 0] rfl ?_
          exact hMo_readNode_h96 FU x10 x14 r15 0 d17
      · exact JR_vret (pc := 57) G hR dX10_readNode_57 rfl rfl
    · exact JR_vret (pc := 28) G hR dX10_readNode_28 rfl rfl
  unfold Mo_readNode
  refine JR_aload_n (pc := 0) (k := 0) (i := 0) (o := some this) G rfl rfl dX10_readNode_0 ?_
  refine J_bd (fun z1 hz1 => ?_)
  refine JPV_I (pc := 1) (as := []) (st' := []) (o := some this) G (Mo_good_fn this S d) (JC_V (n := 0) G hRm cl_X10 q1819 q1821 qs62 q152 q1822 ⟨rfl, dd_X10_good⟩ ⟨by decide, by decide⟩ dX10_readNode_1 hz1 rfl (Nat.le_of_ble_eq_true rfl)) rfl (fun r2 hr2 => ?_)
  refine JR_if_eq (pc := 4) (tgt := 21) G dX10_readNode_4 (by decide) (fun c6 => ?_) (fun c6 => ?_)
  · exact hMo_readNode_b21 d
  · refine JR_aload_n (pc := 7) (k := 0) (i := 0) (o := some this) G rfl rfl dX10_readNode_7 ?_
    refine JR_gR (pc := 8) (k := 14) G cl_X10 in_X10 (by decide) (by decide) rfl (Or.inl rfl) q1602 hz1 dX10_readNode_8 ?_
    refine JR_iconst (pc := 11) G ci_4 dX10_readNode_11 ?_
    refine J_bd (fun q3 hq3 => ?_)
    refine JR_iaload (pc := 12) G hq3 dX10_readNode_12 ?_
    refine JR_if_ne (pc := 13) (tgt := 21) G dX10_readNode_13 (by decide) (fun c5 => ?_) (fun c5 => ?_)
    · exact hMo_readNode_b21 d
    · refine JR_aload_n (pc := 16) (k := 0) (i := 0) (o := some this) G rfl rfl dX10_readNode_16 ?_
      refine JR_iconst (pc := 17) G ci_1 dX10_readNode_17 ?_
      refine JQV_U (pc := 18) (as := [.int 1]) (st' := []) (o := some this) G (Mo_errs_fn this 1 S d) (JC_V (n := 1) G hRm cl_X10 q1855 q1857 qs68 q152 q1858 ⟨rfl, dd_X10_errs⟩ ⟨by decide, by decide⟩ dX10_readNode_18 hz1 rfl (Nat.le_of_ble_eq_true rfl)) rfl (fun _ _ => rfl) (fun _ d4 hd4 => ?_)
      exact hMo_readNode_b21 d4

def Mo_taskRead_b66 (this : Nat) (S : Sp) (d : Dt) : Option (Int32 × Dt) :=
  (isK S 9 (some this)).bind fun z13 =>
  bind2 (Mo_takes this 0 5 S d) fun r14 d15 =>
  some (r14, d15)
def Mo_taskRead_b61 (this : Nat) (S : Sp) (d : Dt) : Option (Int32 × Dt) :=
  (isK S 9 (some this)).bind fun z16 =>
  bind2 (Mo_errs this 2 S d) fun _ d17 =>
  Mo_taskRead_b66 this S d17
def Mo_taskRead_b20 (this : Nat) (S : Sp) (d : Dt) : Option (Int32 × Dt) :=
  (isK S 9 (some this)).bind fun z6 =>
  (Mo_good this S d).bind fun r7 =>
  if r7 = 0 then
    Mo_taskRead_b66 this S d
  else
    (aix S 50 (S.2.1 z6 14) 4).bind fun q8 =>
    if (d.1 q8.1 q8.2) ≤ (d.1 z6 11) then
      Mo_taskRead_b61 this S d
    else
      (aix S 50 (S.2.1 z6 14) ((11 + (7 * (d.1 z6 11))) + 6)).bind fun q9 =>
      if ¬ (d.1 q9.1 q9.2) = 0 then
        Mo_taskRead_b66 this S d
      else
        Mo_taskRead_b61 this S d
def Mo_taskRead (this : Nat) (S : Sp) (d : Dt) : Option (Int32 × Dt) :=
  (isK S 9 (some this)).bind fun z1 =>
  (Mo_good this S d).bind fun r2 =>
  if r2 = 0 then
    Mo_taskRead_b20 this S d
  else
    if (d.1 z1 10) = 2 then
      Mo_taskRead_b20 this S d
    else
      bind2 (Mo_errs this 1 S d) fun _ d3 =>
      Mo_taskRead_b20 this S d3
set_option maxHeartbeats 4000000 in
theorem Mo_taskRead_fn (this : Nat) (S : Sp) (d : Dt) : Fn yX10_taskRead (ws_ yX10_taskRead cX10_taskRead 1 (some .int)) 3 69 [va_rf (some this)] S d rvI Λw (Mo_taskRead this S d) := by
  refine Fn.ofJ (own := RX10) (lv := [(0, va_rf (some this))]) (by decide +kernel) rfl (by simp [cat_i, cat_l, cat_f, cat_d, rf_cat]) (by simp [lv_args, cat_i, cat_l, cat_f, cat_d, rf_cat]) ?_
  intro X F G hRm hR hI
  have hMo_taskRead_b66 : ∀ (d : Dt), J X F Λw S d 66 [(0, va_rf (some this))] [] (Mo_taskRead_b66 this S d) := by
    intro d
    unfold Mo_taskRead_b66
    refine JR_aload_n (pc := 66) (k := 0) (i := 0) (o := some this) G rfl rfl dX10_taskRead_66 ?_
    refine JR_iconst (pc := 67) G ci_0 dX10_taskRead_67 ?_
    refine JR_iconst (pc := 68) G ci_5 dX10_taskRead_68 ?_
    refine J_bd (fun z13 hz13 => ?_)
    refine JQV_I (pc := 69) (as := [.int 0, .int 5]) (st' := []) (o := some this) G (Mo_takes_fn this 0 5 S d) (JC_V (n := 2) G hRm cl_X10 q1864 q1866 qs70 q152 q1867 ⟨rfl, dd_X10_takes⟩ ⟨by decide, by decide⟩ dX10_taskRead_69 hz13 rfl (Nat.le_of_ble_eq_true rfl)) rfl (fun _ _ => rfl) (fun r14 d15 hd15 => ?_)
    exact JR_iret (pc := 72) G hR dX10_taskRead_72 rfl rfl
  have hMo_taskRead_b61 : ∀ (d : Dt), J X F Λw S d 61 [(0, va_rf (some this))] [] (Mo_taskRead_b61 this S d) := by
    intro d
    unfold Mo_taskRead_b61
    refine JR_aload_n (pc := 61) (k := 0) (i := 0) (o := some this) G rfl rfl dX10_taskRead_61 ?_
    refine JR_iconst (pc := 62) G ci_2 dX10_taskRead_62 ?_
    refine J_bd (fun z16 hz16 => ?_)
    refine JQV_U (pc := 63) (as := [.int 2]) (st' := []) (o := some this) G (Mo_errs_fn this 2 S d) (JC_V (n := 1) G hRm cl_X10 q1855 q1857 qs68 q152 q1858 ⟨rfl, dd_X10_errs⟩ ⟨by decide, by decide⟩ dX10_taskRead_63 hz16 rfl (Nat.le_of_ble_eq_true rfl)) rfl (fun _ _ => rfl) (fun _ d17 hd17 => ?_)
    exact hMo_taskRead_b66 d17
  have hMo_taskRead_b20 : ∀ (d : Dt), J X F Λw S d 20 [(0, va_rf (some this))] [] (Mo_taskRead_b20 this S d) := by
    intro d
    unfold Mo_taskRead_b20
    refine JR_aload_n (pc := 20) (k := 0) (i := 0) (o := some this) G rfl rfl dX10_taskRead_20 ?_
    refine J_bd (fun z6 hz6 => ?_)
    refine JPV_I (pc := 21) (as := []) (st' := []) (o := some this) G (Mo_good_fn this S d) (JC_V (n := 0) G hRm cl_X10 q1819 q1821 qs62 q152 q1822 ⟨rfl, dd_X10_good⟩ ⟨by decide, by decide⟩ dX10_taskRead_21 hz6 rfl (Nat.le_of_ble_eq_true rfl)) rfl (fun r7 hr7 => ?_)
    refine JR_if_eq (pc := 24) (tgt := 66) G dX10_taskRead_24 (by decide) (fun c12 => ?_) (fun c12 => ?_)
    · exact hMo_taskRead_b66 d
    · refine JR_aload_n (pc := 27) (k := 0) (i := 0) (o := some this) G rfl rfl dX10_taskRead_27 ?_
      refine JR_gI (pc := 28) (k := 11) G cl_X10 in_X10 (by decide) (by decide) rfl (Or.inl rfl) q1599 hz6 dX10_taskRead_28 ?_
      refine JR_aload_n (pc := 31) (k := 0) (i := 0) (o := some this) G rfl rfl dX10_taskRead_31 ?_
      refine JR_gR (pc := 32) (k := 14) G cl_X10 in_X10 (by decide) (by decide) rfl (Or.inl rfl) q1602 hz6 dX10_taskRead_32 ?_
      refine JR_iconst (pc := 35) G ci_4 dX10_taskRead_35 ?_
      refine J_bd (fun q8 hq8 => ?_)
      refine JR_iaload (pc := 36) G hq8 dX10_taskRead_36 ?_
      refine JR_icmp_ge (pc := 37) (tgt := 61) G dX10_taskRead_37 (by decide) (fun c11 => ?_) (fun c11 => ?_)
      · exact hMo_taskRead_b61 d
      · refine JR_aload_n (pc := 40) (k := 0) (i := 0) (o := some this) G rfl rfl dX10_taskRead_40 ?_
        refine JR_gR (pc := 41) (k := 14) G cl_X10 in_X10 (by decide) (by decide) rfl (Or.inl rfl) q1602 hz6 dX10_taskRead_41 ?_
        refine JR_bipush (pc := 44) (v := 11) G (by decide) dX10_taskRead_44 ?_
        refine JR_bipush (pc := 46) (v := 7) G (by decide) dX10_taskRead_46 ?_
        refine JR_aload_n (pc := 48) (k := 0) (i := 0) (o := some this) G rfl rfl dX10_taskRead_48 ?_
        refine JR_gI (pc := 49) (k := 11) G cl_X10 in_X10 (by decide) (by decide) rfl (Or.inl rfl) q1599 hz6 dX10_taskRead_49 ?_
        refine JR_imul (pc := 52) G dX10_taskRead_52 ?_
        refine JR_iadd (pc := 53) G dX10_taskRead_53 ?_
        refine JR_bipush (pc := 54) (v := 6) G (by decide) dX10_taskRead_54 ?_
        refine JR_iadd (pc := 56) G dX10_taskRead_56 ?_
        refine J_bd (fun q9 hq9 => ?_)
        refine JR_iaload (pc := 57) G hq9 dX10_taskRead_57 ?_
        refine JR_if_ne (pc := 58) (tgt := 66) G dX10_taskRead_58 (by decide) (fun c10 => ?_) (fun c10 => ?_)
        · exact hMo_taskRead_b66 d
        · exact hMo_taskRead_b61 d
  unfold Mo_taskRead
  refine JR_aload_n (pc := 0) (k := 0) (i := 0) (o := some this) G rfl rfl dX10_taskRead_0 ?_
  refine J_bd (fun z1 hz1 => ?_)
  refine JPV_I (pc := 1) (as := []) (st' := []) (o := some this) G (Mo_good_fn this S d) (JC_V (n := 0) G hRm cl_X10 q1819 q1821 qs62 q152 q1822 ⟨rfl, dd_X10_good⟩ ⟨by decide, by decide⟩ dX10_taskRead_1 hz1 rfl (Nat.le_of_ble_eq_true rfl)) rfl (fun r2 hr2 => ?_)
  refine JR_if_eq (pc := 4) (tgt := 20) G dX10_taskRead_4 (by decide) (fun c5 => ?_) (fun c5 => ?_)
  · exact hMo_taskRead_b20 d
  · refine JR_aload_n (pc := 7) (k := 0) (i := 0) (o := some this) G rfl rfl dX10_taskRead_7 ?_
    refine JR_gI (pc := 8) (k := 10) G cl_X10 in_X10 (by decide) (by decide) rfl (Or.inl rfl) q1598 hz1 dX10_taskRead_8 ?_
    refine JR_iconst (pc := 11) G ci_2 dX10_taskRead_11 ?_
    refine JR_icmp_eq (pc := 12) (tgt := 20) G dX10_taskRead_12 (by decide) (fun c4 => ?_) (fun c4 => ?_)
    · exact hMo_taskRead_b20 d
    · refine JR_aload_n (pc := 15) (k := 0) (i := 0) (o := some this) G rfl rfl dX10_taskRead_15 ?_
      refine JR_iconst (pc := 16) G ci_1 dX10_taskRead_16 ?_
      refine JQV_U (pc := 17) (as := [.int 1]) (st' := []) (o := some this) G (Mo_errs_fn this 1 S d) (JC_V (n := 1) G hRm cl_X10 q1855 q1857 qs68 q152 q1858 ⟨rfl, dd_X10_errs⟩ ⟨by decide, by decide⟩ dX10_taskRead_17 hz1 rfl (Nat.le_of_ble_eq_true rfl)) rfl (fun _ _ => rfl) (fun _ d3 hd3 => ?_)
      exact hMo_taskRead_b20 d3

def Mo_readInjection_b189 (this : Nat) (p1 : Int32) (S : Sp) (d : Dt) : Option (Unit × Dt) :=
  (isK S 9 (some this)).bind fun z41 =>
  (aix S 50 (S.2.1 z41 14) 5).bind fun q42 =>
  (some (dI d q42.1 q42.2 ((d.1 q42.1 q42.2) + 1))).bind fun d43 =>
  some ((), d43)
def Mo_readInjection_b171 (this : Nat) (p1 : Int32) (S : Sp) (v2 : Int32) (d : Dt) : Option (Unit × Dt) :=
  (isK S 9 (some this)).bind fun z36 =>
  bind2 (Mo_toldBy this (some (OPQ + 23)) 1 9 S d) fun r37 d38 =>
  (aix S 50 (S.2.1 z36 14) (v2 + 4)).bind fun q39 =>
  (some (dI d38 q39.1 q39.2 r37)).bind fun d40 =>
  Mo_readInjection_b189 this p1 S d40
def Mo_readInjection (this : Nat) (p1 : Int32) (S : Sp) (d : Dt) : Option (Unit × Dt) :=
  (isK S 9 (some this)).bind fun z1 =>
  bind2 (Mo_canTake this 5 8 S d) fun r2 d3 =>
  if ¬ r2 = 0 then
    (aix S 50 (S.2.1 z1 14) 5).bind fun q4 =>
    (some (106 + (5 * (d3.1 q4.1 q4.2)))).bind fun x5 =>
    (aix S 50 (S.2.1 z1 14) x5).bind fun q6 =>
    (some (dI d3 q6.1 q6.2 p1)).bind fun d7 =>
    (aix S 50 (S.2.1 z1 14) (x5 + 3)).bind fun q8 =>
    (some (dI d7 q8.1 q8.2 ((-1)))).bind fun d9 =>
    (aix S 50 (S.2.1 z1 14) (x5 + 4)).bind fun q10 =>
    (some (dI d9 q10.1 q10.2 ((-1)))).bind fun d11 =>
    if ¬ p1 = 5 then
      bind2 (Mo_taskRead this S d11) fun r12 d13 =>
      (aix S 50 (S.2.1 z1 14) (x5 + 1)).bind fun q14 =>
      (some (dI d13 q14.1 q14.2 r12)).bind fun d15 =>
      bind2 (Mo_toldBy this (some (OPQ + 22)) 0 50 S d15) fun r16 d17 =>
      (aix S 50 (S.2.1 z1 14) (x5 + 2)).bind fun q18 =>
      (some (dI d17 q18.1 q18.2 r16)).bind fun d19 =>
      if p1 = 4 then
        Mo_readInjection_b171 this p1 S x5 d19
      else
        (aix S 50 (S.2.1 z1 14) ((11 + (7 * (d19.1 q14.1 q14.2))) + 6)).bind fun q20 =>
        bind2 (Mo_toldBy this (some (OPQ + 19)) 0 ((d19.1 q20.1 q20.2) - 1) S d19) fun r21 d22 =>
        (some (dI d22 q8.1 q8.2 r21)).bind fun d23 =>
        Mo_readInjection_b171 this p1 S x5 d23
    else
      (aix S 50 (S.2.1 z1 14) 3).bind fun q25 =>
      bind2 (Mo_takes this 0 ((d11.1 q25.1 q25.2) - 1) S d11) fun r26 d27 =>
      (aix S 50 (S.2.1 z1 14) (x5 + 1)).bind fun q28 =>
      (some (dI d27 q28.1 q28.2 r26)).bind fun d29 =>
      bind2 (Mo_toldBy this (some (OPQ + 21)) 0 199 S d29) fun r30 d31 =>
      (aix S 50 (S.2.1 z1 14) (x5 + 2)).bind fun q32 =>
      (some (dI d31 q32.1 q32.2 r30)).bind fun d33 =>
      Mo_readInjection_b189 this p1 S d33
  else
    some ((), d3)
set_option maxHeartbeats 4000000 in
theorem Mo_readInjection_fn (this : Nat) (p1 : Int32) (S : Sp) (d : Dt) : Fn yX10_readInjection (ws_ yX10_readInjection cX10_readInjection 3 none) 7 152 [va_rf (some this), .int p1] S d rvU Λw (Mo_readInjection this p1 S d) := by
  refine Fn.ofJ (own := RX10) (lv := [(0, va_rf (some this)), (1, .int p1)]) (by decide +kernel) rfl (by simp [cat_i, cat_l, cat_f, cat_d, rf_cat]) (by simp [lv_args, cat_i, cat_l, cat_f, cat_d, rf_cat]) ?_
  intro X F G hRm hR hI
  have hMo_readInjection_b189 : ∀ (d : Dt), J X F Λw S d 189 [(0, va_rf (some this)), (1, .int p1)] [] (Mo_readInjection_b189 this p1 S d) := by
    intro d
    unfold Mo_readInjection_b189
    refine JR_aload_n (pc := 189) (k := 0) (i := 0) (o := some this) G rfl rfl dX10_readInjection_189 ?_
    refine J_bd (fun z41 hz41 => ?_)
    refine JR_gR (pc := 190) (k := 14) G cl_X10 in_X10 (by decide) (by decide) rfl (Or.inl rfl) q1602 hz41 dX10_readInjection_190 ?_
    refine JR_iconst (pc := 193) G ci_5 dX10_readInjection_193 ?_
    refine JR_dup2 (pc := 194) G rfl (rf_cat _) dX10_readInjection_194 ?_
    refine J_bd (fun q42 hq42 => ?_)
    refine JR_iaload (pc := 195) G hq42 dX10_readInjection_195 ?_
    refine JR_iconst (pc := 196) G ci_1 dX10_readInjection_196 ?_
    refine JR_iadd (pc := 197) G dX10_readInjection_197 ?_
    refine JW_iastore (pc := 198) G hq42 (fun _ => rfl) dX10_readInjection_198 ?_
    refine J_nmD (fun d43 hd43 => ?_)
    exact JR_vret (pc := 199) G hR dX10_readInjection_199 rfl rfl
  have hMo_readInjection_b171 : ∀ (v2 : Int32) (d : Dt), J X F Λw S d 171 [(0, va_rf (some this)), (1, .int p1), (2, .int v2)] [] (Mo_readInjection_b171 this p1 S v2 d) := by
    intro v2 d
    unfold Mo_readInjection_b171
    refine JR_aload_n (pc := 171) (k := 0) (i := 0) (o := some this) G rfl rfl dX10_readInjection_171 ?_
    refine J_bd (fun z36 hz36 => ?_)
    refine JR_gR (pc := 172) (k := 14) G cl_X10 in_X10 (by decide) (by decide) rfl (Or.inl rfl) q1602 hz36 dX10_readInjection_172 ?_
    refine JR_iload_n (pc := 175) (k := 2) (i := 2) G rfl rfl dX10_readInjection_175 ?_
    refine JR_iconst (pc := 176) G ci_4 dX10_readInjection_176 ?_
    refine JR_iadd (pc := 177) G dX10_readInjection_177 ?_
    refine JR_aload_n (pc := 178) (k := 0) (i := 0) (o := some this) G rfl rfl dX10_readInjection_178 ?_
    refine JR_ldcwSM (pc := 179) (i := 286) (j := 23) G (by decide) (by decide) dX10_readInjection_179 ?_
    refine JR_iconst (pc := 182) G ci_1 dX10_readInjection_182 ?_
    refine JR_bipush (pc := 183) (v := 9) G (by decide) dX10_readInjection_183 ?_
    refine JQV_I (pc := 185) (as := [va_rf (some (OPQ + 23)), .int 1, .int 9]) (st' := [.int (v2 + 4), va_rf (S.2.1 z36 14)]) (o := some this) G (Mo_toldBy_fn this (some (OPQ + 23)) 1 9 S d) (JC_V (n := 3) G hRm cl_X10 q1860 q1862 qs69 q152 q1863 ⟨rfl, dd_X10_toldBy⟩ ⟨by decide, by decide⟩ dX10_readInjection_185 hz36 rfl (Nat.le_of_ble_eq_true rfl)) rfl (fun _ _ => rfl) (fun r37 d38 hd38 => ?_)
    refine J_bd (fun q39 hq39 => ?_)
    refine JW_iastore (pc := 188) G hq39 (fun _ => rfl) dX10_readInjection_188 ?_
    refine J_nmD (fun d40 hd40 => ?_)
    refine J_sub [0, 1] rfl ?_
    exact hMo_readInjection_b189 d40
  unfold Mo_readInjection
  refine JR_aload_n (pc := 0) (k := 0) (i := 0) (o := some this) G rfl rfl dX10_readInjection_0 ?_
  refine JR_iconst (pc := 1) G ci_5 dX10_readInjection_1 ?_
  refine JR_bipush (pc := 2) (v := 8) G (by decide) dX10_readInjection_2 ?_
  refine J_bd (fun z1 hz1 => ?_)
  refine JQV_I (pc := 4) (as := [.int 5, .int 8]) (st' := []) (o := some this) G (Mo_canTake_fn this 5 8 S d) (JC_V (n := 2) G hRm cl_X10 q1875 q1877 qs72 q152 q1878 ⟨rfl, dd_X10_canTake⟩ ⟨by decide, by decide⟩ dX10_readInjection_4 hz1 rfl (Nat.le_of_ble_eq_true rfl)) rfl (fun _ _ => rfl) (fun r2 d3 hd3 => ?_)
  refine JR_if_ne (pc := 7) (tgt := 11) G dX10_readInjection_7 (by decide) (fun c35 => ?_) (fun c35 => ?_)
  · refine JR_bipush (pc := 11) (v := 106) G (by decide) dX10_readInjection_11 ?_
    refine JR_iconst (pc := 13) G ci_5 dX10_readInjection_13 ?_
    refine JR_aload_n (pc := 14) (k := 0) (i := 0) (o := some this) G rfl rfl dX10_readInjection_14 ?_
    refine JR_gR (pc := 15) (k := 14) G cl_X10 in_X10 (by decide) (by decide) rfl (Or.inl rfl) q1602 hz1 dX10_readInjection_15 ?_
    refine JR_iconst (pc := 18) G ci_5 dX10_readInjection_18 ?_
    refine J_bd (fun q4 hq4 => ?_)
    refine JR_iaload (pc := 19) G hq4 dX10_readInjection_19 ?_
    refine JR_imul (pc := 20) G dX10_readInjection_20 ?_
    refine JR_iadd (pc := 21) G dX10_readInjection_21 ?_
    refine J_nm (fun x5 hx5 => ?_)
    refine JR_istore_n (pc := 22) (k := 2) (i := 2) (lv' := [(2, .int x5), (0, va_rf (some this)), (1, .int p1)]) G rfl (by decide) rfl dX10_readInjection_22 ?_
    refine JR_aload_n (pc := 23) (k := 0) (i := 0) (o := some this) G rfl rfl dX10_readInjection_23 ?_
    refine JR_gR (pc := 24) (k := 14) G cl_X10 in_X10 (by decide) (by decide) rfl (Or.inl rfl) q1602 hz1 dX10_readInjection_24 ?_
    refine JR_iload_n (pc := 27) (k := 2) (i := 2) G rfl rfl dX10_readInjection_27 ?_
    refine JR_iload_n (pc := 28) (k := 1) (i := 1) G rfl rfl dX10_readInjection_28 ?_
    refine J_bd (fun q6 hq6 => ?_)
    refine JW_iastore (pc := 29) G hq6 (fun _ => rfl) dX10_readInjection_29 ?_
    refine J_nmD (fun d7 hd7 => ?_)
    refine JR_aload_n (pc := 30) (k := 0) (i := 0) (o := some this) G rfl rfl dX10_readInjection_30 ?_
    refine JR_gR (pc := 31) (k := 14) G cl_X10 in_X10 (by decide) (by decide) rfl (Or.inl rfl) q1602 hz1 dX10_readInjection_31 ?_
    refine JR_iload_n (pc := 34) (k := 2) (i := 2) G rfl rfl dX10_readInjection_34 ?_
    refine JR_iconst (pc := 35) G ci_3 dX10_readInjection_35 ?_
    refine JR_iadd (pc := 36) G dX10_readInjection_36 ?_
    refine JR_iconst (pc := 37) G ci_m1 dX10_readInjection_37 ?_
    refine J_bd (fun q8 hq8 => ?_)
    refine JW_iastore (pc := 38) G hq8 (fun _ => rfl) dX10_readInjection_38 ?_
    refine J_nmD (fun d9 hd9 => ?_)
    refine JR_aload_n (pc := 39) (k := 0) (i := 0) (o := some this) G rfl rfl dX10_readInjection_39 ?_
    refine JR_gR (pc := 40) (k := 14) G cl_X10 in_X10 (by decide) (by decide) rfl (Or.inl rfl) q1602 hz1 dX10_readInjection_40 ?_
    refine JR_iload_n (pc := 43) (k := 2) (i := 2) G rfl rfl dX10_readInjection_43 ?_
    refine JR_iconst (pc := 44) G ci_4 dX10_readInjection_44 ?_
    refine JR_iadd (pc := 45) G dX10_readInjection_45 ?_
    refine JR_iconst (pc := 46) G ci_m1 dX10_readInjection_46 ?_
    refine J_bd (fun q10 hq10 => ?_)
    refine JW_iastore (pc := 47) G hq10 (fun _ => rfl) dX10_readInjection_47 ?_
    refine J_nmD (fun d11 hd11 => ?_)
    refine JR_iload_n (pc := 48) (k := 1) (i := 1) G rfl rfl dX10_readInjection_48 ?_
    refine JR_iconst (pc := 49) G ci_5 dX10_readInjection_49 ?_
    refine JR_icmp_ne (pc := 50) (tgt := 96) G dX10_readInjection_50 (by decide) (fun c34 => ?_) (fun c34 => ?_)
    · refine JR_aload_n (pc := 96) (k := 0) (i := 0) (o := some this) G rfl rfl dX10_readInjection_96 ?_
      refine JR_gR (pc := 97) (k := 14) G cl_X10 in_X10 (by decide) (by decide) rfl (Or.inl rfl) q1602 hz1 dX10_readInjection_97 ?_
      refine JR_iload_n (pc := 100) (k := 2) (i := 2) G rfl rfl dX10_readInjection_100 ?_
      refine JR_iconst (pc := 101) G ci_1 dX10_readInjection_101 ?_
      refine JR_iadd (pc := 102) G dX10_readInjection_102 ?_
      refine JR_aload_n (pc := 103) (k := 0) (i := 0) (o := some this) G rfl rfl dX10_readInjection_103 ?_
      refine JQV_I (pc := 104) (as := []) (st' := [.int (x5 + 1), va_rf (S.2.1 z1 14)]) (o := some this) G (Mo_taskRead_fn this S d11) (JC_V (n := 0) G hRm cl_X10 q1906 q1908 qs77 q152 q1909 ⟨rfl, dd_X10_taskRead⟩ ⟨by decide, by decide⟩ dX10_readInjection_104 hz1 rfl (Nat.le_of_ble_eq_true rfl)) rfl (fun _ _ => rfl) (fun r12 d13 hd13 => ?_)
      refine J_bd (fun q14 hq14 => ?_)
      refine JW_iastore (pc := 107) G hq14 (fun _ => rfl) dX10_readInjection_107 ?_
      refine J_nmD (fun d15 hd15 => ?_)
      refine JR_aload_n (pc := 108) (k := 0) (i := 0) (o := some this) G rfl rfl dX10_readInjection_108 ?_
      refine JR_gR (pc := 109) (k := 14) G cl_X10 in_X10 (by decide) (by decide) rfl (Or.inl rfl) q1602 hz1 dX10_readInjection_109 ?_
      refine JR_iload_n (pc := 112) (k := 2) (i := 2) G rfl rfl dX10_readInjection_112 ?_
      refine JR_iconst (pc := 113) G ci_2 dX10_readInjection_113 ?_
      refine JR_iadd (pc := 114) G dX10_readInjection_114 ?_
      refine JR_aload_n (pc := 115) (k := 0) (i := 0) (o := some this) G rfl rfl dX10_readInjection_115 ?_
      refine JR_ldcwSM (pc := 116) (i := 283) (j := 22) G (by decide) (by decide) dX10_readInjection_116 ?_
      refine JR_iconst (pc := 119) G ci_0 dX10_readInjection_119 ?_
      refine JR_bipush (pc := 120) (v := 50) G (by decide) dX10_readInjection_120 ?_
      refine JQV_I (pc := 122) (as := [va_rf (some (OPQ + 22)), .int 0, .int 50]) (st' := [.int (x5 + 2), va_rf (S.2.1 z1 14)]) (o := some this) G (Mo_toldBy_fn this (some (OPQ + 22)) 0 50 S d15) (JC_V (n := 3) G hRm cl_X10 q1860 q1862 qs69 q152 q1863 ⟨rfl, dd_X10_toldBy⟩ ⟨by decide, by decide⟩ dX10_readInjection_122 hz1 rfl (Nat.le_of_ble_eq_true rfl)) rfl (fun _ _ => rfl) (fun r16 d17 hd17 => ?_)
      refine J_bd (fun q18 hq18 => ?_)
      refine JW_iastore (pc := 125) G hq18 (fun _ => rfl) dX10_readInjection_125 ?_
      refine J_nmD (fun d19 hd19 => ?_)
      refine JR_iload_n (pc := 126) (k := 1) (i := 1) G rfl rfl dX10_readInjection_126 ?_
      refine JR_iconst (pc := 127) G ci_4 dX10_readInjection_127 ?_
      refine JR_icmp_eq (pc := 128) (tgt := 171) G dX10_readInjection_128 (by decide) (fun c24 => ?_) (fun c24 => ?_)
      · refine J_sub [1, 2, 0] rfl ?_
        exact hMo_readInjection_b171 x5 d19
      · refine JR_aload_n (pc := 131) (k := 0) (i := 0) (o := some this) G rfl rfl dX10_readInjection_131 ?_
        refine JR_gR (pc := 132) (k := 14) G cl_X10 in_X10 (by decide) (by decide) rfl (Or.inl rfl) q1602 hz1 dX10_readInjection_132 ?_
        refine JR_iload_n (pc := 135) (k := 2) (i := 2) G rfl rfl dX10_readInjection_135 ?_
        refine JR_iconst (pc := 136) G ci_3 dX10_readInjection_136 ?_
        refine JR_iadd (pc := 137) G dX10_readInjection_137 ?_
        refine JR_aload_n (pc := 138) (k := 0) (i := 0) (o := some this) G rfl rfl dX10_readInjection_138 ?_
        refine JR_ldcwSM (pc := 139) (i := 284) (j := 19) G (by decide) (by decide) dX10_readInjection_139 ?_
        refine JR_iconst (pc := 142) G ci_0 dX10_readInjection_142 ?_
        refine JR_aload_n (pc := 143) (k := 0) (i := 0) (o := some this) G rfl rfl dX10_readInjection_143 ?_
        refine JR_gR (pc := 144) (k := 14) G cl_X10 in_X10 (by decide) (by decide) rfl (Or.inl rfl) q1602 hz1 dX10_readInjection_144 ?_
        refine JR_bipush (pc := 147) (v := 11) G (by decide) dX10_readInjection_147 ?_
        refine JR_bipush (pc := 149) (v := 7) G (by decide) dX10_readInjection_149 ?_
        refine JR_aload_n (pc := 151) (k := 0) (i := 0) (o := some this) G rfl rfl dX10_readInjection_151 ?_
        refine JR_gR (pc := 152) (k := 14) G cl_X10 in_X10 (by decide) (by decide) rfl (Or.inl rfl) q1602 hz1 dX10_readInjection_152 ?_
        refine JR_iload_n (pc := 155) (k := 2) (i := 2) G rfl rfl dX10_readInjection_155 ?_
        refine JR_iconst (pc := 156) G ci_1 dX10_readInjection_156 ?_
        refine JR_iadd (pc := 157) G dX10_readInjection_157 ?_
        refine JR_iaload (pc := 158) G hq14 dX10_readInjection_158 ?_
        refine JR_imul (pc := 159) G dX10_readInjection_159 ?_
        refine JR_iadd (pc := 160) G dX10_readInjection_160 ?_
        refine JR_bipush (pc := 161) (v := 6) G (by decide) dX10_readInjection_161 ?_
        refine JR_iadd (pc := 163) G dX10_readInjection_163 ?_
        refine J_bd (fun q20 hq20 => ?_)
        refine JR_iaload (pc := 164) G hq20 dX10_readInjection_164 ?_
        refine JR_iconst (pc := 165) G ci_1 dX10_readInjection_165 ?_
        refine JR_isub (pc := 166) G dX10_readInjection_166 ?_
        refine JQV_I (pc := 167) (as := [va_rf (some (OPQ + 19)), .int 0, .int ((d19.1 q20.1 q20.2) - 1)]) (st' := [.int (x5 + 3), va_rf (S.2.1 z1 14)]) (o := some this) G (Mo_toldBy_fn this (some (OPQ + 19)) 0 ((d19.1 q20.1 q20.2) - 1) S d19) (JC_V (n := 3) G hRm cl_X10 q1860 q1862 qs69 q152 q1863 ⟨rfl, dd_X10_toldBy⟩ ⟨by decide, by decide⟩ dX10_readInjection_167 hz1 rfl (Nat.le_of_ble_eq_true rfl)) rfl (fun _ _ => rfl) (fun r21 d22 hd22 => ?_)
        refine JW_iastore (pc := 170) G hq8 (fun _ => rfl) dX10_readInjection_170 ?_
        refine J_nmD (fun d23 hd23 => ?_)
        refine J_sub [1, 2, 0] rfl ?_
        exact hMo_readInjection_b171 x5 d23
    · refine JR_aload_n (pc := 53) (k := 0) (i := 0) (o := some this) G rfl rfl dX10_readInjection_53 ?_
      refine JR_gR (pc := 54) (k := 14) G cl_X10 in_X10 (by decide) (by decide) rfl (Or.inl rfl) q1602 hz1 dX10_readInjection_54 ?_
      refine JR_iload_n (pc := 57) (k := 2) (i := 2) G rfl rfl dX10_readInjection_57 ?_
      refine JR_iconst (pc := 58) G ci_1 dX10_readInjection_58 ?_
      refine JR_iadd (pc := 59) G dX10_readInjection_59 ?_
      refine JR_aload_n (pc := 60) (k := 0) (i := 0) (o := some this) G rfl rfl dX10_readInjection_60 ?_
      refine JR_iconst (pc := 61) G ci_0 dX10_readInjection_61 ?_
      refine JR_aload_n (pc := 62) (k := 0) (i := 0) (o := some this) G rfl rfl dX10_readInjection_62 ?_
      refine JR_gR (pc := 63) (k := 14) G cl_X10 in_X10 (by decide) (by decide) rfl (Or.inl rfl) q1602 hz1 dX10_readInjection_63 ?_
      refine JR_iconst (pc := 66) G ci_3 dX10_readInjection_66 ?_
      refine J_bd (fun q25 hq25 => ?_)
      refine JR_iaload (pc := 67) G hq25 dX10_readInjection_67 ?_
      refine JR_iconst (pc := 68) G ci_1 dX10_readInjection_68 ?_
      refine JR_isub (pc := 69) G dX10_readInjection_69 ?_
      refine JQV_I (pc := 70) (as := [.int 0, .int ((d11.1 q25.1 q25.2) - 1)]) (st' := [.int (x5 + 1), va_rf (S.2.1 z1 14)]) (o := some this) G (Mo_takes_fn this 0 ((d11.1 q25.1 q25.2) - 1) S d11) (JC_V (n := 2) G hRm cl_X10 q1864 q1866 qs70 q152 q1867 ⟨rfl, dd_X10_takes⟩ ⟨by decide, by decide⟩ dX10_readInjection_70 hz1 rfl (Nat.le_of_ble_eq_true rfl)) rfl (fun _ _ => rfl) (fun r26 d27 hd27 => ?_)
      refine J_bd (fun q28 hq28 => ?_)
      refine JW_iastore (pc := 73) G hq28 (fun _ => rfl) dX10_readInjection_73 ?_
      refine J_nmD (fun d29 hd29 => ?_)
      refine JR_aload_n (pc := 74) (k := 0) (i := 0) (o := some this) G rfl rfl dX10_readInjection_74 ?_
      refine JR_gR (pc := 75) (k := 14) G cl_X10 in_X10 (by decide) (by decide) rfl (Or.inl rfl) q1602 hz1 dX10_readInjection_75 ?_
      refine JR_iload_n (pc := 78) (k := 2) (i := 2) G rfl rfl dX10_readInjection_78 ?_
      refine JR_iconst (pc := 79) G ci_2 dX10_readInjection_79 ?_
      refine JR_iadd (pc := 80) G dX10_readInjection_80 ?_
      refine JR_aload_n (pc := 81) (k := 0) (i := 0) (o := some this) G rfl rfl dX10_readInjection_81 ?_
      refine JR_ldcwSM (pc := 82) (i := 278) (j := 21) G (by decide) (by decide) dX10_readInjection_82 ?_
      refine JR_iconst (pc := 85) G ci_0 dX10_readInjection_85 ?_
      refine JR_sipush (pc := 86) (v := 199) G (by decide) dX10_readInjection_86 ?_
      refine JQV_I (pc := 89) (as := [va_rf (some (OPQ + 21)), .int 0, .int 199]) (st' := [.int (x5 + 2), va_rf (S.2.1 z1 14)]) (o := some this) G (Mo_toldBy_fn this (some (OPQ + 21)) 0 199 S d29) (JC_V (n := 3) G hRm cl_X10 q1860 q1862 qs69 q152 q1863 ⟨rfl, dd_X10_toldBy⟩ ⟨by decide, by decide⟩ dX10_readInjection_89 hz1 rfl (Nat.le_of_ble_eq_true rfl)) rfl (fun _ _ => rfl) (fun r30 d31 hd31 => ?_)
      refine J_bd (fun q32 hq32 => ?_)
      refine JW_iastore (pc := 92) G hq32 (fun _ => rfl) dX10_readInjection_92 ?_
      refine J_nmD (fun d33 hd33 => ?_)
      refine JR_goto (pc := 93) (tgt := 189) G dX10_readInjection_93 (by decide) ?_
      refine J_sub [1, 2] rfl ?_
      exact hMo_readInjection_b189 d33
  · exact JR_vret (pc := 10) G hR dX10_readInjection_10 rfl rfl

def Mo_readText_b122 (this : Nat) (S : Sp) (d : Dt) : Option (Unit × Dt) :=
  (isK S 9 (some this)).bind fun z27 =>
  (aix S 50 (S.2.1 z27 14) 7).bind fun q28 =>
  (some (dI d q28.1 q28.2 ((d.1 q28.1 q28.2) + 1))).bind fun d29 =>
  some ((), d29)
def Mo_readText_b111 (this : Nat) (S : Sp) (d : Dt) : Option (Unit × Dt) :=
  (isK S 9 (some this)).bind fun z23 =>
  (Mo_good this S d).bind fun r24 =>
  if r24 = 0 then
    Mo_readText_b122 this S d
  else
    bind2 (Mo_advance this S d) fun _ d25 =>
    Mo_readText_b122 this S d25
def Mo_readText_b91 (this : Nat) (S : Sp) (d : Dt) : Option (Unit × Dt) :=
  (isK S 9 (some this)).bind fun z18 =>
  (Mo_good this S d).bind fun r19 =>
  if r19 = 0 then
    Mo_readText_b111 this S d
  else
    if (d.1 z18 10) = 3 then
      Mo_readText_b111 this S d
    else
      bind2 (Mo_errs this 1 S d) fun _ d20 =>
      Mo_readText_b111 this S d20
def Mo_readText (this : Nat) (S : Sp) (d : Dt) : Option (Unit × Dt) :=
  (isK S 9 (some this)).bind fun z1 =>
  (Mo_kindRead this S d).bind fun r2 =>
  (aix S 50 (S.2.1 z1 14) 7).bind fun q3 =>
  if ¬ (d.1 q3.1 q3.2) = 0 then
    (Mo_is this (some (OPQ + 10)) S d).bind fun r4 =>
    if r4 = 0 then
      (Mo_is this (some (OPQ + 13)) S d).bind fun r5 =>
      if r5 = 0 then
        (Mo_is this (some (OPQ + 19)) S d).bind fun r6 =>
        if r6 = 0 then
          if r2 = ((-1)) then
            bind2 (Mo_errs this 1 S d) fun _ d7 =>
            Mo_readText_b91 this S d7
          else
            bind2 (Mo_readInjection this r2 S d) fun _ d8 =>
            Mo_readText_b91 this S d8
        else
          bind2 (Mo_readNode this S d) fun _ d10 =>
          Mo_readText_b91 this S d10
      else
        bind2 (Mo_readTask this S d) fun _ d12 =>
        Mo_readText_b91 this S d12
    else
      bind2 (Mo_readWatcher this S d) fun _ d14 =>
      Mo_readText_b91 this S d14
  else
    bind2 (Mo_readBoard this S d) fun _ d16 =>
    Mo_readText_b91 this S d16
set_option maxHeartbeats 4000000 in
theorem Mo_readText_fn (this : Nat) (S : Sp) (d : Dt) : Fn yX10_readText (ws_ yX10_readText cX10_readText 2 none) 8 174 [va_rf (some this)] S d rvU Λw (Mo_readText this S d) := by
  refine Fn.ofJ (own := RX10) (lv := [(0, va_rf (some this))]) (by decide +kernel) rfl (by simp [cat_i, cat_l, cat_f, cat_d, rf_cat]) (by simp [lv_args, cat_i, cat_l, cat_f, cat_d, rf_cat]) ?_
  intro X F G hRm hR hI
  have hMo_readText_b122 : ∀ (d : Dt), J X F Λw S d 122 [(0, va_rf (some this))] [] (Mo_readText_b122 this S d) := by
    intro d
    unfold Mo_readText_b122
    refine JR_aload_n (pc := 122) (k := 0) (i := 0) (o := some this) G rfl rfl dX10_readText_122 ?_
    refine J_bd (fun z27 hz27 => ?_)
    refine JR_gR (pc := 123) (k := 14) G cl_X10 in_X10 (by decide) (by decide) rfl (Or.inl rfl) q1602 hz27 dX10_readText_123 ?_
    refine JR_bipush (pc := 126) (v := 7) G (by decide) dX10_readText_126 ?_
    refine JR_dup2 (pc := 128) G rfl (rf_cat _) dX10_readText_128 ?_
    refine J_bd (fun q28 hq28 => ?_)
    refine JR_iaload (pc := 129) G hq28 dX10_readText_129 ?_
    refine JR_iconst (pc := 130) G ci_1 dX10_readText_130 ?_
    refine JR_iadd (pc := 131) G dX10_readText_131 ?_
    refine JW_iastore (pc := 132) G hq28 (fun _ => rfl) dX10_readText_132 ?_
    refine J_nmD (fun d29 hd29 => ?_)
    exact JR_vret (pc := 133) G hR dX10_readText_133 rfl rfl
  have hMo_readText_b111 : ∀ (d : Dt), J X F Λw S d 111 [(0, va_rf (some this))] [] (Mo_readText_b111 this S d) := by
    intro d
    unfold Mo_readText_b111
    refine JR_aload_n (pc := 111) (k := 0) (i := 0) (o := some this) G rfl rfl dX10_readText_111 ?_
    refine J_bd (fun z23 hz23 => ?_)
    refine JPV_I (pc := 112) (as := []) (st' := []) (o := some this) G (Mo_good_fn this S d) (JC_V (n := 0) G hRm cl_X10 q1819 q1821 qs62 q152 q1822 ⟨rfl, dd_X10_good⟩ ⟨by decide, by decide⟩ dX10_readText_112 hz23 rfl (Nat.le_of_ble_eq_true rfl)) rfl (fun r24 hr24 => ?_)
    refine JR_if_eq (pc := 115) (tgt := 122) G dX10_readText_115 (by decide) (fun c26 => ?_) (fun c26 => ?_)
    · exact hMo_readText_b122 d
    · refine JR_aload_n (pc := 118) (k := 0) (i := 0) (o := some this) G rfl rfl dX10_readText_118 ?_
      refine JQV_U (pc := 119) (as := []) (st' := []) (o := some this) G (Mo_advance_fn this S d) (JC_V (n := 0) G hRm cl_X10 q1805 q1807 qs60 q152 q1808 ⟨rfl, dd_X10_advance⟩ ⟨by decide, by decide⟩ dX10_readText_119 hz23 rfl (Nat.le_of_ble_eq_true rfl)) rfl (fun _ _ => rfl) (fun _ d25 hd25 => ?_)
      exact hMo_readText_b122 d25
  have hMo_readText_b91 : ∀ (d : Dt), J X F Λw S d 91 [(0, va_rf (some this))] [] (Mo_readText_b91 this S d) := by
    intro d
    unfold Mo_readText_b91
    refine JR_aload_n (pc := 91) (k := 0) (i := 0) (o := some this) G rfl rfl dX10_readText_91 ?_
    refine J_bd (fun z18 hz18 => ?_)
    refine JPV_I (pc := 92) (as := []) (st' := []) (o := some this) G (Mo_good_fn this S d) (JC_V (n := 0) G hRm cl_X10 q1819 q1821 qs62 q152 q1822 ⟨rfl, dd_X10_good⟩ ⟨by decide, by decide⟩ dX10_readText_92 hz18 rfl (Nat.le_of_ble_eq_true rfl)) rfl (fun r19 hr19 => ?_)
    refine JR_if_eq (pc := 95) (tgt := 111) G dX10_readText_95 (by decide) (fun c22 => ?_) (fun c22 => ?_)
    · exact hMo_readText_b111 d
    · refine JR_aload_n (pc := 98) (k := 0) (i := 0) (o := some this) G rfl rfl dX10_readText_98 ?_
      refine JR_gI (pc := 99) (k := 10) G cl_X10 in_X10 (by decide) (by decide) rfl (Or.inl rfl) q1598 hz18 dX10_readText_99 ?_
      refine JR_iconst (pc := 102) G ci_3 dX10_readText_102 ?_
      refine JR_icmp_eq (pc := 103) (tgt := 111) G dX10_readText_103 (by decide) (fun c21 => ?_) (fun c21 => ?_)
      · exact hMo_readText_b111 d
      · refine JR_aload_n (pc := 106) (k := 0) (i := 0) (o := some this) G rfl rfl dX10_readText_106 ?_
        refine JR_iconst (pc := 107) G ci_1 dX10_readText_107 ?_
        refine JQV_U (pc := 108) (as := [.int 1]) (st' := []) (o := some this) G (Mo_errs_fn this 1 S d) (JC_V (n := 1) G hRm cl_X10 q1855 q1857 qs68 q152 q1858 ⟨rfl, dd_X10_errs⟩ ⟨by decide, by decide⟩ dX10_readText_108 hz18 rfl (Nat.le_of_ble_eq_true rfl)) rfl (fun _ _ => rfl) (fun _ d20 hd20 => ?_)
        exact hMo_readText_b111 d20
  unfold Mo_readText
  refine JR_aload_n (pc := 0) (k := 0) (i := 0) (o := some this) G rfl rfl dX10_readText_0 ?_
  refine J_bd (fun z1 hz1 => ?_)
  refine JPV_I (pc := 1) (as := []) (st' := []) (o := some this) G (Mo_kindRead_fn this S d) (JC_V (n := 0) G hRm cl_X10 q1827 q1829 qs64 q152 q1830 ⟨rfl, dd_X10_kindRead⟩ ⟨by decide, by decide⟩ dX10_readText_1 hz1 rfl (Nat.le_of_ble_eq_true rfl)) rfl (fun r2 hr2 => ?_)
  refine JR_istore_n (pc := 4) (k := 1) (i := 1) (lv' := [(1, .int r2), (0, va_rf (some this))]) G rfl (by decide) rfl dX10_readText_4 ?_
  refine JR_aload_n (pc := 5) (k := 0) (i := 0) (o := some this) G rfl rfl dX10_readText_5 ?_
  refine JR_gR (pc := 6) (k := 14) G cl_X10 in_X10 (by decide) (by decide) rfl (Or.inl rfl) q1602 hz1 dX10_readText_6 ?_
  refine JR_bipush (pc := 9) (v := 7) G (by decide) dX10_readText_9 ?_
  refine J_bd (fun q3 hq3 => ?_)
  refine JR_iaload (pc := 11) G hq3 dX10_readText_11 ?_
  refine JR_if_ne (pc := 12) (tgt := 22) G dX10_readText_12 (by decide) (fun c17 => ?_) (fun c17 => ?_)
  · refine JR_aload_n (pc := 22) (k := 0) (i := 0) (o := some this) G rfl rfl dX10_readText_22 ?_
    refine JR_ldcwSM (pc := 23) (i := 298) (j := 10) G (by decide) (by decide) dX10_readText_23 ?_
    refine JPV_I (pc := 26) (as := [va_rf (some (OPQ + 10))]) (st' := []) (o := some this) G (Mo_is_fn this (some (OPQ + 10)) S d) (JC_V (n := 1) G hRm cl_X10 q1840 q1842 qs65 q152 q1843 ⟨rfl, dd_X10_is⟩ ⟨by decide, by decide⟩ dX10_readText_26 hz1 rfl (Nat.le_of_ble_eq_true rfl)) rfl (fun r4 hr4 => ?_)
    refine JR_if_eq (pc := 29) (tgt := 39) G dX10_readText_29 (by decide) (fun c15 => ?_) (fun c15 => ?_)
    · refine JR_aload_n (pc := 39) (k := 0) (i := 0) (o := some this) G rfl rfl dX10_readText_39 ?_
      refine JR_ldcwSM (pc := 40) (i := 303) (j := 13) G (by decide) (by decide) dX10_readText_40 ?_
      refine JPV_I (pc := 43) (as := [va_rf (some (OPQ + 13))]) (st' := []) (o := some this) G (Mo_is_fn this (some (OPQ + 13)) S d) (JC_V (n := 1) G hRm cl_X10 q1840 q1842 qs65 q152 q1843 ⟨rfl, dd_X10_is⟩ ⟨by decide, by decide⟩ dX10_readText_43 hz1 rfl (Nat.le_of_ble_eq_true rfl)) rfl (fun r5 hr5 => ?_)
      refine JR_if_eq (pc := 46) (tgt := 56) G dX10_readText_46 (by decide) (fun c13 => ?_) (fun c13 => ?_)
      · refine JR_aload_n (pc := 56) (k := 0) (i := 0) (o := some this) G rfl rfl dX10_readText_56 ?_
        refine JR_ldcwSM (pc := 57) (i := 284) (j := 19) G (by decide) (by decide) dX10_readText_57 ?_
        refine JPV_I (pc := 60) (as := [va_rf (some (OPQ + 19))]) (st' := []) (o := some this) G (Mo_is_fn this (some (OPQ + 19)) S d) (JC_V (n := 1) G hRm cl_X10 q1840 q1842 qs65 q152 q1843 ⟨rfl, dd_X10_is⟩ ⟨by decide, by decide⟩ dX10_readText_60 hz1 rfl (Nat.le_of_ble_eq_true rfl)) rfl (fun r6 hr6 => ?_)
        refine JR_if_eq (pc := 63) (tgt := 73) G dX10_readText_63 (by decide) (fun c11 => ?_) (fun c11 => ?_)
        · refine JR_iload_n (pc := 73) (k := 1) (i := 1) G rfl rfl dX10_readText_73 ?_
          refine JR_iconst (pc := 74) G ci_m1 dX10_readText_74 ?_
          refine JR_icmp_eq (pc := 75) (tgt := 86) G dX10_readText_75 (by decide) (fun c9 => ?_) (fun c9 => ?_)
          · refine JR_aload_n (pc := 86) (k := 0) (i := 0) (o := some this) G rfl rfl dX10_readText_86 ?_
            refine JR_iconst (pc := 87) G ci_1 dX10_readText_87 ?_
            refine JQV_U (pc := 88) (as := [.int 1]) (st' := []) (o := some this) G (Mo_errs_fn this 1 S d) (JC_V (n := 1) G hRm cl_X10 q1855 q1857 qs68 q152 q1858 ⟨rfl, dd_X10_errs⟩ ⟨by decide, by decide⟩ dX10_readText_88 hz1 rfl (Nat.le_of_ble_eq_true rfl)) rfl (fun _ _ => rfl) (fun _ d7 hd7 => ?_)
            refine J_sub [1] rfl ?_
            exact hMo_readText_b91 d7
          · refine JR_aload_n (pc := 78) (k := 0) (i := 0) (o := some this) G rfl rfl dX10_readText_78 ?_
            refine JR_iload_n (pc := 79) (k := 1) (i := 1) G rfl rfl dX10_readText_79 ?_
            refine JQV_U (pc := 80) (as := [.int r2]) (st' := []) (o := some this) G (Mo_readInjection_fn this r2 S d) (JC_V (n := 1) G hRm cl_X10 q1901 q1903 qs76 q152 q1904 ⟨rfl, dd_X10_readInjection⟩ ⟨by decide, by decide⟩ dX10_readText_80 hz1 rfl (Nat.le_of_ble_eq_true rfl)) rfl (fun _ _ => rfl) (fun _ d8 hd8 => ?_)
            refine JR_goto (pc := 83) (tgt := 91) G dX10_readText_83 (by decide) ?_
            refine J_sub [1] rfl ?_
            exact hMo_readText_b91 d8
        · refine JR_aload_n (pc := 66) (k := 0) (i := 0) (o := some this) G rfl rfl dX10_readText_66 ?_
          refine JQV_U (pc := 67) (as := []) (st' := []) (o := some this) G (Mo_readNode_fn this S d) (JC_V (n := 0) G hRm cl_X10 q1892 q1894 qs74 q152 q1895 ⟨rfl, dd_X10_readNode⟩ ⟨by decide, by decide⟩ dX10_readText_67 hz1 rfl (Nat.le_of_ble_eq_true rfl)) rfl (fun _ _ => rfl) (fun _ d10 hd10 => ?_)
          refine JR_goto (pc := 70) (tgt := 91) G dX10_readText_70 (by decide) ?_
          refine J_sub [1] rfl ?_
          exact hMo_readText_b91 d10
      · refine JR_aload_n (pc := 49) (k := 0) (i := 0) (o := some this) G rfl rfl dX10_readText_49 ?_
        refine JQV_U (pc := 50) (as := []) (st' := []) (o := some this) G (Mo_readTask_fn this S d) (JC_V (n := 0) G hRm cl_X10 q1882 q1884 qs73 q152 q1885 ⟨rfl, dd_X10_readTask⟩ ⟨by decide, by decide⟩ dX10_readText_50 hz1 rfl (Nat.le_of_ble_eq_true rfl)) rfl (fun _ _ => rfl) (fun _ d12 hd12 => ?_)
        refine JR_goto (pc := 53) (tgt := 91) G dX10_readText_53 (by decide) ?_
        refine J_sub [1] rfl ?_
        exact hMo_readText_b91 d12
    · refine JR_aload_n (pc := 32) (k := 0) (i := 0) (o := some this) G rfl rfl dX10_readText_32 ?_
      refine JQV_U (pc := 33) (as := []) (st' := []) (o := some this) G (Mo_readWatcher_fn this S d) (JC_V (n := 0) G hRm cl_X10 q1871 q1873 qs71 q152 q1874 ⟨rfl, dd_X10_readWatcher⟩ ⟨by decide, by decide⟩ dX10_readText_33 hz1 rfl (Nat.le_of_ble_eq_true rfl)) rfl (fun _ _ => rfl) (fun _ d14 hd14 => ?_)
      refine JR_goto (pc := 36) (tgt := 91) G dX10_readText_36 (by decide) ?_
      refine J_sub [1] rfl ?_
      exact hMo_readText_b91 d14
  · refine JR_aload_n (pc := 15) (k := 0) (i := 0) (o := some this) G rfl rfl dX10_readText_15 ?_
    refine JQV_U (pc := 16) (as := []) (st' := []) (o := some this) G (Mo_readBoard_fn this S d) (JC_V (n := 0) G hRm cl_X10 q1846 q1848 qs66 q152 q1849 ⟨rfl, dd_X10_readBoard⟩ ⟨by decide, by decide⟩ dX10_readText_16 hz1 rfl (Nat.le_of_ble_eq_true rfl)) rfl (fun _ _ => rfl) (fun _ d16 hd16 => ?_)
    refine JR_goto (pc := 19) (tgt := 91) G dX10_readText_19 (by decide) ?_
    refine J_sub [1] rfl ?_
    exact hMo_readText_b91 d16

def Mo_board_h143 (this : Nat) (S : Sp) : Nat → Int32 → Dt → Option (Int32 × Dt)
  | 0, _, _ => none
  | f + 1, v1, d =>
    if 201 ≤ v1 then
      (isK S 9 (some this)).bind fun z30 =>
      (aix S 50 (S.2.1 z30 1) 7).bind fun q31 =>
      some (d.1 q31.1 q31.2, d)
    else
      (isK S 9 (some this)).bind fun z32 =>
      (aix S 50 (S.2.1 z32 14) v1).bind fun q33 =>
      (aix S 50 (S.2.1 z32 1) v1).bind fun q34 =>
      (some (dI d q34.1 q34.2 (d.1 q33.1 q33.2))).bind fun d35 =>
      Mo_board_h143 this S f (v1 + 1) d35
def Mo_board_b131 (this : Nat) (S : Sp) (d : Dt) : Option (Int32 × Dt) :=
  (isK S 9 (some this)).bind fun z27 =>
  (Mo_good this S d).bind fun r28 =>
  if ¬ r28 = 0 then
    Mo_board_h143 this S FU 0 d
  else
    some ((-4), d)
def Mo_board_h77 (this : Nat) (S : Sp) : Nat → Int32 → Dt → Option (Int32 × Dt)
  | 0, _, _ => none
  | f + 1, v1, d =>
    (isK S 9 (some this)).bind fun z18 =>
    (aix S 50 (S.2.1 z18 14) 4).bind fun q19 =>
    if (d.1 q19.1 q19.2) ≤ v1 then
      Mo_board_b131 this S d
    else
      (Mo_good this S d).bind fun r20 =>
      if r20 = 0 then
        Mo_board_b131 this S d
      else
        (aix S 50 (S.2.1 z18 14) ((11 + (7 * v1)) + 6)).bind fun q21 =>
        if (d.1 q21.1 q21.2) ≤ 0 then
          (some (dI d z18 12 4)).bind fun d22 =>
          (some (dI d22 z18 13 v1)).bind fun d23 =>
          Mo_board_h77 this S f (v1 + 1) d23
        else
          Mo_board_h77 this S f (v1 + 1) d
def Mo_board_b75 (this : Nat) (S : Sp) (d : Dt) : Option (Int32 × Dt) :=
  Mo_board_h77 this S FU 0 d
def Mo_board_h54 (this : Nat) (S : Sp) : Nat → Dt → Option (Int32 × Dt)
  | 0, _ => none
  | f + 1, d =>
    (isK S 9 (some this)).bind fun z13 =>
    (Mo_good this S d).bind fun r14 =>
    if r14 = 0 then
      Mo_board_b75 this S d
    else
      if (d.1 z13 10) = 0 then
        Mo_board_b75 this S d
      else
        bind2 (Mo_readText this S d) fun _ d15 =>
        Mo_board_h54 this S f d15
def Mo_board_h30 (this : Nat) (S : Sp) : Nat → Int32 → Dt → Option (Int32 × Dt)
  | 0, _, _ => none
  | f + 1, v1, d =>
    if 201 ≤ v1 then
      (isK S 9 (some this)).bind fun z7 =>
      bind2 (Mo_advance this S d) fun _ d8 =>
      Mo_board_h54 this S FU d8
    else
      (isK S 9 (some this)).bind fun z9 =>
      (aix S 50 (S.2.1 z9 14) v1).bind fun q10 =>
      (some (dI d q10.1 q10.2 0)).bind fun d11 =>
      Mo_board_h30 this S f (v1 + 1) d11
def Mo_board (this : Nat) (S : Sp) (d : Dt) : Option (Int32 × Dt) :=
  (isK S 9 (some this)).bind fun z1 =>
  (some (dI d z1 7 (d.1 z1 5))).bind fun d2 =>
  (some (dI d2 z1 5 0)).bind fun d3 =>
  (some (dI d3 z1 8 0)).bind fun d4 =>
  (some (dI d4 z1 12 0)).bind fun d5 =>
  (some (dI d5 z1 13 ((-1)))).bind fun d6 =>
  Mo_board_h30 this S FU 0 d6
set_option maxHeartbeats 4000000 in
theorem Mo_board_fn (this : Nat) (S : Sp) (d : Dt) : Fn yX10_board (ws_ yX10_board cX10_board 2 (some .int)) 9 195 [va_rf (some this)] S d rvI Λw (Mo_board this S d) := by
  refine Fn.ofJ (own := RX10) (lv := [(0, va_rf (some this))]) (by decide +kernel) rfl (by simp [cat_i, cat_l, cat_f, cat_d, rf_cat]) (by simp [lv_args, cat_i, cat_l, cat_f, cat_d, rf_cat]) ?_
  intro X F G hRm hR hI
  have hMo_board_h143 : ∀ (f : Nat) (v1 : Int32) (d : Dt), J X F Λw S d 143 [(0, va_rf (some this)), (1, .int v1)] [] (Mo_board_h143 this S f v1 d) := by
    intro  f
    induction f with
    | zero => intro v1 d; exact J_no
    | succ f ih =>
      intro v1 d
      unfold Mo_board_h143
      refine JR_iload_n (pc := 143) (k := 1) (i := 1) G rfl rfl dX10_board_143 ?_
      refine JR_sipush (pc := 144) (v := 201) G (by decide) dX10_board_144 ?_
      refine JR_icmp_ge (pc := 147) (tgt := 168) G dX10_board_147 (by decide) (fun c36 => ?_) (fun c36 => ?_)
      · refine JR_aload_n (pc := 168) (k := 0) (i := 0) (o := some this) G rfl rfl dX10_board_168 ?_
        refine J_bd (fun z30 hz30 => ?_)
        refine JR_gR (pc := 169) (k := 1) G cl_X10 in_X10 (by decide) (by decide) rfl (Or.inl rfl) q1589 hz30 dX10_board_169 ?_
        refine JR_bipush (pc := 172) (v := 7) G (by decide) dX10_board_172 ?_
        refine J_bd (fun q31 hq31 => ?_)
        refine JR_iaload (pc := 174) G hq31 dX10_board_174 ?_
        exact JR_iret (pc := 175) G hR dX10_board_175 rfl rfl
      · refine JR_aload_n (pc := 150) (k := 0) (i := 0) (o := some this) G rfl rfl dX10_board_150 ?_
        refine J_bd (fun z32 hz32 => ?_)
        refine JR_gR (pc := 151) (k := 1) G cl_X10 in_X10 (by decide) (by decide) rfl (Or.inl rfl) q1589 hz32 dX10_board_151 ?_
        refine JR_iload_n (pc := 154) (k := 1) (i := 1) G rfl rfl dX10_board_154 ?_
        refine JR_aload_n (pc := 155) (k := 0) (i := 0) (o := some this) G rfl rfl dX10_board_155 ?_
        refine JR_gR (pc := 156) (k := 14) G cl_X10 in_X10 (by decide) (by decide) rfl (Or.inl rfl) q1602 hz32 dX10_board_156 ?_
        refine JR_iload_n (pc := 159) (k := 1) (i := 1) G rfl rfl dX10_board_159 ?_
        refine J_bd (fun q33 hq33 => ?_)
        refine JR_iaload (pc := 160) G hq33 dX10_board_160 ?_
        refine J_bd (fun q34 hq34 => ?_)
        refine JW_iastore (pc := 161) G hq34 (fun _ => rfl) dX10_board_161 ?_
        refine J_nmD (fun d35 hd35 => ?_)
        refine JR_iinc (pc := 162) (i := 1) (v := v1 + 1) (lv' := [(1, .int (v1 + 1)), (0, va_rf (some this))]) G rfl (congrArg (fun z => v1 + z) (by decide)) (by decide) rfl dX10_board_162 ?_
        refine JR_goto (pc := 165) (tgt := 143) G dX10_board_165 (by decide) ?_
        refine J_sub [1, 0] rfl ?_
        exact ih (v1 + 1) d35
  have hMo_board_b131 : ∀ (d : Dt), J X F Λw S d 131 [(0, va_rf (some this))] [] (Mo_board_b131 this S d) := by
    intro d
    unfold Mo_board_b131
    refine JR_aload_n (pc := 131) (k := 0) (i := 0) (o := some this) G rfl rfl dX10_board_131 ?_
    refine J_bd (fun z27 hz27 => ?_)
    refine JPV_I (pc := 132) (as := []) (st' := []) (o := some this) G (Mo_good_fn this S d) (JC_V (n := 0) G hRm cl_X10 q1819 q1821 qs62 q152 q1822 ⟨rfl, dd_X10_good⟩ ⟨by decide, by decide⟩ dX10_board_132 hz27 rfl (Nat.le_of_ble_eq_true rfl)) rfl (fun r28 hr28 => ?_)
    refine JR_if_ne (pc := 135) (tgt := 141) G dX10_board_135 (by decide) (fun c29 => ?_) (fun c29 => ?_)
    · refine JR_iconst (pc := 141) G ci_0 dX10_board_141 ?_
      refine JR_istore_n (pc := 142) (k := 1) (i := 1) (lv' := [(1, .int 0), (0, va_rf (some this))]) G rfl (by decide) rfl dX10_board_142 ?_
      refine J_sub [1, 0] rfl ?_
      exact hMo_board_h143 FU 0 d
    · refine JR_bipush (pc := 138) (v := (-4)) G (by decide) dX10_board_138 ?_
      exact JR_iret (pc := 140) G hR dX10_board_140 rfl rfl
  have hMo_board_h77 : ∀ (f : Nat) (v1 : Int32) (d : Dt), J X F Λw S d 77 [(0, va_rf (some this)), (1, .int v1)] [] (Mo_board_h77 this S f v1 d) := by
    intro  f
    induction f with
    | zero => intro v1 d; exact J_no
    | succ f ih =>
      intro v1 d
      unfold Mo_board_h77
      refine JR_iload_n (pc := 77) (k := 1) (i := 1) G rfl rfl dX10_board_77 ?_
      refine JR_aload_n (pc := 78) (k := 0) (i := 0) (o := some this) G rfl rfl dX10_board_78 ?_
      refine J_bd (fun z18 hz18 => ?_)
      refine JR_gR (pc := 79) (k := 14) G cl_X10 in_X10 (by decide) (by decide) rfl (Or.inl rfl) q1602 hz18 dX10_board_79 ?_
      refine JR_iconst (pc := 82) G ci_4 dX10_board_82 ?_
      refine J_bd (fun q19 hq19 => ?_)
      refine JR_iaload (pc := 83) G hq19 dX10_board_83 ?_
      refine JR_icmp_ge (pc := 84) (tgt := 131) G dX10_board_84 (by decide) (fun c26 => ?_) (fun c26 => ?_)
      · refine J_sub [0] rfl ?_
        exact hMo_board_b131 d
      · refine JR_aload_n (pc := 87) (k := 0) (i := 0) (o := some this) G rfl rfl dX10_board_87 ?_
        refine JPV_I (pc := 88) (as := []) (st' := []) (o := some this) G (Mo_good_fn this S d) (JC_V (n := 0) G hRm cl_X10 q1819 q1821 qs62 q152 q1822 ⟨rfl, dd_X10_good⟩ ⟨by decide, by decide⟩ dX10_board_88 hz18 rfl (Nat.le_of_ble_eq_true rfl)) rfl (fun r20 hr20 => ?_)
        refine JR_if_eq (pc := 91) (tgt := 131) G dX10_board_91 (by decide) (fun c25 => ?_) (fun c25 => ?_)
        · refine J_sub [0] rfl ?_
          exact hMo_board_b131 d
        · refine JR_aload_n (pc := 94) (k := 0) (i := 0) (o := some this) G rfl rfl dX10_board_94 ?_
          refine JR_gR (pc := 95) (k := 14) G cl_X10 in_X10 (by decide) (by decide) rfl (Or.inl rfl) q1602 hz18 dX10_board_95 ?_
          refine JR_bipush (pc := 98) (v := 11) G (by decide) dX10_board_98 ?_
          refine JR_bipush (pc := 100) (v := 7) G (by decide) dX10_board_100 ?_
          refine JR_iload_n (pc := 102) (k := 1) (i := 1) G rfl rfl dX10_board_102 ?_
          refine JR_imul (pc := 103) G dX10_board_103 ?_
          refine JR_iadd (pc := 104) G dX10_board_104 ?_
          refine JR_bipush (pc := 105) (v := 6) G (by decide) dX10_board_105 ?_
          refine JR_iadd (pc := 107) G dX10_board_107 ?_
          refine J_bd (fun q21 hq21 => ?_)
          refine JR_iaload (pc := 108) G hq21 dX10_board_108 ?_
          refine JR_if_le (pc := 109) (tgt := 115) G dX10_board_109 (by decide) (fun c24 => ?_) (fun c24 => ?_)
          · refine JR_aload_n (pc := 115) (k := 0) (i := 0) (o := some this) G rfl rfl dX10_board_115 ?_
            refine JR_iconst (pc := 116) G ci_4 dX10_board_116 ?_
            refine JW_pI (pc := 117) (k := 12) G cl_X10 in_X10 tyX10_ok nmX10 (by decide) (by decide) rfl (Or.inl rfl) rfl q1600 rfl rfl hz18 (fun _ => rfl) dX10_board_117 ?_
            refine J_nmD (fun d22 hd22 => ?_)
            refine JR_aload_n (pc := 120) (k := 0) (i := 0) (o := some this) G rfl rfl dX10_board_120 ?_
            refine JR_iload_n (pc := 121) (k := 1) (i := 1) G rfl rfl dX10_board_121 ?_
            refine JW_pI (pc := 122) (k := 13) G cl_X10 in_X10 tyX10_ok nmX10 (by decide) (by decide) rfl (Or.inl rfl) rfl q1601 rfl rfl hz18 (fun _ => rfl) dX10_board_122 ?_
            refine J_nmD (fun d23 hd23 => ?_)
            refine JR_iinc (pc := 125) (i := 1) (v := v1 + 1) (lv' := [(1, .int (v1 + 1)), (0, va_rf (some this))]) G rfl (congrArg (fun z => v1 + z) (by decide)) (by decide) rfl dX10_board_125 ?_
            refine JR_goto (pc := 128) (tgt := 77) G dX10_board_128 (by decide) ?_
            refine J_sub [1, 0] rfl ?_
            exact ih (v1 + 1) d23
          · refine JR_goto (pc := 112) (tgt := 125) G dX10_board_112 (by decide) ?_
            refine JR_iinc (pc := 125) (i := 1) (v := v1 + 1) (lv' := [(1, .int (v1 + 1)), (0, va_rf (some this))]) G rfl (congrArg (fun z => v1 + z) (by decide)) (by decide) rfl dX10_board_125 ?_
            refine JR_goto (pc := 128) (tgt := 77) G dX10_board_128 (by decide) ?_
            refine J_sub [1, 0] rfl ?_
            exact ih (v1 + 1) d
  have hMo_board_b75 : ∀ (d : Dt), J X F Λw S d 75 [(0, va_rf (some this))] [] (Mo_board_b75 this S d) := by
    intro d
    unfold Mo_board_b75
    refine JR_iconst (pc := 75) G ci_0 dX10_board_75 ?_
    refine JR_istore_n (pc := 76) (k := 1) (i := 1) (lv' := [(1, .int 0), (0, va_rf (some this))]) G rfl (by decide) rfl dX10_board_76 ?_
    refine J_sub [1, 0] rfl ?_
    exact hMo_board_h77 FU 0 d
  have hMo_board_h54 : ∀ (f : Nat) (d : Dt), J X F Λw S d 54 [(0, va_rf (some this))] [] (Mo_board_h54 this S f d) := by
    intro  f
    induction f with
    | zero => intro d; exact J_no
    | succ f ih =>
      intro d
      unfold Mo_board_h54
      refine JR_aload_n (pc := 54) (k := 0) (i := 0) (o := some this) G rfl rfl dX10_board_54 ?_
      refine J_bd (fun z13 hz13 => ?_)
      refine JPV_I (pc := 55) (as := []) (st' := []) (o := some this) G (Mo_good_fn this S d) (JC_V (n := 0) G hRm cl_X10 q1819 q1821 qs62 q152 q1822 ⟨rfl, dd_X10_good⟩ ⟨by decide, by decide⟩ dX10_board_55 hz13 rfl (Nat.le_of_ble_eq_true rfl)) rfl (fun r14 hr14 => ?_)
      refine JR_if_eq (pc := 58) (tgt := 75) G dX10_board_58 (by decide) (fun c17 => ?_) (fun c17 => ?_)
      · exact hMo_board_b75 d
      · refine JR_aload_n (pc := 61) (k := 0) (i := 0) (o := some this) G rfl rfl dX10_board_61 ?_
        refine JR_gI (pc := 62) (k := 10) G cl_X10 in_X10 (by decide) (by decide) rfl (Or.inl rfl) q1598 hz13 dX10_board_62 ?_
        refine JR_if_eq (pc := 65) (tgt := 75) G dX10_board_65 (by decide) (fun c16 => ?_) (fun c16 => ?_)
        · exact hMo_board_b75 d
        · refine JR_aload_n (pc := 68) (k := 0) (i := 0) (o := some this) G rfl rfl dX10_board_68 ?_
          refine JQV_U (pc := 69) (as := []) (st' := []) (o := some this) G (Mo_readText_fn this S d) (JC_V (n := 0) G hRm cl_X10 q1823 q1825 qs63 q152 q1826 ⟨rfl, dd_X10_readText⟩ ⟨by decide, by decide⟩ dX10_board_69 hz13 rfl (Nat.le_of_ble_eq_true rfl)) rfl (fun _ _ => rfl) (fun _ d15 hd15 => ?_)
          refine JR_goto (pc := 72) (tgt := 54) G dX10_board_72 (by decide) ?_
          exact ih d15
  have hMo_board_h30 : ∀ (f : Nat) (v1 : Int32) (d : Dt), J X F Λw S d 30 [(0, va_rf (some this)), (1, .int v1)] [] (Mo_board_h30 this S f v1 d) := by
    intro  f
    induction f with
    | zero => intro v1 d; exact J_no
    | succ f ih =>
      intro v1 d
      unfold Mo_board_h30
      refine JR_iload_n (pc := 30) (k := 1) (i := 1) G rfl rfl dX10_board_30 ?_
      refine JR_sipush (pc := 31) (v := 201) G (by decide) dX10_board_31 ?_
      refine JR_icmp_ge (pc := 34) (tgt := 50) G dX10_board_34 (by decide) (fun c12 => ?_) (fun c12 => ?_)
      · refine JR_aload_n (pc := 50) (k := 0) (i := 0) (o := some this) G rfl rfl dX10_board_50 ?_
        refine J_bd (fun z7 hz7 => ?_)
        refine JQV_U (pc := 51) (as := []) (st' := []) (o := some this) G (Mo_advance_fn this S d) (JC_V (n := 0) G hRm cl_X10 q1805 q1807 qs60 q152 q1808 ⟨rfl, dd_X10_advance⟩ ⟨by decide, by decide⟩ dX10_board_51 hz7 rfl (Nat.le_of_ble_eq_true rfl)) rfl (fun _ _ => rfl) (fun _ d8 hd8 => ?_)
        refine J_sub [0] rfl ?_
        exact hMo_board_h54 FU d8
      · refine JR_aload_n (pc := 37) (k := 0) (i := 0) (o := some this) G rfl rfl dX10_board_37 ?_
        refine J_bd (fun z9 hz9 => ?_)
        refine JR_gR (pc := 38) (k := 14) G cl_X10 in_X10 (by decide) (by decide) rfl (Or.inl rfl) q1602 hz9 dX10_board_38 ?_
        refine JR_iload_n (pc := 41) (k := 1) (i := 1) G rfl rfl dX10_board_41 ?_
        refine JR_iconst (pc := 42) G ci_0 dX10_board_42 ?_
        refine J_bd (fun q10 hq10 => ?_)
        refine JW_iastore (pc := 43) G hq10 (fun _ => rfl) dX10_board_43 ?_
        refine J_nmD (fun d11 hd11 => ?_)
        refine JR_iinc (pc := 44) (i := 1) (v := v1 + 1) (lv' := [(1, .int (v1 + 1)), (0, va_rf (some this))]) G rfl (congrArg (fun z => v1 + z) (by decide)) (by decide) rfl dX10_board_44 ?_
        refine JR_goto (pc := 47) (tgt := 30) G dX10_board_47 (by decide) ?_
        refine J_sub [1, 0] rfl ?_
        exact ih (v1 + 1) d11
  unfold Mo_board
  refine JR_aload_n (pc := 0) (k := 0) (i := 0) (o := some this) G rfl rfl dX10_board_0 ?_
  refine JR_aload_n (pc := 1) (k := 0) (i := 0) (o := some this) G rfl rfl dX10_board_1 ?_
  refine J_bd (fun z1 hz1 => ?_)
  refine JR_gI (pc := 2) (k := 5) G cl_X10 in_X10 (by decide) (by decide) rfl (Or.inl rfl) q1593 hz1 dX10_board_2 ?_
  refine JW_pI (pc := 5) (k := 7) G cl_X10 in_X10 tyX10_ok nmX10 (by decide) (by decide) rfl (Or.inl rfl) rfl q1595 rfl rfl hz1 (fun _ => rfl) dX10_board_5 ?_
  refine J_nmD (fun d2 hd2 => ?_)
  refine JR_aload_n (pc := 8) (k := 0) (i := 0) (o := some this) G rfl rfl dX10_board_8 ?_
  refine JR_iconst (pc := 9) G ci_0 dX10_board_9 ?_
  refine JW_pI (pc := 10) (k := 5) G cl_X10 in_X10 tyX10_ok nmX10 (by decide) (by decide) rfl (Or.inl rfl) rfl q1593 rfl rfl hz1 (fun _ => rfl) dX10_board_10 ?_
  refine J_nmD (fun d3 hd3 => ?_)
  refine JR_aload_n (pc := 13) (k := 0) (i := 0) (o := some this) G rfl rfl dX10_board_13 ?_
  refine JR_iconst (pc := 14) G ci_0 dX10_board_14 ?_
  refine JW_pI (pc := 15) (k := 8) G cl_X10 in_X10 tyX10_ok nmX10 (by decide) (by decide) rfl (Or.inl rfl) rfl q1596 rfl rfl hz1 (fun _ => rfl) dX10_board_15 ?_
  refine J_nmD (fun d4 hd4 => ?_)
  refine JR_aload_n (pc := 18) (k := 0) (i := 0) (o := some this) G rfl rfl dX10_board_18 ?_
  refine JR_iconst (pc := 19) G ci_0 dX10_board_19 ?_
  refine JW_pI (pc := 20) (k := 12) G cl_X10 in_X10 tyX10_ok nmX10 (by decide) (by decide) rfl (Or.inl rfl) rfl q1600 rfl rfl hz1 (fun _ => rfl) dX10_board_20 ?_
  refine J_nmD (fun d5 hd5 => ?_)
  refine JR_aload_n (pc := 23) (k := 0) (i := 0) (o := some this) G rfl rfl dX10_board_23 ?_
  refine JR_iconst (pc := 24) G ci_m1 dX10_board_24 ?_
  refine JW_pI (pc := 25) (k := 13) G cl_X10 in_X10 tyX10_ok nmX10 (by decide) (by decide) rfl (Or.inl rfl) rfl q1601 rfl rfl hz1 (fun _ => rfl) dX10_board_25 ?_
  refine J_nmD (fun d6 hd6 => ?_)
  refine JR_iconst (pc := 28) G ci_0 dX10_board_28 ?_
  refine JR_istore_n (pc := 29) (k := 1) (i := 1) (lv' := [(1, .int 0), (0, va_rf (some this))]) G rfl (by decide) rfl dX10_board_29 ?_
  refine J_sub [1, 0] rfl ?_
  exact hMo_board_h30 FU 0 d6

def Mo_isTask (this : Nat) (p1 : Int32) (S : Sp) (d : Dt) : Option Int32 :=
  (isK S 9 (some this)).bind fun z1 =>
  (aix S 50 (S.2.1 z1 1) 4).bind fun q2 =>
  (Mo_in (Int32.toInt64 p1) 0 (Int32.toInt64 ((d.1 q2.1 q2.2) - 1)) S d).bind fun r3 =>
  (gb r3).bind fun b4 =>
  some b4
set_option maxHeartbeats 4000000 in
theorem Mo_isTask_fn (this : Nat) (p1 : Int32) (S : Sp) (d : Dt) : Fn yX10_isTask (ws_ yX10_isTask cX10_isTask 2 (some .boolean)) 1 25 [va_rf (some this), .int p1] S d rvI Λp (Mo_isTask this p1 S d) := by
  refine Fn.ofJ (own := RX10) (lv := [(0, va_rf (some this)), (1, .int p1)]) (by decide +kernel) rfl (by simp [cat_i, cat_l, cat_f, cat_d, rf_cat]) (by simp [lv_args, cat_i, cat_l, cat_f, cat_d, rf_cat]) ?_
  intro X F G hRm hR hI
  unfold Mo_isTask
  refine JR_iload_n (pc := 0) (k := 1) (i := 1) G rfl rfl dX10_isTask_0 ?_
  refine JR_i2l (pc := 1) G dX10_isTask_1 ?_
  refine JR_lconst (pc := 2) G cl_0 dX10_isTask_2 ?_
  refine JR_aload_n (pc := 3) (k := 0) (i := 0) (o := some this) G rfl rfl dX10_isTask_3 ?_
  refine J_bd (fun z1 hz1 => ?_)
  refine JR_gR (pc := 4) (k := 1) G cl_X10 in_X10 (by decide) (by decide) rfl (Or.inl rfl) q1589 hz1 dX10_isTask_4 ?_
  refine JR_iconst (pc := 7) G ci_4 dX10_isTask_7 ?_
  refine J_bd (fun q2 hq2 => ?_)
  refine JR_iaload (pc := 8) G hq2 dX10_isTask_8 ?_
  refine JR_iconst (pc := 9) G ci_1 dX10_isTask_9 ?_
  refine JR_isub (pc := 10) G dX10_isTask_10 ?_
  refine JR_i2l (pc := 11) G dX10_isTask_11 ?_
  refine JPS_I (pc := 12) (as := [.long (Int32.toInt64 p1), .long 0, .long (Int32.toInt64 ((d.1 q2.1 q2.2) - 1))]) (st' := []) G (Mo_in_fn (Int32.toInt64 p1) 0 (Int32.toInt64 ((d.1 q2.1 q2.2) - 1)) S d) (JC_S (n := 3) G hRm q1782 q1783 q152 q1784 dd_X10_in ⟨by decide, by decide⟩ dX10_isTask_12 rfl (Nat.le_of_ble_eq_true rfl)) rfl (fun r3 hr3 => ?_)
  refine J_bd (fun b4 hb4 => ?_)
  refine J_stk (st' := [.int b4]) (by rw [(gb_at hb4).1]) ?_
  exact JR_zret (pc := 15) G hR dX10_isTask_15 (by have h9 := gb_at hb4; rw [h9.1]; exact h9.2) rfl rfl

def Mo_toldOf (this : Nat) (p1 : Int32) (p2 : Int32) (S : Sp) (d : Dt) : Option Int32 :=
  (isK S 9 (some this)).bind fun z1 =>
  (aix S 50 (S.2.1 z1 1) ((11 + (7 * p1)) + p2)).bind fun q2 =>
  some (d.1 q2.1 q2.2)
set_option maxHeartbeats 4000000 in
theorem Mo_toldOf_fn (this : Nat) (p1 : Int32) (p2 : Int32) (S : Sp) (d : Dt) : Fn yX10_toldOf (ws_ yX10_toldOf cX10_toldOf 3 (some .int)) 0 0 [va_rf (some this), .int p1, .int p2] S d rvI Λp (Mo_toldOf this p1 p2 S d) := by
  refine Fn.ofJ (own := RX10) (lv := [(0, va_rf (some this)), (1, .int p1), (2, .int p2)]) (by decide +kernel) rfl (by simp [cat_i, cat_l, cat_f, cat_d, rf_cat]) (by simp [lv_args, cat_i, cat_l, cat_f, cat_d, rf_cat]) ?_
  intro X F G hRm hR hI
  unfold Mo_toldOf
  refine JR_aload_n (pc := 0) (k := 0) (i := 0) (o := some this) G rfl rfl dX10_toldOf_0 ?_
  refine J_bd (fun z1 hz1 => ?_)
  refine JR_gR (pc := 1) (k := 1) G cl_X10 in_X10 (by decide) (by decide) rfl (Or.inl rfl) q1589 hz1 dX10_toldOf_1 ?_
  refine JR_bipush (pc := 4) (v := 11) G (by decide) dX10_toldOf_4 ?_
  refine JR_bipush (pc := 6) (v := 7) G (by decide) dX10_toldOf_6 ?_
  refine JR_iload_n (pc := 8) (k := 1) (i := 1) G rfl rfl dX10_toldOf_8 ?_
  refine JR_imul (pc := 9) G dX10_toldOf_9 ?_
  refine JR_iadd (pc := 10) G dX10_toldOf_10 ?_
  refine JR_iload_n (pc := 11) (k := 2) (i := 2) G rfl rfl dX10_toldOf_11 ?_
  refine JR_iadd (pc := 12) G dX10_toldOf_12 ?_
  refine J_bd (fun q2 hq2 => ?_)
  refine JR_iaload (pc := 13) G hq2 dX10_toldOf_13 ?_
  exact JR_iret (pc := 14) G hR dX10_toldOf_14 rfl rfl

def Mo_task (this : Nat) (p1 : Int32) (p2 : Int32) (S : Sp) (d : Dt) : Option Int32 :=
  (isK S 9 (some this)).bind fun z1 =>
  (Mo_isTask this p1 S d).bind fun r2 =>
  if r2 = 0 then
    some ((-2))
  else
    (Mo_in (Int32.toInt64 p2) 0 6 S d).bind fun r3 =>
    if r3 = 0 then
      some ((-2))
    else
      (Mo_toldOf this p1 p2 S d).bind fun r4 =>
      some r4
set_option maxHeartbeats 4000000 in
theorem Mo_task_fn (this : Nat) (p1 : Int32) (p2 : Int32) (S : Sp) (d : Dt) : Fn yX10_task (ws_ yX10_task cX10_task 3 (some .int)) 2 46 [va_rf (some this), .int p1, .int p2] S d rvI Λp (Mo_task this p1 p2 S d) := by
  refine Fn.ofJ (own := RX10) (lv := [(0, va_rf (some this)), (1, .int p1), (2, .int p2)]) (by decide +kernel) rfl (by simp [cat_i, cat_l, cat_f, cat_d, rf_cat]) (by simp [lv_args, cat_i, cat_l, cat_f, cat_d, rf_cat]) ?_
  intro X F G hRm hR hI
  unfold Mo_task
  refine JR_aload_n (pc := 0) (k := 0) (i := 0) (o := some this) G rfl rfl dX10_task_0 ?_
  refine JR_iload_n (pc := 1) (k := 1) (i := 1) G rfl rfl dX10_task_1 ?_
  refine J_bd (fun z1 hz1 => ?_)
  refine JPV_I (pc := 2) (as := [.int p1]) (st' := []) (o := some this) G (Mo_isTask_fn this p1 S d) (JC_V (n := 1) G hRm cl_X10 q1916 q1918 qs78 q152 q1919 ⟨rfl, dd_X10_isTask⟩ ⟨by decide, by decide⟩ dX10_task_2 hz1 rfl (Nat.le_of_ble_eq_true rfl)) rfl (fun r2 hr2 => ?_)
  refine JR_if_eq (pc := 5) (tgt := 29) G dX10_task_5 (by decide) (fun c6 => ?_) (fun c6 => ?_)
  · refine JR_bipush (pc := 29) (v := (-2)) G (by decide) dX10_task_29 ?_
    exact JR_iret (pc := 31) G hR dX10_task_31 rfl rfl
  · refine JR_iload_n (pc := 8) (k := 2) (i := 2) G rfl rfl dX10_task_8 ?_
    refine JR_i2l (pc := 9) G dX10_task_9 ?_
    refine JR_lconst (pc := 10) G cl_0 dX10_task_10 ?_
    refine JR_ldc2 (pc := 11) G q1920 dX10_task_11 ?_
    refine JPS_I (pc := 14) (as := [.long (Int32.toInt64 p2), .long 0, .long 6]) (st' := []) G (Mo_in_fn (Int32.toInt64 p2) 0 6 S d) (JC_S (n := 3) G hRm q1782 q1783 q152 q1784 dd_X10_in ⟨by decide, by decide⟩ dX10_task_14 rfl (Nat.le_of_ble_eq_true rfl)) rfl (fun r3 hr3 => ?_)
    refine JR_if_eq (pc := 17) (tgt := 29) G dX10_task_17 (by decide) (fun c5 => ?_) (fun c5 => ?_)
    · refine JR_bipush (pc := 29) (v := (-2)) G (by decide) dX10_task_29 ?_
      exact JR_iret (pc := 31) G hR dX10_task_31 rfl rfl
    · refine JR_aload_n (pc := 20) (k := 0) (i := 0) (o := some this) G rfl rfl dX10_task_20 ?_
      refine JR_iload_n (pc := 21) (k := 1) (i := 1) G rfl rfl dX10_task_21 ?_
      refine JR_iload_n (pc := 22) (k := 2) (i := 2) G rfl rfl dX10_task_22 ?_
      refine JPV_I (pc := 23) (as := [.int p1, .int p2]) (st' := []) (o := some this) G (Mo_toldOf_fn this p1 p2 S d) (JC_V (n := 2) G hRm cl_X10 q1921 q1923 qs79 q152 q1924 ⟨rfl, dd_X10_toldOf⟩ ⟨by decide, by decide⟩ dX10_task_23 hz1 rfl (Nat.le_of_ble_eq_true rfl)) rfl (fun r4 hr4 => ?_)
      refine JR_goto (pc := 26) (tgt := 31) G dX10_task_26 (by decide) ?_
      exact JR_iret (pc := 31) G hR dX10_task_31 rfl rfl

def Mo_nodesOf (this : Nat) (p1 : Int32) (S : Sp) (d : Dt) : Option Int32 :=
  (isK S 9 (some this)).bind fun z1 =>
  (Mo_toldOf this p1 6 S d).bind fun r2 =>
  some r2
set_option maxHeartbeats 4000000 in
theorem Mo_nodesOf_fn (this : Nat) (p1 : Int32) (S : Sp) (d : Dt) : Fn yX10_nodesOf (ws_ yX10_nodesOf cX10_nodesOf 2 (some .int)) 1 22 [va_rf (some this), .int p1] S d rvI Λp (Mo_nodesOf this p1 S d) := by
  refine Fn.ofJ (own := RX10) (lv := [(0, va_rf (some this)), (1, .int p1)]) (by decide +kernel) rfl (by simp [cat_i, cat_l, cat_f, cat_d, rf_cat]) (by simp [lv_args, cat_i, cat_l, cat_f, cat_d, rf_cat]) ?_
  intro X F G hRm hR hI
  unfold Mo_nodesOf
  refine JR_aload_n (pc := 0) (k := 0) (i := 0) (o := some this) G rfl rfl dX10_nodesOf_0 ?_
  refine JR_iload_n (pc := 1) (k := 1) (i := 1) G rfl rfl dX10_nodesOf_1 ?_
  refine JR_bipush (pc := 2) (v := 6) G (by decide) dX10_nodesOf_2 ?_
  refine J_bd (fun z1 hz1 => ?_)
  refine JPV_I (pc := 4) (as := [.int p1, .int 6]) (st' := []) (o := some this) G (Mo_toldOf_fn this p1 6 S d) (JC_V (n := 2) G hRm cl_X10 q1921 q1923 qs79 q152 q1924 ⟨rfl, dd_X10_toldOf⟩ ⟨by decide, by decide⟩ dX10_nodesOf_4 hz1 rfl (Nat.le_of_ble_eq_true rfl)) rfl (fun r2 hr2 => ?_)
  exact JR_iret (pc := 7) G hR dX10_nodesOf_7 rfl rfl

def Mo_unitsOf (this : Nat) (p1 : Int32) (p2 : Int32) (S : Sp) (d : Dt) : Option Int32 :=
  (isK S 9 (some this)).bind fun z1 =>
  (aix S 50 (S.2.1 z1 1) (46 + (2 * ((6 * p1) + p2)))).bind fun q2 =>
  some (d.1 q2.1 q2.2)
set_option maxHeartbeats 4000000 in
theorem Mo_unitsOf_fn (this : Nat) (p1 : Int32) (p2 : Int32) (S : Sp) (d : Dt) : Fn yX10_unitsOf (ws_ yX10_unitsOf cX10_unitsOf 3 (some .int)) 0 0 [va_rf (some this), .int p1, .int p2] S d rvI Λp (Mo_unitsOf this p1 p2 S d) := by
  refine Fn.ofJ (own := RX10) (lv := [(0, va_rf (some this)), (1, .int p1), (2, .int p2)]) (by decide +kernel) rfl (by simp [cat_i, cat_l, cat_f, cat_d, rf_cat]) (by simp [lv_args, cat_i, cat_l, cat_f, cat_d, rf_cat]) ?_
  intro X F G hRm hR hI
  unfold Mo_unitsOf
  refine JR_aload_n (pc := 0) (k := 0) (i := 0) (o := some this) G rfl rfl dX10_unitsOf_0 ?_
  refine J_bd (fun z1 hz1 => ?_)
  refine JR_gR (pc := 1) (k := 1) G cl_X10 in_X10 (by decide) (by decide) rfl (Or.inl rfl) q1589 hz1 dX10_unitsOf_1 ?_
  refine JR_bipush (pc := 4) (v := 46) G (by decide) dX10_unitsOf_4 ?_
  refine JR_iconst (pc := 6) G ci_2 dX10_unitsOf_6 ?_
  refine JR_bipush (pc := 7) (v := 6) G (by decide) dX10_unitsOf_7 ?_
  refine JR_iload_n (pc := 9) (k := 1) (i := 1) G rfl rfl dX10_unitsOf_9 ?_
  refine JR_imul (pc := 10) G dX10_unitsOf_10 ?_
  refine JR_iload_n (pc := 11) (k := 2) (i := 2) G rfl rfl dX10_unitsOf_11 ?_
  refine JR_iadd (pc := 12) G dX10_unitsOf_12 ?_
  refine JR_imul (pc := 13) G dX10_unitsOf_13 ?_
  refine JR_iadd (pc := 14) G dX10_unitsOf_14 ?_
  refine J_bd (fun q2 hq2 => ?_)
  refine JR_iaload (pc := 15) G hq2 dX10_unitsOf_15 ?_
  exact JR_iret (pc := 16) G hR dX10_unitsOf_16 rfl rfl

def Mo_isBehind (this : Nat) (p1 : Int32) (p2 : Int32) (p3 : Int32) (S : Sp) (d : Dt) : Option Int32 :=
  (isK S 9 (some this)).bind fun z1 =>
  (aix S 50 (S.2.1 z1 1) ((46 + (2 * ((6 * p1) + p2))) + 1)).bind fun q2 =>
  if ¬ (((d.1 q2.1 q2.2) >>> (p3 &&& 31)) &&& 1) = 1 then
    some 0
  else
    some 1
set_option maxHeartbeats 4000000 in
theorem Mo_isBehind_fn (this : Nat) (p1 : Int32) (p2 : Int32) (p3 : Int32) (S : Sp) (d : Dt) : Fn yX10_isBehind (ws_ yX10_isBehind cX10_isBehind 4 (some .boolean)) 0 0 [va_rf (some this), .int p1, .int p2, .int p3] S d rvI Λp (Mo_isBehind this p1 p2 p3 S d) := by
  refine Fn.ofJ (own := RX10) (lv := [(0, va_rf (some this)), (1, .int p1), (2, .int p2), (3, .int p3)]) (by decide +kernel) rfl (by simp [cat_i, cat_l, cat_f, cat_d, rf_cat]) (by simp [lv_args, cat_i, cat_l, cat_f, cat_d, rf_cat]) ?_
  intro X F G hRm hR hI
  unfold Mo_isBehind
  refine JR_aload_n (pc := 0) (k := 0) (i := 0) (o := some this) G rfl rfl dX10_isBehind_0 ?_
  refine J_bd (fun z1 hz1 => ?_)
  refine JR_gR (pc := 1) (k := 1) G cl_X10 in_X10 (by decide) (by decide) rfl (Or.inl rfl) q1589 hz1 dX10_isBehind_1 ?_
  refine JR_bipush (pc := 4) (v := 46) G (by decide) dX10_isBehind_4 ?_
  refine JR_iconst (pc := 6) G ci_2 dX10_isBehind_6 ?_
  refine JR_bipush (pc := 7) (v := 6) G (by decide) dX10_isBehind_7 ?_
  refine JR_iload_n (pc := 9) (k := 1) (i := 1) G rfl rfl dX10_isBehind_9 ?_
  refine JR_imul (pc := 10) G dX10_isBehind_10 ?_
  refine JR_iload_n (pc := 11) (k := 2) (i := 2) G rfl rfl dX10_isBehind_11 ?_
  refine JR_iadd (pc := 12) G dX10_isBehind_12 ?_
  refine JR_imul (pc := 13) G dX10_isBehind_13 ?_
  refine JR_iadd (pc := 14) G dX10_isBehind_14 ?_
  refine JR_iconst (pc := 15) G ci_1 dX10_isBehind_15 ?_
  refine JR_iadd (pc := 16) G dX10_isBehind_16 ?_
  refine J_bd (fun q2 hq2 => ?_)
  refine JR_iaload (pc := 17) G hq2 dX10_isBehind_17 ?_
  refine JR_iload_n (pc := 18) (k := 3) (i := 3) G rfl rfl dX10_isBehind_18 ?_
  refine JR_ishr (pc := 19) G dX10_isBehind_19 ?_
  refine JR_iconst (pc := 20) G ci_1 dX10_isBehind_20 ?_
  refine JR_iand (pc := 21) G dX10_isBehind_21 ?_
  refine JR_iconst (pc := 22) G ci_1 dX10_isBehind_22 ?_
  refine JR_icmp_ne (pc := 23) (tgt := 30) G dX10_isBehind_23 (by decide) (fun c3 => ?_) (fun c3 => ?_)
  · refine JR_iconst (pc := 30) G ci_0 dX10_isBehind_30 ?_
    exact JR_zret (pc := 31) G hR dX10_isBehind_31 (Or.inl rfl) rfl rfl
  · refine JR_iconst (pc := 26) G ci_1 dX10_isBehind_26 ?_
    refine JR_goto (pc := 27) (tgt := 31) G dX10_isBehind_27 (by decide) ?_
    exact JR_zret (pc := 31) G hR dX10_isBehind_31 (Or.inr rfl) rfl rfl

def Mo_followersOf_b37 (this : Nat) (p1 : Int32) (p2 : Int32) (S : Sp) (d : Dt) (k7 : Int32 → Int32 → Option (Int32)) (v4 : Int32) (s0 : Int32) (s1 : Int32) : Option Int32 :=
  (some (s1 ||| s0)).bind fun x7 =>
  k7 x7 (v4 + 1)
def Mo_followersOf_h7 (this : Nat) (p1 : Int32) (p2 : Int32) (S : Sp) (d : Dt) : Nat → Int32 → Int32 → Option Int32
  | 0, _, _ => none
  | f + 1, v3, v4 =>
    (isK S 9 (some this)).bind fun z2 =>
    (Mo_nodesOf this p1 S d).bind fun r3 =>
    if r3 ≤ v4 then
      some v3
    else
      (Mo_isBehind this p1 v4 p2 S d).bind fun r4 =>
      Mo_followersOf_b37 this p1 p2 S d (Mo_followersOf_h7 this p1 p2 S d f) v4 (if r4 = 0 then 0 else 1 <<< (v4 &&& 31)) v3
def Mo_followersOf (this : Nat) (p1 : Int32) (p2 : Int32) (S : Sp) (d : Dt) : Option Int32 :=
  (some (p2 + 1)).bind fun x1 =>
  Mo_followersOf_h7 this p1 p2 S d FU 0 x1
set_option maxHeartbeats 4000000 in
theorem Mo_followersOf_fn (this : Nat) (p1 : Int32) (p2 : Int32) (S : Sp) (d : Dt) : Fn yX10_followersOf (ws_ yX10_followersOf cX10_followersOf 5 (some .int)) 2 43 [va_rf (some this), .int p1, .int p2] S d rvI Λp (Mo_followersOf this p1 p2 S d) := by
  refine Fn.ofJ (own := RX10) (lv := [(0, va_rf (some this)), (1, .int p1), (2, .int p2)]) (by decide +kernel) rfl (by simp [cat_i, cat_l, cat_f, cat_d, rf_cat]) (by simp [lv_args, cat_i, cat_l, cat_f, cat_d, rf_cat]) ?_
  intro X F G hRm hR hI
  have hMo_followersOf_b37 : ∀ (k7 : Int32 → Int32 → Option (Int32)) (hk7 : ∀ (v3 : Int32) (v4 : Int32), J X F Λp S d 7 [(0, va_rf (some this)), (1, .int p1), (2, .int p2), (3, .int v3), (4, .int v4)] [] (k7 v3 v4)) (v4 : Int32) (s0 : Int32) (s1 : Int32), J X F Λp S d 37 [(0, va_rf (some this)), (1, .int p1), (2, .int p2), (4, .int v4)] [.int s0, .int s1] (Mo_followersOf_b37 this p1 p2 S d k7 v4 s0 s1) := by
    intro k7 hk7 v4 s0 s1
    unfold Mo_followersOf_b37
    refine JR_ior (pc := 37) G dX10_followersOf_37 ?_
    refine J_nm (fun x7 hx7 => ?_)
    refine JR_istore_n (pc := 38) (k := 3) (i := 3) (lv' := [(3, .int x7), (0, va_rf (some this)), (1, .int p1), (2, .int p2), (4, .int v4)]) G rfl (by decide) rfl dX10_followersOf_38 ?_
    refine JR_iinc (pc := 39) (i := 4) (v := v4 + 1) (lv' := [(4, .int (v4 + 1)), (3, .int x7), (0, va_rf (some this)), (1, .int p1), (2, .int p2)]) G rfl (congrArg (fun z => v4 + z) (by decide)) (by decide) rfl dX10_followersOf_39 ?_
    refine JR_goto (pc := 42) (tgt := 7) G dX10_followersOf_42 (by decide) ?_
    refine J_sub [2, 3, 4, 1, 0] rfl ?_
    exact hk7 x7 (v4 + 1)
  have hMo_followersOf_h7 : ∀ (f : Nat) (v3 : Int32) (v4 : Int32), J X F Λp S d 7 [(0, va_rf (some this)), (1, .int p1), (2, .int p2), (3, .int v3), (4, .int v4)] [] (Mo_followersOf_h7 this p1 p2 S d f v3 v4) := by
    intro  f
    induction f with
    | zero => intro v3 v4; exact J_no
    | succ f ih =>
      intro v3 v4
      unfold Mo_followersOf_h7
      refine JR_iload (pc := 7) (i := 4) G rfl dX10_followersOf_7 ?_
      refine JR_aload_n (pc := 9) (k := 0) (i := 0) (o := some this) G rfl rfl dX10_followersOf_9 ?_
      refine JR_iload_n (pc := 10) (k := 1) (i := 1) G rfl rfl dX10_followersOf_10 ?_
      refine J_bd (fun z2 hz2 => ?_)
      refine JPV_I (pc := 11) (as := [.int p1]) (st' := [.int v4]) (o := some this) G (Mo_nodesOf_fn this p1 S d) (JC_V (n := 1) G hRm cl_X10 q1929 q1931 qs80 q152 q1932 ⟨rfl, dd_X10_nodesOf⟩ ⟨by decide, by decide⟩ dX10_followersOf_11 hz2 rfl (Nat.le_of_ble_eq_true rfl)) rfl (fun r3 hr3 => ?_)
      refine JR_icmp_ge (pc := 14) (tgt := 45) G dX10_followersOf_14 (by decide) (fun c6 => ?_) (fun c6 => ?_)
      · refine JR_iload_n (pc := 45) (k := 3) (i := 3) G rfl rfl dX10_followersOf_45 ?_
        exact JR_iret (pc := 46) G hR dX10_followersOf_46 rfl rfl
      · refine JR_iload_n (pc := 17) (k := 3) (i := 3) G rfl rfl dX10_followersOf_17 ?_
        refine JR_aload_n (pc := 18) (k := 0) (i := 0) (o := some this) G rfl rfl dX10_followersOf_18 ?_
        refine JR_iload_n (pc := 19) (k := 1) (i := 1) G rfl rfl dX10_followersOf_19 ?_
        refine JR_iload (pc := 20) (i := 4) G rfl dX10_followersOf_20 ?_
        refine JR_iload_n (pc := 22) (k := 2) (i := 2) G rfl rfl dX10_followersOf_22 ?_
        refine JPV_I (pc := 23) (as := [.int p1, .int v4, .int p2]) (st' := [.int v3]) (o := some this) G (Mo_isBehind_fn this p1 v4 p2 S d) (JC_V (n := 3) G hRm cl_X10 q1941 q1943 qs83 q152 q1944 ⟨rfl, dd_X10_isBehind⟩ ⟨by decide, by decide⟩ dX10_followersOf_23 hz2 rfl (Nat.le_of_ble_eq_true rfl)) rfl (fun r4 hr4 => ?_)
        refine J_eq (r' := if r4 = 0 then Mo_followersOf_b37 this p1 p2 S d (Mo_followersOf_h7 this p1 p2 S d f) v4 0 v3 else Mo_followersOf_b37 this p1 p2 S d (Mo_followersOf_h7 this p1 p2 S d f) v4 (1 <<< (v4 &&& 31)) v3) (by split <;> rfl) ?_
        refine JR_if_eq (pc := 26) (tgt := 36) G dX10_followersOf_26 (by decide) (fun c5 => ?_) (fun c5 => ?_)
        · refine JR_iconst (pc := 36) G ci_0 dX10_followersOf_36 ?_
          refine J_sub [0, 1, 2, 4] rfl ?_
          exact hMo_followersOf_b37 (Mo_followersOf_h7 this p1 p2 S d f) ih v4 0 v3
        · refine JR_iconst (pc := 29) G ci_1 dX10_followersOf_29 ?_
          refine JR_iload (pc := 30) (i := 4) G rfl dX10_followersOf_30 ?_
          refine JR_ishl (pc := 32) G dX10_followersOf_32 ?_
          refine JR_goto (pc := 33) (tgt := 37) G dX10_followersOf_33 (by decide) ?_
          refine J_sub [0, 1, 2, 4] rfl ?_
          exact hMo_followersOf_b37 (Mo_followersOf_h7 this p1 p2 S d f) ih v4 (1 <<< (v4 &&& 31)) v3
  unfold Mo_followersOf
  refine JR_iconst (pc := 0) G ci_0 dX10_followersOf_0 ?_
  refine JR_istore_n (pc := 1) (k := 3) (i := 3) (lv' := [(3, .int 0), (0, va_rf (some this)), (1, .int p1), (2, .int p2)]) G rfl (by decide) rfl dX10_followersOf_1 ?_
  refine JR_iload_n (pc := 2) (k := 2) (i := 2) G rfl rfl dX10_followersOf_2 ?_
  refine JR_iconst (pc := 3) G ci_1 dX10_followersOf_3 ?_
  refine JR_iadd (pc := 4) G dX10_followersOf_4 ?_
  refine J_nm (fun x1 hx1 => ?_)
  refine JR_istore (pc := 5) (i := 4) (lv' := [(4, .int x1), (3, .int 0), (0, va_rf (some this)), (1, .int p1), (2, .int p2)]) G (by decide) rfl dX10_followersOf_5 ?_
  refine J_sub [2, 3, 4, 1, 0] rfl ?_
  exact hMo_followersOf_h7 FU 0 x1

def Mo_node (this : Nat) (p1 : Int32) (p2 : Int32) (p3 : Int32) (S : Sp) (d : Dt) : Option Int32 :=
  (isK S 9 (some this)).bind fun z1 =>
  (Mo_isTask this p1 S d).bind fun r2 =>
  if r2 = 0 then
    some ((-2))
  else
    (Mo_nodesOf this p1 S d).bind fun r3 =>
    (Mo_in (Int32.toInt64 p2) 0 (Int32.toInt64 (r3 - 1)) S d).bind fun r4 =>
    if r4 = 0 then
      some ((-2))
    else
      (Mo_in (Int32.toInt64 p3) 0 1 S d).bind fun r5 =>
      if ¬ r5 = 0 then
        if ¬ p3 = 0 then
          (Mo_followersOf this p1 p2 S d).bind fun r6 =>
          some r6
        else
          (Mo_unitsOf this p1 p2 S d).bind fun r7 =>
          some r7
      else
        some ((-2))
set_option maxHeartbeats 4000000 in
theorem Mo_node_fn (this : Nat) (p1 : Int32) (p2 : Int32) (p3 : Int32) (S : Sp) (d : Dt) : Fn yX10_node (ws_ yX10_node cX10_node 4 (some .int)) 3 67 [va_rf (some this), .int p1, .int p2, .int p3] S d rvI Λp (Mo_node this p1 p2 p3 S d) := by
  refine Fn.ofJ (own := RX10) (lv := [(0, va_rf (some this)), (1, .int p1), (2, .int p2), (3, .int p3)]) (by decide +kernel) rfl (by simp [cat_i, cat_l, cat_f, cat_d, rf_cat]) (by simp [lv_args, cat_i, cat_l, cat_f, cat_d, rf_cat]) ?_
  intro X F G hRm hR hI
  unfold Mo_node
  refine JR_aload_n (pc := 0) (k := 0) (i := 0) (o := some this) G rfl rfl dX10_node_0 ?_
  refine JR_iload_n (pc := 1) (k := 1) (i := 1) G rfl rfl dX10_node_1 ?_
  refine J_bd (fun z1 hz1 => ?_)
  refine JPV_I (pc := 2) (as := [.int p1]) (st' := []) (o := some this) G (Mo_isTask_fn this p1 S d) (JC_V (n := 1) G hRm cl_X10 q1916 q1918 qs78 q152 q1919 ⟨rfl, dd_X10_isTask⟩ ⟨by decide, by decide⟩ dX10_node_2 hz1 rfl (Nat.le_of_ble_eq_true rfl)) rfl (fun r2 hr2 => ?_)
  refine JR_if_eq (pc := 5) (tgt := 35) G dX10_node_5 (by decide) (fun c11 => ?_) (fun c11 => ?_)
  · refine JR_bipush (pc := 35) (v := (-2)) G (by decide) dX10_node_35 ?_
    exact JR_iret (pc := 37) G hR dX10_node_37 rfl rfl
  · refine JR_iload_n (pc := 8) (k := 2) (i := 2) G rfl rfl dX10_node_8 ?_
    refine JR_i2l (pc := 9) G dX10_node_9 ?_
    refine JR_lconst (pc := 10) G cl_0 dX10_node_10 ?_
    refine JR_aload_n (pc := 11) (k := 0) (i := 0) (o := some this) G rfl rfl dX10_node_11 ?_
    refine JR_iload_n (pc := 12) (k := 1) (i := 1) G rfl rfl dX10_node_12 ?_
    refine JPV_I (pc := 13) (as := [.int p1]) (st' := [.long 0, .long (Int32.toInt64 p2)]) (o := some this) G (Mo_nodesOf_fn this p1 S d) (JC_V (n := 1) G hRm cl_X10 q1929 q1931 qs80 q152 q1932 ⟨rfl, dd_X10_nodesOf⟩ ⟨by decide, by decide⟩ dX10_node_13 hz1 rfl (Nat.le_of_ble_eq_true rfl)) rfl (fun r3 hr3 => ?_)
    refine JR_iconst (pc := 16) G ci_1 dX10_node_16 ?_
    refine JR_isub (pc := 17) G dX10_node_17 ?_
    refine JR_i2l (pc := 18) G dX10_node_18 ?_
    refine JPS_I (pc := 19) (as := [.long (Int32.toInt64 p2), .long 0, .long (Int32.toInt64 (r3 - 1))]) (st' := []) G (Mo_in_fn (Int32.toInt64 p2) 0 (Int32.toInt64 (r3 - 1)) S d) (JC_S (n := 3) G hRm q1782 q1783 q152 q1784 dd_X10_in ⟨by decide, by decide⟩ dX10_node_19 rfl (Nat.le_of_ble_eq_true rfl)) rfl (fun r4 hr4 => ?_)
    refine JR_if_eq (pc := 22) (tgt := 35) G dX10_node_22 (by decide) (fun c10 => ?_) (fun c10 => ?_)
    · refine JR_bipush (pc := 35) (v := (-2)) G (by decide) dX10_node_35 ?_
      exact JR_iret (pc := 37) G hR dX10_node_37 rfl rfl
    · refine JR_iload_n (pc := 25) (k := 3) (i := 3) G rfl rfl dX10_node_25 ?_
      refine JR_i2l (pc := 26) G dX10_node_26 ?_
      refine JR_lconst (pc := 27) G cl_0 dX10_node_27 ?_
      refine JR_lconst (pc := 28) G cl_1 dX10_node_28 ?_
      refine JPS_I (pc := 29) (as := [.long (Int32.toInt64 p3), .long 0, .long 1]) (st' := []) G (Mo_in_fn (Int32.toInt64 p3) 0 1 S d) (JC_S (n := 3) G hRm q1782 q1783 q152 q1784 dd_X10_in ⟨by decide, by decide⟩ dX10_node_29 rfl (Nat.le_of_ble_eq_true rfl)) rfl (fun r5 hr5 => ?_)
      refine JR_if_ne (pc := 32) (tgt := 38) G dX10_node_32 (by decide) (fun c9 => ?_) (fun c9 => ?_)
      · refine JR_iload_n (pc := 38) (k := 3) (i := 3) G rfl rfl dX10_node_38 ?_
        refine JR_if_ne (pc := 39) (tgt := 51) G dX10_node_39 (by decide) (fun c8 => ?_) (fun c8 => ?_)
        · refine JR_aload_n (pc := 51) (k := 0) (i := 0) (o := some this) G rfl rfl dX10_node_51 ?_
          refine JR_iload_n (pc := 52) (k := 1) (i := 1) G rfl rfl dX10_node_52 ?_
          refine JR_iload_n (pc := 53) (k := 2) (i := 2) G rfl rfl dX10_node_53 ?_
          refine JPV_I (pc := 54) (as := [.int p1, .int p2]) (st' := []) (o := some this) G (Mo_followersOf_fn this p1 p2 S d) (JC_V (n := 2) G hRm cl_X10 q1937 q1939 qs82 q152 q1940 ⟨rfl, dd_X10_followersOf⟩ ⟨by decide, by decide⟩ dX10_node_54 hz1 rfl (Nat.le_of_ble_eq_true rfl)) rfl (fun r6 hr6 => ?_)
          exact JR_iret (pc := 57) G hR dX10_node_57 rfl rfl
        · refine JR_aload_n (pc := 42) (k := 0) (i := 0) (o := some this) G rfl rfl dX10_node_42 ?_
          refine JR_iload_n (pc := 43) (k := 1) (i := 1) G rfl rfl dX10_node_43 ?_
          refine JR_iload_n (pc := 44) (k := 2) (i := 2) G rfl rfl dX10_node_44 ?_
          refine JPV_I (pc := 45) (as := [.int p1, .int p2]) (st' := []) (o := some this) G (Mo_unitsOf_fn this p1 p2 S d) (JC_V (n := 2) G hRm cl_X10 q1933 q1935 qs81 q152 q1936 ⟨rfl, dd_X10_unitsOf⟩ ⟨by decide, by decide⟩ dX10_node_45 hz1 rfl (Nat.le_of_ble_eq_true rfl)) rfl (fun r7 hr7 => ?_)
          refine JR_goto (pc := 48) (tgt := 57) G dX10_node_48 (by decide) ?_
          exact JR_iret (pc := 57) G hR dX10_node_57 rfl rfl
      · refine JR_bipush (pc := 35) (v := (-2)) G (by decide) dX10_node_35 ?_
        exact JR_iret (pc := 37) G hR dX10_node_37 rfl rfl

def Mo_isWatcher (this : Nat) (p1 : Int32) (S : Sp) (d : Dt) : Option Int32 :=
  (isK S 9 (some this)).bind fun z1 =>
  (aix S 50 (S.2.1 z1 1) 3).bind fun q2 =>
  (Mo_in (Int32.toInt64 p1) 0 (Int32.toInt64 ((d.1 q2.1 q2.2) - 1)) S d).bind fun r3 =>
  (gb r3).bind fun b4 =>
  some b4
set_option maxHeartbeats 4000000 in
theorem Mo_isWatcher_fn (this : Nat) (p1 : Int32) (S : Sp) (d : Dt) : Fn yX10_isWatcher (ws_ yX10_isWatcher cX10_isWatcher 2 (some .boolean)) 1 25 [va_rf (some this), .int p1] S d rvI Λp (Mo_isWatcher this p1 S d) := by
  refine Fn.ofJ (own := RX10) (lv := [(0, va_rf (some this)), (1, .int p1)]) (by decide +kernel) rfl (by simp [cat_i, cat_l, cat_f, cat_d, rf_cat]) (by simp [lv_args, cat_i, cat_l, cat_f, cat_d, rf_cat]) ?_
  intro X F G hRm hR hI
  unfold Mo_isWatcher
  refine JR_iload_n (pc := 0) (k := 1) (i := 1) G rfl rfl dX10_isWatcher_0 ?_
  refine JR_i2l (pc := 1) G dX10_isWatcher_1 ?_
  refine JR_lconst (pc := 2) G cl_0 dX10_isWatcher_2 ?_
  refine JR_aload_n (pc := 3) (k := 0) (i := 0) (o := some this) G rfl rfl dX10_isWatcher_3 ?_
  refine J_bd (fun z1 hz1 => ?_)
  refine JR_gR (pc := 4) (k := 1) G cl_X10 in_X10 (by decide) (by decide) rfl (Or.inl rfl) q1589 hz1 dX10_isWatcher_4 ?_
  refine JR_iconst (pc := 7) G ci_3 dX10_isWatcher_7 ?_
  refine J_bd (fun q2 hq2 => ?_)
  refine JR_iaload (pc := 8) G hq2 dX10_isWatcher_8 ?_
  refine JR_iconst (pc := 9) G ci_1 dX10_isWatcher_9 ?_
  refine JR_isub (pc := 10) G dX10_isWatcher_10 ?_
  refine JR_i2l (pc := 11) G dX10_isWatcher_11 ?_
  refine JPS_I (pc := 12) (as := [.long (Int32.toInt64 p1), .long 0, .long (Int32.toInt64 ((d.1 q2.1 q2.2) - 1))]) (st' := []) G (Mo_in_fn (Int32.toInt64 p1) 0 (Int32.toInt64 ((d.1 q2.1 q2.2) - 1)) S d) (JC_S (n := 3) G hRm q1782 q1783 q152 q1784 dd_X10_in ⟨by decide, by decide⟩ dX10_isWatcher_12 rfl (Nat.le_of_ble_eq_true rfl)) rfl (fun r3 hr3 => ?_)
  refine J_bd (fun b4 hb4 => ?_)
  refine J_stk (st' := [.int b4]) (by rw [(gb_at hb4).1]) ?_
  exact JR_zret (pc := 15) G hR dX10_isWatcher_15 (by have h9 := gb_at hb4; rw [h9.1]; exact h9.2) rfl rfl

def Mo_watcher (this : Nat) (p1 : Int32) (S : Sp) (d : Dt) : Option Int32 :=
  (isK S 9 (some this)).bind fun z1 =>
  (Mo_isWatcher this p1 S d).bind fun r2 =>
  if r2 = 0 then
    some ((-2))
  else
    (aix S 50 (S.2.1 z1 1) (8 + p1)).bind fun q3 =>
    some (d.1 q3.1 q3.2)
set_option maxHeartbeats 4000000 in
theorem Mo_watcher_fn (this : Nat) (p1 : Int32) (S : Sp) (d : Dt) : Fn yX10_watcher (ws_ yX10_watcher cX10_watcher 2 (some .int)) 2 46 [va_rf (some this), .int p1] S d rvI Λp (Mo_watcher this p1 S d) := by
  refine Fn.ofJ (own := RX10) (lv := [(0, va_rf (some this)), (1, .int p1)]) (by decide +kernel) rfl (by simp [cat_i, cat_l, cat_f, cat_d, rf_cat]) (by simp [lv_args, cat_i, cat_l, cat_f, cat_d, rf_cat]) ?_
  intro X F G hRm hR hI
  unfold Mo_watcher
  refine JR_aload_n (pc := 0) (k := 0) (i := 0) (o := some this) G rfl rfl dX10_watcher_0 ?_
  refine JR_iload_n (pc := 1) (k := 1) (i := 1) G rfl rfl dX10_watcher_1 ?_
  refine J_bd (fun z1 hz1 => ?_)
  refine JPV_I (pc := 2) (as := [.int p1]) (st' := []) (o := some this) G (Mo_isWatcher_fn this p1 S d) (JC_V (n := 1) G hRm cl_X10 q1949 q1951 qs84 q152 q1952 ⟨rfl, dd_X10_isWatcher⟩ ⟨by decide, by decide⟩ dX10_watcher_2 hz1 rfl (Nat.le_of_ble_eq_true rfl)) rfl (fun r2 hr2 => ?_)
  refine JR_if_eq (pc := 5) (tgt := 20) G dX10_watcher_5 (by decide) (fun c4 => ?_) (fun c4 => ?_)
  · refine JR_bipush (pc := 20) (v := (-2)) G (by decide) dX10_watcher_20 ?_
    exact JR_iret (pc := 22) G hR dX10_watcher_22 rfl rfl
  · refine JR_aload_n (pc := 8) (k := 0) (i := 0) (o := some this) G rfl rfl dX10_watcher_8 ?_
    refine JR_gR (pc := 9) (k := 1) G cl_X10 in_X10 (by decide) (by decide) rfl (Or.inl rfl) q1589 hz1 dX10_watcher_9 ?_
    refine JR_bipush (pc := 12) (v := 8) G (by decide) dX10_watcher_12 ?_
    refine JR_iload_n (pc := 14) (k := 1) (i := 1) G rfl rfl dX10_watcher_14 ?_
    refine JR_iadd (pc := 15) G dX10_watcher_15 ?_
    refine J_bd (fun q3 hq3 => ?_)
    refine JR_iaload (pc := 16) G hq3 dX10_watcher_16 ?_
    refine JR_goto (pc := 17) (tgt := 22) G dX10_watcher_17 (by decide) ?_
    exact JR_iret (pc := 22) G hR dX10_watcher_22 rfl rfl

def Mo_many (this : Nat) (S : Sp) (d : Dt) : Option Int32 :=
  (isK S 9 (some this)).bind fun z1 =>
  (aix S 50 (S.2.1 z1 1) 5).bind fun q2 =>
  (aix S 50 (S.2.1 z1 1) 6).bind fun q3 =>
  some ((d.1 q2.1 q2.2) + (d.1 q3.1 q3.2))
set_option maxHeartbeats 4000000 in
theorem Mo_many_fn (this : Nat) (S : Sp) (d : Dt) : Fn yX10_many (ws_ yX10_many cX10_many 1 (some .int)) 0 0 [va_rf (some this)] S d rvI Λp (Mo_many this S d) := by
  refine Fn.ofJ (own := RX10) (lv := [(0, va_rf (some this))]) (by decide +kernel) rfl (by simp [cat_i, cat_l, cat_f, cat_d, rf_cat]) (by simp [lv_args, cat_i, cat_l, cat_f, cat_d, rf_cat]) ?_
  intro X F G hRm hR hI
  unfold Mo_many
  refine JR_aload_n (pc := 0) (k := 0) (i := 0) (o := some this) G rfl rfl dX10_many_0 ?_
  refine J_bd (fun z1 hz1 => ?_)
  refine JR_gR (pc := 1) (k := 1) G cl_X10 in_X10 (by decide) (by decide) rfl (Or.inl rfl) q1589 hz1 dX10_many_1 ?_
  refine JR_iconst (pc := 4) G ci_5 dX10_many_4 ?_
  refine J_bd (fun q2 hq2 => ?_)
  refine JR_iaload (pc := 5) G hq2 dX10_many_5 ?_
  refine JR_aload_n (pc := 6) (k := 0) (i := 0) (o := some this) G rfl rfl dX10_many_6 ?_
  refine JR_gR (pc := 7) (k := 1) G cl_X10 in_X10 (by decide) (by decide) rfl (Or.inl rfl) q1589 hz1 dX10_many_7 ?_
  refine JR_bipush (pc := 10) (v := 6) G (by decide) dX10_many_10 ?_
  refine J_bd (fun q3 hq3 => ?_)
  refine JR_iaload (pc := 12) G hq3 dX10_many_12 ?_
  refine JR_iadd (pc := 13) G dX10_many_13 ?_
  exact JR_iret (pc := 14) G hR dX10_many_14 rfl rfl

def Mo_of (this : Nat) (p1 : Int32) (p2 : Int32) (S : Sp) (d : Dt) : Option Int32 :=
  (isK S 9 (some this)).bind fun z1 =>
  (aix S 50 (S.2.1 z1 1) ((106 + (5 * p1)) + p2)).bind fun q2 =>
  some (d.1 q2.1 q2.2)
set_option maxHeartbeats 4000000 in
theorem Mo_of_fn (this : Nat) (p1 : Int32) (p2 : Int32) (S : Sp) (d : Dt) : Fn yX10_of (ws_ yX10_of cX10_of 3 (some .int)) 0 0 [va_rf (some this), .int p1, .int p2] S d rvI Λp (Mo_of this p1 p2 S d) := by
  refine Fn.ofJ (own := RX10) (lv := [(0, va_rf (some this)), (1, .int p1), (2, .int p2)]) (by decide +kernel) rfl (by simp [cat_i, cat_l, cat_f, cat_d, rf_cat]) (by simp [lv_args, cat_i, cat_l, cat_f, cat_d, rf_cat]) ?_
  intro X F G hRm hR hI
  unfold Mo_of
  refine JR_aload_n (pc := 0) (k := 0) (i := 0) (o := some this) G rfl rfl dX10_of_0 ?_
  refine J_bd (fun z1 hz1 => ?_)
  refine JR_gR (pc := 1) (k := 1) G cl_X10 in_X10 (by decide) (by decide) rfl (Or.inl rfl) q1589 hz1 dX10_of_1 ?_
  refine JR_bipush (pc := 4) (v := 106) G (by decide) dX10_of_4 ?_
  refine JR_iconst (pc := 6) G ci_5 dX10_of_6 ?_
  refine JR_iload_n (pc := 7) (k := 1) (i := 1) G rfl rfl dX10_of_7 ?_
  refine JR_imul (pc := 8) G dX10_of_8 ?_
  refine JR_iadd (pc := 9) G dX10_of_9 ?_
  refine JR_iload_n (pc := 10) (k := 2) (i := 2) G rfl rfl dX10_of_10 ?_
  refine JR_iadd (pc := 11) G dX10_of_11 ?_
  refine J_bd (fun q2 hq2 => ?_)
  refine JR_iaload (pc := 12) G hq2 dX10_of_12 ?_
  exact JR_iret (pc := 13) G hR dX10_of_13 rfl rfl

def Mo_injection (this : Nat) (p1 : Int32) (p2 : Int32) (S : Sp) (d : Dt) : Option Int32 :=
  (isK S 9 (some this)).bind fun z1 =>
  (Mo_many this S d).bind fun r2 =>
  (Mo_in (Int32.toInt64 p1) 0 (Int32.toInt64 (r2 - 1)) S d).bind fun r3 =>
  if r3 = 0 then
    some ((-2))
  else
    (Mo_in (Int32.toInt64 p2) 0 4 S d).bind fun r4 =>
    if r4 = 0 then
      some ((-2))
    else
      (Mo_of this p1 p2 S d).bind fun r5 =>
      some r5
set_option maxHeartbeats 4000000 in
theorem Mo_injection_fn (this : Nat) (p1 : Int32) (p2 : Int32) (S : Sp) (d : Dt) : Fn yX10_injection (ws_ yX10_injection cX10_injection 3 (some .int)) 1 25 [va_rf (some this), .int p1, .int p2] S d rvI Λp (Mo_injection this p1 p2 S d) := by
  refine Fn.ofJ (own := RX10) (lv := [(0, va_rf (some this)), (1, .int p1), (2, .int p2)]) (by decide +kernel) rfl (by simp [cat_i, cat_l, cat_f, cat_d, rf_cat]) (by simp [lv_args, cat_i, cat_l, cat_f, cat_d, rf_cat]) ?_
  intro X F G hRm hR hI
  unfold Mo_injection
  refine JR_iload_n (pc := 0) (k := 1) (i := 1) G rfl rfl dX10_injection_0 ?_
  refine JR_i2l (pc := 1) G dX10_injection_1 ?_
  refine JR_lconst (pc := 2) G cl_0 dX10_injection_2 ?_
  refine JR_aload_n (pc := 3) (k := 0) (i := 0) (o := some this) G rfl rfl dX10_injection_3 ?_
  refine J_bd (fun z1 hz1 => ?_)
  refine JPV_I (pc := 4) (as := []) (st' := [.long 0, .long (Int32.toInt64 p1)]) (o := some this) G (Mo_many_fn this S d) (JC_V (n := 0) G hRm cl_X10 q1957 q1959 qs85 q152 q1960 ⟨rfl, dd_X10_many⟩ ⟨by decide, by decide⟩ dX10_injection_4 hz1 rfl (Nat.le_of_ble_eq_true rfl)) rfl (fun r2 hr2 => ?_)
  refine JR_iconst (pc := 7) G ci_1 dX10_injection_7 ?_
  refine JR_isub (pc := 8) G dX10_injection_8 ?_
  refine JR_i2l (pc := 9) G dX10_injection_9 ?_
  refine JPS_I (pc := 10) (as := [.long (Int32.toInt64 p1), .long 0, .long (Int32.toInt64 (r2 - 1))]) (st' := []) G (Mo_in_fn (Int32.toInt64 p1) 0 (Int32.toInt64 (r2 - 1)) S d) (JC_S (n := 3) G hRm q1782 q1783 q152 q1784 dd_X10_in ⟨by decide, by decide⟩ dX10_injection_10 rfl (Nat.le_of_ble_eq_true rfl)) rfl (fun r3 hr3 => ?_)
  refine JR_if_eq (pc := 13) (tgt := 37) G dX10_injection_13 (by decide) (fun c7 => ?_) (fun c7 => ?_)
  · refine JR_bipush (pc := 37) (v := (-2)) G (by decide) dX10_injection_37 ?_
    exact JR_iret (pc := 39) G hR dX10_injection_39 rfl rfl
  · refine JR_iload_n (pc := 16) (k := 2) (i := 2) G rfl rfl dX10_injection_16 ?_
    refine JR_i2l (pc := 17) G dX10_injection_17 ?_
    refine JR_lconst (pc := 18) G cl_0 dX10_injection_18 ?_
    refine JR_ldc2 (pc := 19) G q1961 dX10_injection_19 ?_
    refine JPS_I (pc := 22) (as := [.long (Int32.toInt64 p2), .long 0, .long 4]) (st' := []) G (Mo_in_fn (Int32.toInt64 p2) 0 4 S d) (JC_S (n := 3) G hRm q1782 q1783 q152 q1784 dd_X10_in ⟨by decide, by decide⟩ dX10_injection_22 rfl (Nat.le_of_ble_eq_true rfl)) rfl (fun r4 hr4 => ?_)
    refine JR_if_eq (pc := 25) (tgt := 37) G dX10_injection_25 (by decide) (fun c6 => ?_) (fun c6 => ?_)
    · refine JR_bipush (pc := 37) (v := (-2)) G (by decide) dX10_injection_37 ?_
      exact JR_iret (pc := 39) G hR dX10_injection_39 rfl rfl
    · refine JR_aload_n (pc := 28) (k := 0) (i := 0) (o := some this) G rfl rfl dX10_injection_28 ?_
      refine JR_iload_n (pc := 29) (k := 1) (i := 1) G rfl rfl dX10_injection_29 ?_
      refine JR_iload_n (pc := 30) (k := 2) (i := 2) G rfl rfl dX10_injection_30 ?_
      refine JPV_I (pc := 31) (as := [.int p1, .int p2]) (st' := []) (o := some this) G (Mo_of_fn this p1 p2 S d) (JC_V (n := 2) G hRm cl_X10 q1962 q1964 qs86 q152 q1965 ⟨rfl, dd_X10_of⟩ ⟨by decide, by decide⟩ dX10_injection_31 hz1 rfl (Nat.le_of_ble_eq_true rfl)) rfl (fun r5 hr5 => ?_)
      refine JR_goto (pc := 34) (tgt := 39) G dX10_injection_34 (by decide) ?_
      exact JR_iret (pc := 39) G hR dX10_injection_39 rfl rfl

def Mo_followers_b34 (this : Nat) (p1 : Int32) (p2 : Int32) (S : Sp) (d : Dt) (k7 : Int32 → Int32 → Option (Int32)) (v4 : Int32) (s0 : Int32) (s1 : Int32) : Option Int32 :=
  (some (s1 + s0)).bind fun x7 =>
  k7 x7 (v4 + 1)
def Mo_followers_h7 (this : Nat) (p1 : Int32) (p2 : Int32) (S : Sp) (d : Dt) : Nat → Int32 → Int32 → Option Int32
  | 0, _, _ => none
  | f + 1, v3, v4 =>
    (isK S 9 (some this)).bind fun z2 =>
    (Mo_nodesOf this p1 S d).bind fun r3 =>
    if r3 ≤ v4 then
      some v3
    else
      (Mo_isBehind this p1 v4 p2 S d).bind fun r4 =>
      Mo_followers_b34 this p1 p2 S d (Mo_followers_h7 this p1 p2 S d f) v4 (if r4 = 0 then 0 else 1) v3
def Mo_followers (this : Nat) (p1 : Int32) (p2 : Int32) (S : Sp) (d : Dt) : Option Int32 :=
  (some (p2 + 1)).bind fun x1 =>
  Mo_followers_h7 this p1 p2 S d FU 0 x1
set_option maxHeartbeats 4000000 in
theorem Mo_followers_fn (this : Nat) (p1 : Int32) (p2 : Int32) (S : Sp) (d : Dt) : Fn yX10_followers (ws_ yX10_followers cX10_followers 5 (some .int)) 2 43 [va_rf (some this), .int p1, .int p2] S d rvI Λp (Mo_followers this p1 p2 S d) := by
  refine Fn.ofJ (own := RX10) (lv := [(0, va_rf (some this)), (1, .int p1), (2, .int p2)]) (by decide +kernel) rfl (by simp [cat_i, cat_l, cat_f, cat_d, rf_cat]) (by simp [lv_args, cat_i, cat_l, cat_f, cat_d, rf_cat]) ?_
  intro X F G hRm hR hI
  have hMo_followers_b34 : ∀ (k7 : Int32 → Int32 → Option (Int32)) (hk7 : ∀ (v3 : Int32) (v4 : Int32), J X F Λp S d 7 [(0, va_rf (some this)), (1, .int p1), (2, .int p2), (3, .int v3), (4, .int v4)] [] (k7 v3 v4)) (v4 : Int32) (s0 : Int32) (s1 : Int32), J X F Λp S d 34 [(0, va_rf (some this)), (1, .int p1), (2, .int p2), (4, .int v4)] [.int s0, .int s1] (Mo_followers_b34 this p1 p2 S d k7 v4 s0 s1) := by
    intro k7 hk7 v4 s0 s1
    unfold Mo_followers_b34
    refine JR_iadd (pc := 34) G dX10_followers_34 ?_
    refine J_nm (fun x7 hx7 => ?_)
    refine JR_istore_n (pc := 35) (k := 3) (i := 3) (lv' := [(3, .int x7), (0, va_rf (some this)), (1, .int p1), (2, .int p2), (4, .int v4)]) G rfl (by decide) rfl dX10_followers_35 ?_
    refine JR_iinc (pc := 36) (i := 4) (v := v4 + 1) (lv' := [(4, .int (v4 + 1)), (3, .int x7), (0, va_rf (some this)), (1, .int p1), (2, .int p2)]) G rfl (congrArg (fun z => v4 + z) (by decide)) (by decide) rfl dX10_followers_36 ?_
    refine JR_goto (pc := 39) (tgt := 7) G dX10_followers_39 (by decide) ?_
    refine J_sub [2, 3, 4, 1, 0] rfl ?_
    exact hk7 x7 (v4 + 1)
  have hMo_followers_h7 : ∀ (f : Nat) (v3 : Int32) (v4 : Int32), J X F Λp S d 7 [(0, va_rf (some this)), (1, .int p1), (2, .int p2), (3, .int v3), (4, .int v4)] [] (Mo_followers_h7 this p1 p2 S d f v3 v4) := by
    intro  f
    induction f with
    | zero => intro v3 v4; exact J_no
    | succ f ih =>
      intro v3 v4
      unfold Mo_followers_h7
      refine JR_iload (pc := 7) (i := 4) G rfl dX10_followers_7 ?_
      refine JR_aload_n (pc := 9) (k := 0) (i := 0) (o := some this) G rfl rfl dX10_followers_9 ?_
      refine JR_iload_n (pc := 10) (k := 1) (i := 1) G rfl rfl dX10_followers_10 ?_
      refine J_bd (fun z2 hz2 => ?_)
      refine JPV_I (pc := 11) (as := [.int p1]) (st' := [.int v4]) (o := some this) G (Mo_nodesOf_fn this p1 S d) (JC_V (n := 1) G hRm cl_X10 q1929 q1931 qs80 q152 q1932 ⟨rfl, dd_X10_nodesOf⟩ ⟨by decide, by decide⟩ dX10_followers_11 hz2 rfl (Nat.le_of_ble_eq_true rfl)) rfl (fun r3 hr3 => ?_)
      refine JR_icmp_ge (pc := 14) (tgt := 42) G dX10_followers_14 (by decide) (fun c6 => ?_) (fun c6 => ?_)
      · refine JR_iload_n (pc := 42) (k := 3) (i := 3) G rfl rfl dX10_followers_42 ?_
        exact JR_iret (pc := 43) G hR dX10_followers_43 rfl rfl
      · refine JR_iload_n (pc := 17) (k := 3) (i := 3) G rfl rfl dX10_followers_17 ?_
        refine JR_aload_n (pc := 18) (k := 0) (i := 0) (o := some this) G rfl rfl dX10_followers_18 ?_
        refine JR_iload_n (pc := 19) (k := 1) (i := 1) G rfl rfl dX10_followers_19 ?_
        refine JR_iload (pc := 20) (i := 4) G rfl dX10_followers_20 ?_
        refine JR_iload_n (pc := 22) (k := 2) (i := 2) G rfl rfl dX10_followers_22 ?_
        refine JPV_I (pc := 23) (as := [.int p1, .int v4, .int p2]) (st' := [.int v3]) (o := some this) G (Mo_isBehind_fn this p1 v4 p2 S d) (JC_V (n := 3) G hRm cl_X10 q1941 q1943 qs83 q152 q1944 ⟨rfl, dd_X10_isBehind⟩ ⟨by decide, by decide⟩ dX10_followers_23 hz2 rfl (Nat.le_of_ble_eq_true rfl)) rfl (fun r4 hr4 => ?_)
        refine J_eq (r' := if r4 = 0 then Mo_followers_b34 this p1 p2 S d (Mo_followers_h7 this p1 p2 S d f) v4 0 v3 else Mo_followers_b34 this p1 p2 S d (Mo_followers_h7 this p1 p2 S d f) v4 1 v3) (by split <;> rfl) ?_
        refine JR_if_eq (pc := 26) (tgt := 33) G dX10_followers_26 (by decide) (fun c5 => ?_) (fun c5 => ?_)
        · refine JR_iconst (pc := 33) G ci_0 dX10_followers_33 ?_
          refine J_sub [0, 1, 2, 4] rfl ?_
          exact hMo_followers_b34 (Mo_followers_h7 this p1 p2 S d f) ih v4 0 v3
        · refine JR_iconst (pc := 29) G ci_1 dX10_followers_29 ?_
          refine JR_goto (pc := 30) (tgt := 34) G dX10_followers_30 (by decide) ?_
          refine J_sub [0, 1, 2, 4] rfl ?_
          exact hMo_followers_b34 (Mo_followers_h7 this p1 p2 S d f) ih v4 1 v3
  unfold Mo_followers
  refine JR_iconst (pc := 0) G ci_0 dX10_followers_0 ?_
  refine JR_istore_n (pc := 1) (k := 3) (i := 3) (lv' := [(3, .int 0), (0, va_rf (some this)), (1, .int p1), (2, .int p2)]) G rfl (by decide) rfl dX10_followers_1 ?_
  refine JR_iload_n (pc := 2) (k := 2) (i := 2) G rfl rfl dX10_followers_2 ?_
  refine JR_iconst (pc := 3) G ci_1 dX10_followers_3 ?_
  refine JR_iadd (pc := 4) G dX10_followers_4 ?_
  refine J_nm (fun x1 hx1 => ?_)
  refine JR_istore (pc := 5) (i := 4) (lv' := [(4, .int x1), (3, .int 0), (0, va_rf (some this)), (1, .int p1), (2, .int p2)]) G (by decide) rfl dX10_followers_5 ?_
  refine J_sub [2, 3, 4, 1, 0] rfl ?_
  exact hMo_followers_h7 FU 0 x1
