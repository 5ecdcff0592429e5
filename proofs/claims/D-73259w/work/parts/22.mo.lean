/-! WatchStackModel, printed -/
set_option maxRecDepth 100000
def Mo_closeOf (this : Nat) (p1 : Int32) (S : Sp) (d : Dt) : Option Int32 :=
  (isK S 9 (some this)).bind fun z1 =>
  if ¬ p1 = (d.1 z1 24) then
    (Mo_toldOf this p1 3 S d).bind fun r2 =>
    some r2
  else
    some (d.1 z1 26)
set_option maxHeartbeats 4000000 in
theorem Mo_closeOf_fn (this : Nat) (p1 : Int32) (S : Sp) (d : Dt) : Fn yX10_closeOf (ws_ yX10_closeOf cX10_closeOf 2 (some .int)) 1 22 [va_rf (some this), .int p1] S d rvI Λp (Mo_closeOf this p1 S d) := by
  refine Fn.ofJ (own := RX10) (lv := [(0, va_rf (some this)), (1, .int p1)]) (by decide +kernel) rfl (by simp [cat_i, cat_l, cat_f, cat_d, rf_cat]) (by simp [lv_args, cat_i, cat_l, cat_f, cat_d, rf_cat]) ?_
  intro X F G hRm hR hI
  unfold Mo_closeOf
  refine JR_iload_n (pc := 0) (k := 1) (i := 1) G rfl rfl dX10_closeOf_0 ?_
  refine JR_aload_n (pc := 1) (k := 0) (i := 0) (o := some this) G rfl rfl dX10_closeOf_1 ?_
  refine J_bd (fun z1 hz1 => ?_)
  refine JR_gI (pc := 2) (k := 24) G cl_X10 in_X10 (by decide) (by decide) rfl (Or.inl rfl) q1612 hz1 dX10_closeOf_2 ?_
  refine JR_icmp_ne (pc := 5) (tgt := 15) G dX10_closeOf_5 (by decide) (fun c3 => ?_) (fun c3 => ?_)
  · refine JR_aload_n (pc := 15) (k := 0) (i := 0) (o := some this) G rfl rfl dX10_closeOf_15 ?_
    refine JR_iload_n (pc := 16) (k := 1) (i := 1) G rfl rfl dX10_closeOf_16 ?_
    refine JR_iconst (pc := 17) G ci_3 dX10_closeOf_17 ?_
    refine JPV_I (pc := 18) (as := [.int p1, .int 3]) (st' := []) (o := some this) G (Mo_toldOf_fn this p1 3 S d) (JC_V (n := 2) G hRm cl_X10 q1921 q1923 qs79 q152 q1924 ⟨rfl, dd_X10_toldOf⟩ ⟨by decide, by decide⟩ dX10_closeOf_18 hz1 rfl (Nat.le_of_ble_eq_true rfl)) rfl (fun r2 hr2 => ?_)
    exact JR_iret (pc := 21) G hR dX10_closeOf_21 rfl rfl
  · refine JR_aload_n (pc := 8) (k := 0) (i := 0) (o := some this) G rfl rfl dX10_closeOf_8 ?_
    refine JR_gI (pc := 9) (k := 26) G cl_X10 in_X10 (by decide) (by decide) rfl (Or.inl rfl) q1614 hz1 dX10_closeOf_9 ?_
    refine JR_goto (pc := 12) (tgt := 21) G dX10_closeOf_12 (by decide) ?_
    exact JR_iret (pc := 21) G hR dX10_closeOf_21 rfl rfl

def Mo_kickNow_b177 (this : Nat) (p1 : Int32) (p2 : Int32) (S : Sp) (v3 : Int32) (d : Dt) : Option (Unit × Dt) :=
  (isK S 9 (some this)).bind fun z28 =>
  (aix S 53 (S.2.1 z28 38) p1).bind fun q29 =>
  (gf (FP.fsub FP.fconst1 (d.2.1 q29.1 q29.2))).bind fun g30 =>
  (gf (FP.fmul g30 1048576000)).bind fun g31 =>
  (gf (FP.fadd (d.2.1 q29.1 q29.2) g31)).bind fun g32 =>
  (some (dF d q29.1 q29.2 g32)).bind fun d33 =>
  (aix S 50 (S.2.1 z28 33) p1).bind fun q34 =>
  (some (dI d33 q34.1 q34.2 (irm ((13 * (d33.1 q34.1 q34.2)) + 7) 64))).bind fun d35 =>
  (aix S 50 (S.2.1 z28 34) p1).bind fun q36 =>
  (some (dI d35 q36.1 q36.2 p2)).bind fun d37 =>
  (aix S 51 (S.2.1 z28 35) p1).bind fun q38 =>
  (some (dI d37 q38.1 q38.2 (vp_nar .boolean 1))).bind fun d39 =>
  (aix S 50 (S.2.1 z28 36) p1).bind fun q40 =>
  (some (dI d39 q40.1 q40.2 ((d39.1 q40.1 q40.2) + 1))).bind fun d41 =>
  (aix S 50 (S.2.1 z28 41) p1).bind fun q42 =>
  (aix S 50 (S.2.1 z28 46) ((200 * p1) + (d41.1 q42.1 q42.2))).bind fun q43 =>
  (some (dI d41 q43.1 q43.2 v3)).bind fun d44 =>
  (some (dI d44 q42.1 q42.2 ((d44.1 q42.1 q42.2) + 1))).bind fun d45 =>
  (aix S 50 (S.2.1 z28 42) p1).bind fun q46 =>
  (some (dI d45 q46.1 q46.2 p2)).bind fun d47 =>
  some ((), d47)
def Mo_kickNow_b154 (this : Nat) (p1 : Int32) (p2 : Int32) (S : Sp) (v3 : Int32) (v5 : UInt32) (s0 : UInt32) (s1 : Int32) (s2 : Option Nat) (d : Dt) : Option (Unit × Dt) :=
  (aix S 53 s2 s1).bind fun q48 =>
  (some (dF d q48.1 q48.2 s0)).bind fun d49 =>
  (isK S 9 (some this)).bind fun z50 =>
  (aix S 54 (S.2.1 z50 44) p1).bind fun q51 =>
  (gd (FP.f2d v5)).bind fun g52 =>
  (gd (FP.dadd (d49.2.2 q51.1 q51.2) g52)).bind fun g53 =>
  (some (dD d49 q51.1 q51.2 g53)).bind fun d54 =>
  (aix S 50 (S.2.1 z50 45) p1).bind fun q55 =>
  (some (dI d54 q55.1 q55.2 ((d54.1 q55.1 q55.2) + 1))).bind fun d56 =>
  Mo_kickNow_b177 this p1 p2 S v3 d56
def Mo_kickNow_b143 (this : Nat) (p1 : Int32) (p2 : Int32) (S : Sp) (v3 : Int32) (v5 : UInt32) (s0 : Int32) (s1 : Option Nat) (d : Dt) : Option (Unit × Dt) :=
  Mo_kickNow_b154 this p1 p2 S v3 v5 v5 s0 s1 d
def Mo_kickNow_b62 (this : Nat) (p1 : Int32) (p2 : Int32) (S : Sp) (v3 : Int32) (s0 : Int32) (d : Dt) : Option (Unit × Dt) :=
  (isK S 9 (some this)).bind fun z13 =>
  (aix S 50 (S.2.1 z13 29) p1).bind fun q14 =>
  (some (dI d q14.1 q14.2 ((-1)))).bind fun d15 =>
  if s0 ≤ 0 then
    (aix S 51 (S.2.1 z13 35) p1).bind fun q16 =>
    if (d15.1 q16.1 q16.2) = 0 then
      Mo_kickNow_b177 this p1 p2 S v3 d15
    else
      (Mo_closeOf this p1 S d15).bind fun r17 =>
      (Mo_closeOf this p1 S d15).bind fun r18 =>
      (Mo_openOf this p1 S d15).bind fun r19 =>
      (gf (FP.fdiv (FP.i2f (r17 - v3)) (FP.i2f (r18 - r19)))).bind fun g20 =>
      (aix S 50 (S.2.1 z13 45) p1).bind fun q21 =>
      if (d15.1 q21.1 q21.2) = 0 then
        Mo_kickNow_b143 this p1 p2 S v3 g20 p1 (S.2.1 z13 43) d15
      else
        (aix S 53 (S.2.1 z13 43) p1).bind fun q22 =>
        if 0 ≤ (Op.cmpValue (FP.fcmp g20 (d15.2.1 q22.1 q22.2)) .g) then
          Mo_kickNow_b154 this p1 p2 S v3 g20 (d15.2.1 q22.1 q22.2) p1 (S.2.1 z13 43) d15
        else
          Mo_kickNow_b143 this p1 p2 S v3 g20 p1 (S.2.1 z13 43) d15
  else
    bind2 (Mo_faultOf this p1 s0 p2 S d15) fun _ d26 =>
    some ((), d26)
def Mo_kickNow_b61 (this : Nat) (p1 : Int32) (p2 : Int32) (S : Sp) (v3 : Int32) (d : Dt) : Option (Unit × Dt) :=
  Mo_kickNow_b62 this p1 p2 S v3 0 d
def Mo_kickNow (this : Nat) (p1 : Int32) (p2 : Int32) (S : Sp) (d : Dt) : Option (Unit × Dt) :=
  (isK S 9 (some this)).bind fun z1 =>
  (aix S 50 (S.2.1 z1 34) p1).bind fun q2 =>
  (some (p2 - (d.1 q2.1 q2.2))).bind fun x3 =>
  (aix S 50 (S.2.1 z1 31) p1).bind fun q4 =>
  (Mo_followers this p1 (d.1 q4.1 q4.2) S d).bind fun r5 =>
  if r5 ≤ 0 then
    (Mo_isWrong this p1 S d).bind fun r6 =>
    if r6 = 0 then
      (aix S 51 (S.2.1 z1 35) p1).bind fun q7 =>
      if (d.1 q7.1 q7.2) = 0 then
        Mo_kickNow_b61 this p1 p2 S x3 d
      else
        (Mo_openOf this p1 S d).bind fun r8 =>
        if r8 ≤ x3 then
          Mo_kickNow_b61 this p1 p2 S x3 d
        else
          Mo_kickNow_b62 this p1 p2 S x3 1 d
    else
      Mo_kickNow_b62 this p1 p2 S x3 4 d
  else
    Mo_kickNow_b62 this p1 p2 S x3 3 d
set_option maxHeartbeats 4000000 in
theorem Mo_kickNow_fn (this : Nat) (p1 : Int32) (p2 : Int32) (S : Sp) (d : Dt) : Fn yX10_kickNow (ws_ yX10_kickNow cX10_kickNow 6 none) 6 137 [va_rf (some this), .int p1, .int p2] S d rvU Λw (Mo_kickNow this p1 p2 S d) := by
  refine Fn.ofJ (own := RX10) (lv := [(0, va_rf (some this)), (1, .int p1), (2, .int p2)]) (by decide +kernel) rfl (by simp [cat_i, cat_l, cat_f, cat_d, rf_cat]) (by simp [lv_args, cat_i, cat_l, cat_f, cat_d, rf_cat]) ?_
  intro X F G hRm hR hI
  have hMo_kickNow_b177 : ∀ (v3 : Int32) (d : Dt), J X F Λw S d 177 [(0, va_rf (some this)), (1, .int p1), (2, .int p2), (3, .int v3)] [] (Mo_kickNow_b177 this p1 p2 S v3 d) := by
    intro v3 d
    unfold Mo_kickNow_b177
    refine JR_aload_n (pc := 177) (k := 0) (i := 0) (o := some this) G rfl rfl dX10_kickNow_177 ?_
    refine J_bd (fun z28 hz28 => ?_)
    refine JR_gR (pc := 178) (k := 38) G cl_X10 in_X10 (by decide) (by decide) rfl (Or.inl rfl) q1626 hz28 dX10_kickNow_178 ?_
    refine JR_iload_n (pc := 181) (k := 1) (i := 1) G rfl rfl dX10_kickNow_181 ?_
    refine JR_aload_n (pc := 182) (k := 0) (i := 0) (o := some this) G rfl rfl dX10_kickNow_182 ?_
    refine JR_gR (pc := 183) (k := 38) G cl_X10 in_X10 (by decide) (by decide) rfl (Or.inl rfl) q1626 hz28 dX10_kickNow_183 ?_
    refine JR_iload_n (pc := 186) (k := 1) (i := 1) G rfl rfl dX10_kickNow_186 ?_
    refine J_bd (fun q29 hq29 => ?_)
    refine JR_faload (pc := 187) G hq29 dX10_kickNow_187 ?_
    refine JR_fconst1 (pc := 188) G dX10_kickNow_188 ?_
    refine JR_aload_n (pc := 189) (k := 0) (i := 0) (o := some this) G rfl rfl dX10_kickNow_189 ?_
    refine JR_gR (pc := 190) (k := 38) G cl_X10 in_X10 (by decide) (by decide) rfl (Or.inl rfl) q1626 hz28 dX10_kickNow_190 ?_
    refine JR_iload_n (pc := 193) (k := 1) (i := 1) G rfl rfl dX10_kickNow_193 ?_
    refine JR_faload (pc := 194) G hq29 dX10_kickNow_194 ?_
    refine J_bd (fun g30 hg30 => ?_)
    refine JR_fsub (pc := 195) G hg30 dX10_kickNow_195 ?_
    refine JR_ldcwF (pc := 196) G q2163 dX10_kickNow_196 ?_
    refine J_bd (fun g31 hg31 => ?_)
    refine JR_fmul (pc := 199) G hg31 dX10_kickNow_199 ?_
    refine J_bd (fun g32 hg32 => ?_)
    refine JR_fadd (pc := 200) G hg32 dX10_kickNow_200 ?_
    refine JW_fastore (pc := 201) G hq29 (fun _ => rfl) dX10_kickNow_201 ?_
    refine J_nmD (fun d33 hd33 => ?_)
    refine JR_aload_n (pc := 202) (k := 0) (i := 0) (o := some this) G rfl rfl dX10_kickNow_202 ?_
    refine JR_gR (pc := 203) (k := 33) G cl_X10 in_X10 (by decide) (by decide) rfl (Or.inl rfl) q1621 hz28 dX10_kickNow_203 ?_
    refine JR_iload_n (pc := 206) (k := 1) (i := 1) G rfl rfl dX10_kickNow_206 ?_
    refine JR_bipush (pc := 207) (v := 13) G (by decide) dX10_kickNow_207 ?_
    refine JR_aload_n (pc := 209) (k := 0) (i := 0) (o := some this) G rfl rfl dX10_kickNow_209 ?_
    refine JR_gR (pc := 210) (k := 33) G cl_X10 in_X10 (by decide) (by decide) rfl (Or.inl rfl) q1621 hz28 dX10_kickNow_210 ?_
    refine JR_iload_n (pc := 213) (k := 1) (i := 1) G rfl rfl dX10_kickNow_213 ?_
    refine J_bd (fun q34 hq34 => ?_)
    refine JR_iaload (pc := 214) G hq34 dX10_kickNow_214 ?_
    refine JR_imul (pc := 215) G dX10_kickNow_215 ?_
    refine JR_bipush (pc := 216) (v := 7) G (by decide) dX10_kickNow_216 ?_
    refine JR_iadd (pc := 218) G dX10_kickNow_218 ?_
    refine JR_bipush (pc := 219) (v := 64) G (by decide) dX10_kickNow_219 ?_
    refine JR_irem (pc := 221) G (by decide) dX10_kickNow_221 ?_
    refine JW_iastore (pc := 222) G hq34 (fun _ => rfl) dX10_kickNow_222 ?_
    refine J_nmD (fun d35 hd35 => ?_)
    refine JR_aload_n (pc := 223) (k := 0) (i := 0) (o := some this) G rfl rfl dX10_kickNow_223 ?_
    refine JR_gR (pc := 224) (k := 34) G cl_X10 in_X10 (by decide) (by decide) rfl (Or.inl rfl) q1622 hz28 dX10_kickNow_224 ?_
    refine JR_iload_n (pc := 227) (k := 1) (i := 1) G rfl rfl dX10_kickNow_227 ?_
    refine JR_iload_n (pc := 228) (k := 2) (i := 2) G rfl rfl dX10_kickNow_228 ?_
    refine J_bd (fun q36 hq36 => ?_)
    refine JW_iastore (pc := 229) G hq36 (fun _ => rfl) dX10_kickNow_229 ?_
    refine J_nmD (fun d37 hd37 => ?_)
    refine JR_aload_n (pc := 230) (k := 0) (i := 0) (o := some this) G rfl rfl dX10_kickNow_230 ?_
    refine JR_gR (pc := 231) (k := 35) G cl_X10 in_X10 (by decide) (by decide) rfl (Or.inl rfl) q1623 hz28 dX10_kickNow_231 ?_
    refine JR_iload_n (pc := 234) (k := 1) (i := 1) G rfl rfl dX10_kickNow_234 ?_
    refine JR_iconst (pc := 235) G ci_1 dX10_kickNow_235 ?_
    refine J_bd (fun q38 hq38 => ?_)
    refine JW_zastore (pc := 236) G hq38 (fun _ => rfl) dX10_kickNow_236 ?_
    refine J_nmD (fun d39 hd39 => ?_)
    refine JR_aload_n (pc := 237) (k := 0) (i := 0) (o := some this) G rfl rfl dX10_kickNow_237 ?_
    refine JR_gR (pc := 238) (k := 36) G cl_X10 in_X10 (by decide) (by decide) rfl (Or.inl rfl) q1624 hz28 dX10_kickNow_238 ?_
    refine JR_iload_n (pc := 241) (k := 1) (i := 1) G rfl rfl dX10_kickNow_241 ?_
    refine JR_dup2 (pc := 242) G rfl (rf_cat _) dX10_kickNow_242 ?_
    refine J_bd (fun q40 hq40 => ?_)
    refine JR_iaload (pc := 243) G hq40 dX10_kickNow_243 ?_
    refine JR_iconst (pc := 244) G ci_1 dX10_kickNow_244 ?_
    refine JR_iadd (pc := 245) G dX10_kickNow_245 ?_
    refine JW_iastore (pc := 246) G hq40 (fun _ => rfl) dX10_kickNow_246 ?_
    refine J_nmD (fun d41 hd41 => ?_)
    refine JR_aload_n (pc := 247) (k := 0) (i := 0) (o := some this) G rfl rfl dX10_kickNow_247 ?_
    refine JR_gR (pc := 248) (k := 46) G cl_X10 in_X10 (by decide) (by decide) rfl (Or.inl rfl) q1634 hz28 dX10_kickNow_248 ?_
    refine JR_sipush (pc := 251) (v := 200) G (by decide) dX10_kickNow_251 ?_
    refine JR_iload_n (pc := 254) (k := 1) (i := 1) G rfl rfl dX10_kickNow_254 ?_
    refine JR_imul (pc := 255) G dX10_kickNow_255 ?_
    refine JR_aload_n (pc := 256) (k := 0) (i := 0) (o := some this) G rfl rfl dX10_kickNow_256 ?_
    refine JR_gR (pc := 257) (k := 41) G cl_X10 in_X10 (by decide) (by decide) rfl (Or.inl rfl) q1629 hz28 dX10_kickNow_257 ?_
    refine JR_iload_n (pc := 260) (k := 1) (i := 1) G rfl rfl dX10_kickNow_260 ?_
    refine J_bd (fun q42 hq42 => ?_)
    refine JR_iaload (pc := 261) G hq42 dX10_kickNow_261 ?_
    refine JR_iadd (pc := 262) G dX10_kickNow_262 ?_
    refine JR_iload_n (pc := 263) (k := 3) (i := 3) G rfl rfl dX10_kickNow_263 ?_
    refine J_bd (fun q43 hq43 => ?_)
    refine JW_iastore (pc := 264) G hq43 (fun _ => rfl) dX10_kickNow_264 ?_
    refine J_nmD (fun d44 hd44 => ?_)
    refine JR_aload_n (pc := 265) (k := 0) (i := 0) (o := some this) G rfl rfl dX10_kickNow_265 ?_
    refine JR_gR (pc := 266) (k := 41) G cl_X10 in_X10 (by decide) (by decide) rfl (Or.inl rfl) q1629 hz28 dX10_kickNow_266 ?_
    refine JR_iload_n (pc := 269) (k := 1) (i := 1) G rfl rfl dX10_kickNow_269 ?_
    refine JR_dup2 (pc := 270) G rfl (rf_cat _) dX10_kickNow_270 ?_
    refine JR_iaload (pc := 271) G hq42 dX10_kickNow_271 ?_
    refine JR_iconst (pc := 272) G ci_1 dX10_kickNow_272 ?_
    refine JR_iadd (pc := 273) G dX10_kickNow_273 ?_
    refine JW_iastore (pc := 274) G hq42 (fun _ => rfl) dX10_kickNow_274 ?_
    refine J_nmD (fun d45 hd45 => ?_)
    refine JR_aload_n (pc := 275) (k := 0) (i := 0) (o := some this) G rfl rfl dX10_kickNow_275 ?_
    refine JR_gR (pc := 276) (k := 42) G cl_X10 in_X10 (by decide) (by decide) rfl (Or.inl rfl) q1630 hz28 dX10_kickNow_276 ?_
    refine JR_iload_n (pc := 279) (k := 1) (i := 1) G rfl rfl dX10_kickNow_279 ?_
    refine JR_iload_n (pc := 280) (k := 2) (i := 2) G rfl rfl dX10_kickNow_280 ?_
    refine J_bd (fun q46 hq46 => ?_)
    refine JW_iastore (pc := 281) G hq46 (fun _ => rfl) dX10_kickNow_281 ?_
    refine J_nmD (fun d47 hd47 => ?_)
    exact JR_vret (pc := 282) G hR dX10_kickNow_282 rfl rfl
  have hMo_kickNow_b154 : ∀ (v3 : Int32) (v5 : UInt32) (s0 : UInt32) (s1 : Int32) (s2 : Option Nat) (d : Dt), J X F Λw S d 154 [(0, va_rf (some this)), (1, .int p1), (2, .int p2), (3, .int v3), (5, .float v5)] [.float s0, .int s1, va_rf s2] (Mo_kickNow_b154 this p1 p2 S v3 v5 s0 s1 s2 d) := by
    intro v3 v5 s0 s1 s2 d
    unfold Mo_kickNow_b154
    refine J_bd (fun q48 hq48 => ?_)
    refine JW_fastore (pc := 154) G hq48 (fun _ => rfl) dX10_kickNow_154 ?_
    refine J_nmD (fun d49 hd49 => ?_)
    refine JR_aload_n (pc := 155) (k := 0) (i := 0) (o := some this) G rfl rfl dX10_kickNow_155 ?_
    refine J_bd (fun z50 hz50 => ?_)
    refine JR_gR (pc := 156) (k := 44) G cl_X10 in_X10 (by decide) (by decide) rfl (Or.inl rfl) q1632 hz50 dX10_kickNow_156 ?_
    refine JR_iload_n (pc := 159) (k := 1) (i := 1) G rfl rfl dX10_kickNow_159 ?_
    refine JR_dup2 (pc := 160) G rfl (rf_cat _) dX10_kickNow_160 ?_
    refine J_bd (fun q51 hq51 => ?_)
    refine JR_daload (pc := 161) G hq51 dX10_kickNow_161 ?_
    refine JR_fload (pc := 162) (i := 5) G rfl dX10_kickNow_162 ?_
    refine J_bd (fun g52 hg52 => ?_)
    refine JR_f2d (pc := 164) G hg52 dX10_kickNow_164 ?_
    refine J_bd (fun g53 hg53 => ?_)
    refine JR_dadd (pc := 165) G hg53 dX10_kickNow_165 ?_
    refine JW_dastore (pc := 166) G hq51 (fun _ => rfl) dX10_kickNow_166 ?_
    refine J_nmD (fun d54 hd54 => ?_)
    refine JR_aload_n (pc := 167) (k := 0) (i := 0) (o := some this) G rfl rfl dX10_kickNow_167 ?_
    refine JR_gR (pc := 168) (k := 45) G cl_X10 in_X10 (by decide) (by decide) rfl (Or.inl rfl) q1633 hz50 dX10_kickNow_168 ?_
    refine JR_iload_n (pc := 171) (k := 1) (i := 1) G rfl rfl dX10_kickNow_171 ?_
    refine JR_dup2 (pc := 172) G rfl (rf_cat _) dX10_kickNow_172 ?_
    refine J_bd (fun q55 hq55 => ?_)
    refine JR_iaload (pc := 173) G hq55 dX10_kickNow_173 ?_
    refine JR_iconst (pc := 174) G ci_1 dX10_kickNow_174 ?_
    refine JR_iadd (pc := 175) G dX10_kickNow_175 ?_
    refine JW_iastore (pc := 176) G hq55 (fun _ => rfl) dX10_kickNow_176 ?_
    refine J_nmD (fun d56 hd56 => ?_)
    refine J_sub [0, 1, 2, 3] rfl ?_
    exact hMo_kickNow_b177 v3 d56
  have hMo_kickNow_b143 : ∀ (v3 : Int32) (v5 : UInt32) (s0 : Int32) (s1 : Option Nat) (d : Dt), J X F Λw S d 143 [(0, va_rf (some this)), (1, .int p1), (2, .int p2), (3, .int v3), (5, .float v5)] [.int s0, va_rf s1] (Mo_kickNow_b143 this p1 p2 S v3 v5 s0 s1 d) := by
    intro v3 v5 s0 s1 d
    unfold Mo_kickNow_b143
    refine JR_fload (pc := 143) (i := 5) G rfl dX10_kickNow_143 ?_
    refine JR_goto (pc := 145) (tgt := 154) G dX10_kickNow_145 (by decide) ?_
    exact hMo_kickNow_b154 v3 v5 v5 s0 s1 d
  have hMo_kickNow_b62 : ∀ (v3 : Int32) (s0 : Int32) (d : Dt), J X F Λw S d 62 [(0, va_rf (some this)), (1, .int p1), (2, .int p2), (3, .int v3)] [.int s0] (Mo_kickNow_b62 this p1 p2 S v3 s0 d) := by
    intro v3 s0 d
    unfold Mo_kickNow_b62
    refine JR_istore (pc := 62) (i := 4) (lv' := [(4, .int s0), (0, va_rf (some this)), (1, .int p1), (2, .int p2), (3, .int v3)]) G (by decide) rfl dX10_kickNow_62 ?_
    refine JR_aload_n (pc := 64) (k := 0) (i := 0) (o := some this) G rfl rfl dX10_kickNow_64 ?_
    refine J_bd (fun z13 hz13 => ?_)
    refine JR_gR (pc := 65) (k := 29) G cl_X10 in_X10 (by decide) (by decide) rfl (Or.inl rfl) q1617 hz13 dX10_kickNow_65 ?_
    refine JR_iload_n (pc := 68) (k := 1) (i := 1) G rfl rfl dX10_kickNow_68 ?_
    refine JR_iconst (pc := 69) G ci_m1 dX10_kickNow_69 ?_
    refine J_bd (fun q14 hq14 => ?_)
    refine JW_iastore (pc := 70) G hq14 (fun _ => rfl) dX10_kickNow_70 ?_
    refine J_nmD (fun d15 hd15 => ?_)
    refine JR_iload (pc := 71) (i := 4) G rfl dX10_kickNow_71 ?_
    refine JR_if_le (pc := 73) (tgt := 85) G dX10_kickNow_73 (by decide) (fun c27 => ?_) (fun c27 => ?_)
    · refine JR_aload_n (pc := 85) (k := 0) (i := 0) (o := some this) G rfl rfl dX10_kickNow_85 ?_
      refine JR_gR (pc := 86) (k := 35) G cl_X10 in_X10 (by decide) (by decide) rfl (Or.inl rfl) q1623 hz13 dX10_kickNow_86 ?_
      refine JR_iload_n (pc := 89) (k := 1) (i := 1) G rfl rfl dX10_kickNow_89 ?_
      refine J_bd (fun q16 hq16 => ?_)
      refine JR_zaload (pc := 90) G hq16 dX10_kickNow_90 ?_
      refine JR_if_eq (pc := 91) (tgt := 177) G dX10_kickNow_91 (by decide) (fun c25 => ?_) (fun c25 => ?_)
      · refine J_sub [1, 2, 3, 4] rfl ?_
        exact hMo_kickNow_b177 v3 d15
      · refine JR_aload_n (pc := 94) (k := 0) (i := 0) (o := some this) G rfl rfl dX10_kickNow_94 ?_
        refine JR_iload_n (pc := 95) (k := 1) (i := 1) G rfl rfl dX10_kickNow_95 ?_
        refine JPV_I (pc := 96) (as := [.int p1]) (st' := []) (o := some this) G (Mo_closeOf_fn this p1 S d15) (JC_V (n := 1) G hRm cl_X10 q2159 q2161 qs120 q152 q2162 ⟨rfl, dd_X10_closeOf⟩ ⟨by decide, by decide⟩ dX10_kickNow_96 hz13 rfl (Nat.le_of_ble_eq_true rfl)) rfl (fun r17 hr17 => ?_)
        refine JR_iload_n (pc := 99) (k := 3) (i := 3) G rfl rfl dX10_kickNow_99 ?_
        refine JR_isub (pc := 100) G dX10_kickNow_100 ?_
        refine JR_i2f (pc := 101) G dX10_kickNow_101 ?_
        refine JR_aload_n (pc := 102) (k := 0) (i := 0) (o := some this) G rfl rfl dX10_kickNow_102 ?_
        refine JR_iload_n (pc := 103) (k := 1) (i := 1) G rfl rfl dX10_kickNow_103 ?_
        refine JPV_I (pc := 104) (as := [.int p1]) (st' := [.float (FP.i2f (r17 - v3))]) (o := some this) G (Mo_closeOf_fn this p1 S d15) (JC_V (n := 1) G hRm cl_X10 q2159 q2161 qs120 q152 q2162 ⟨rfl, dd_X10_closeOf⟩ ⟨by decide, by decide⟩ dX10_kickNow_104 hz13 rfl (Nat.le_of_ble_eq_true rfl)) rfl (fun r18 hr18 => ?_)
        refine JR_aload_n (pc := 107) (k := 0) (i := 0) (o := some this) G rfl rfl dX10_kickNow_107 ?_
        refine JR_iload_n (pc := 108) (k := 1) (i := 1) G rfl rfl dX10_kickNow_108 ?_
        refine JPV_I (pc := 109) (as := [.int p1]) (st' := [.int r18, .float (FP.i2f (r17 - v3))]) (o := some this) G (Mo_openOf_fn this p1 S d15) (JC_V (n := 1) G hRm cl_X10 q2126 q2128 qs112 q152 q2129 ⟨rfl, dd_X10_openOf⟩ ⟨by decide, by decide⟩ dX10_kickNow_109 hz13 rfl (Nat.le_of_ble_eq_true rfl)) rfl (fun r19 hr19 => ?_)
        refine JR_isub (pc := 112) G dX10_kickNow_112 ?_
        refine JR_i2f (pc := 113) G dX10_kickNow_113 ?_
        refine J_bd (fun g20 hg20 => ?_)
        refine JR_fdiv (pc := 114) G hg20 dX10_kickNow_114 ?_
        refine JR_fstore (pc := 115) (i := 5) (lv' := [(5, .float g20), (4, .int s0), (0, va_rf (some this)), (1, .int p1), (2, .int p2), (3, .int v3)]) G (by decide) rfl dX10_kickNow_115 ?_
        refine JR_aload_n (pc := 117) (k := 0) (i := 0) (o := some this) G rfl rfl dX10_kickNow_117 ?_
        refine JR_gR (pc := 118) (k := 43) G cl_X10 in_X10 (by decide) (by decide) rfl (Or.inl rfl) q1631 hz13 dX10_kickNow_118 ?_
        refine JR_iload_n (pc := 121) (k := 1) (i := 1) G rfl rfl dX10_kickNow_121 ?_
        refine JR_aload_n (pc := 122) (k := 0) (i := 0) (o := some this) G rfl rfl dX10_kickNow_122 ?_
        refine JR_gR (pc := 123) (k := 45) G cl_X10 in_X10 (by decide) (by decide) rfl (Or.inl rfl) q1633 hz13 dX10_kickNow_123 ?_
        refine JR_iload_n (pc := 126) (k := 1) (i := 1) G rfl rfl dX10_kickNow_126 ?_
        refine J_bd (fun q21 hq21 => ?_)
        refine JR_iaload (pc := 127) G hq21 dX10_kickNow_127 ?_
        refine JR_if_eq (pc := 128) (tgt := 143) G dX10_kickNow_128 (by decide) (fun c24 => ?_) (fun c24 => ?_)
        · refine J_sub [2, 3, 4, 5, 0] rfl ?_
          exact hMo_kickNow_b143 v3 g20 p1 (S.2.1 z13 43) d15
        · refine JR_fload (pc := 131) (i := 5) G rfl dX10_kickNow_131 ?_
          refine JR_aload_n (pc := 133) (k := 0) (i := 0) (o := some this) G rfl rfl dX10_kickNow_133 ?_
          refine JR_gR (pc := 134) (k := 43) G cl_X10 in_X10 (by decide) (by decide) rfl (Or.inl rfl) q1631 hz13 dX10_kickNow_134 ?_
          refine JR_iload_n (pc := 137) (k := 1) (i := 1) G rfl rfl dX10_kickNow_137 ?_
          refine J_bd (fun q22 hq22 => ?_)
          refine JR_faload (pc := 138) G hq22 dX10_kickNow_138 ?_
          refine JR_fcmp (pc := 139) G dX10_kickNow_139 ?_
          refine JR_if_ge (pc := 140) (tgt := 148) G dX10_kickNow_140 (by decide) (fun c23 => ?_) (fun c23 => ?_)
          · refine JR_aload_n (pc := 148) (k := 0) (i := 0) (o := some this) G rfl rfl dX10_kickNow_148 ?_
            refine JR_gR (pc := 149) (k := 43) G cl_X10 in_X10 (by decide) (by decide) rfl (Or.inl rfl) q1631 hz13 dX10_kickNow_149 ?_
            refine JR_iload_n (pc := 152) (k := 1) (i := 1) G rfl rfl dX10_kickNow_152 ?_
            refine JR_faload (pc := 153) G hq22 dX10_kickNow_153 ?_
            refine J_sub [2, 3, 4, 5, 0] rfl ?_
            exact hMo_kickNow_b154 v3 g20 (d15.2.1 q22.1 q22.2) p1 (S.2.1 z13 43) d15
          · refine J_sub [2, 3, 4, 5, 0] rfl ?_
            exact hMo_kickNow_b143 v3 g20 p1 (S.2.1 z13 43) d15
    · refine JR_aload_n (pc := 76) (k := 0) (i := 0) (o := some this) G rfl rfl dX10_kickNow_76 ?_
      refine JR_iload_n (pc := 77) (k := 1) (i := 1) G rfl rfl dX10_kickNow_77 ?_
      refine JR_iload (pc := 78) (i := 4) G rfl dX10_kickNow_78 ?_
      refine JR_iload_n (pc := 80) (k := 2) (i := 2) G rfl rfl dX10_kickNow_80 ?_
      refine JQV_U (pc := 81) (as := [.int p1, .int s0, .int p2]) (st' := []) (o := some this) G (Mo_faultOf_fn this p1 s0 p2 S d15) (JC_V (n := 3) G hRm cl_X10 q2130 q2132 qs113 q152 q2133 ⟨rfl, dd_X10_faultOf⟩ ⟨by decide, by decide⟩ dX10_kickNow_81 hz13 rfl (Nat.le_of_ble_eq_true rfl)) rfl (fun _ _ => rfl) (fun _ d26 hd26 => ?_)
      exact JR_vret (pc := 84) G hR dX10_kickNow_84 rfl rfl
  have hMo_kickNow_b61 : ∀ (v3 : Int32) (d : Dt), J X F Λw S d 61 [(0, va_rf (some this)), (1, .int p1), (2, .int p2), (3, .int v3)] [] (Mo_kickNow_b61 this p1 p2 S v3 d) := by
    intro v3 d
    unfold Mo_kickNow_b61
    refine JR_iconst (pc := 61) G ci_0 dX10_kickNow_61 ?_
    exact hMo_kickNow_b62 v3 0 d
  unfold Mo_kickNow
  refine JR_iload_n (pc := 0) (k := 2) (i := 2) G rfl rfl dX10_kickNow_0 ?_
  refine JR_aload_n (pc := 1) (k := 0) (i := 0) (o := some this) G rfl rfl dX10_kickNow_1 ?_
  refine J_bd (fun z1 hz1 => ?_)
  refine JR_gR (pc := 2) (k := 34) G cl_X10 in_X10 (by decide) (by decide) rfl (Or.inl rfl) q1622 hz1 dX10_kickNow_2 ?_
  refine JR_iload_n (pc := 5) (k := 1) (i := 1) G rfl rfl dX10_kickNow_5 ?_
  refine J_bd (fun q2 hq2 => ?_)
  refine JR_iaload (pc := 6) G hq2 dX10_kickNow_6 ?_
  refine JR_isub (pc := 7) G dX10_kickNow_7 ?_
  refine J_nm (fun x3 hx3 => ?_)
  refine JR_istore_n (pc := 8) (k := 3) (i := 3) (lv' := [(3, .int x3), (0, va_rf (some this)), (1, .int p1), (2, .int p2)]) G rfl (by decide) rfl dX10_kickNow_8 ?_
  refine JR_aload_n (pc := 9) (k := 0) (i := 0) (o := some this) G rfl rfl dX10_kickNow_9 ?_
  refine JR_iload_n (pc := 10) (k := 1) (i := 1) G rfl rfl dX10_kickNow_10 ?_
  refine JR_aload_n (pc := 11) (k := 0) (i := 0) (o := some this) G rfl rfl dX10_kickNow_11 ?_
  refine JR_gR (pc := 12) (k := 31) G cl_X10 in_X10 (by decide) (by decide) rfl (Or.inl rfl) q1619 hz1 dX10_kickNow_12 ?_
  refine JR_iload_n (pc := 15) (k := 1) (i := 1) G rfl rfl dX10_kickNow_15 ?_
  refine J_bd (fun q4 hq4 => ?_)
  refine JR_iaload (pc := 16) G hq4 dX10_kickNow_16 ?_
  refine JPV_I (pc := 17) (as := [.int p1, .int (d.1 q4.1 q4.2)]) (st' := []) (o := some this) G (Mo_followers_fn this p1 (d.1 q4.1 q4.2) S d) (JC_V (n := 2) G hRm cl_X10 q1974 q1976 qs88 q152 q1977 ⟨rfl, dd_X10_followers⟩ ⟨by decide, by decide⟩ dX10_kickNow_17 hz1 rfl (Nat.le_of_ble_eq_true rfl)) rfl (fun r5 hr5 => ?_)
  refine JR_if_le (pc := 20) (tgt := 27) G dX10_kickNow_20 (by decide) (fun c12 => ?_) (fun c12 => ?_)
  · refine JR_aload_n (pc := 27) (k := 0) (i := 0) (o := some this) G rfl rfl dX10_kickNow_27 ?_
    refine JR_iload_n (pc := 28) (k := 1) (i := 1) G rfl rfl dX10_kickNow_28 ?_
    refine JPV_I (pc := 29) (as := [.int p1]) (st' := []) (o := some this) G (Mo_isWrong_fn this p1 S d) (JC_V (n := 1) G hRm cl_X10 q2122 q2124 qs111 q152 q2125 ⟨rfl, dd_X10_isWrong⟩ ⟨by decide, by decide⟩ dX10_kickNow_29 hz1 rfl (Nat.le_of_ble_eq_true rfl)) rfl (fun r6 hr6 => ?_)
    refine JR_if_eq (pc := 32) (tgt := 39) G dX10_kickNow_32 (by decide) (fun c11 => ?_) (fun c11 => ?_)
    · refine JR_aload_n (pc := 39) (k := 0) (i := 0) (o := some this) G rfl rfl dX10_kickNow_39 ?_
      refine JR_gR (pc := 40) (k := 35) G cl_X10 in_X10 (by decide) (by decide) rfl (Or.inl rfl) q1623 hz1 dX10_kickNow_40 ?_
      refine JR_iload_n (pc := 43) (k := 1) (i := 1) G rfl rfl dX10_kickNow_43 ?_
      refine J_bd (fun q7 hq7 => ?_)
      refine JR_zaload (pc := 44) G hq7 dX10_kickNow_44 ?_
      refine JR_if_eq (pc := 45) (tgt := 61) G dX10_kickNow_45 (by decide) (fun c10 => ?_) (fun c10 => ?_)
      · refine J_sub [1, 2, 3, 0] rfl ?_
        exact hMo_kickNow_b61 x3 d
      · refine JR_iload_n (pc := 48) (k := 3) (i := 3) G rfl rfl dX10_kickNow_48 ?_
        refine JR_aload_n (pc := 49) (k := 0) (i := 0) (o := some this) G rfl rfl dX10_kickNow_49 ?_
        refine JR_iload_n (pc := 50) (k := 1) (i := 1) G rfl rfl dX10_kickNow_50 ?_
        refine JPV_I (pc := 51) (as := [.int p1]) (st' := [.int x3]) (o := some this) G (Mo_openOf_fn this p1 S d) (JC_V (n := 1) G hRm cl_X10 q2126 q2128 qs112 q152 q2129 ⟨rfl, dd_X10_openOf⟩ ⟨by decide, by decide⟩ dX10_kickNow_51 hz1 rfl (Nat.le_of_ble_eq_true rfl)) rfl (fun r8 hr8 => ?_)
        refine JR_icmp_ge (pc := 54) (tgt := 61) G dX10_kickNow_54 (by decide) (fun c9 => ?_) (fun c9 => ?_)
        · refine J_sub [1, 2, 3, 0] rfl ?_
          exact hMo_kickNow_b61 x3 d
        · refine JR_iconst (pc := 57) G ci_1 dX10_kickNow_57 ?_
          refine JR_goto (pc := 58) (tgt := 62) G dX10_kickNow_58 (by decide) ?_
          refine J_sub [1, 2, 3, 0] rfl ?_
          exact hMo_kickNow_b62 x3 1 d
    · refine JR_iconst (pc := 35) G ci_4 dX10_kickNow_35 ?_
      refine JR_goto (pc := 36) (tgt := 62) G dX10_kickNow_36 (by decide) ?_
      refine J_sub [1, 2, 3, 0] rfl ?_
      exact hMo_kickNow_b62 x3 4 d
  · refine JR_iconst (pc := 23) G ci_3 dX10_kickNow_23 ?_
    refine JR_goto (pc := 24) (tgt := 62) G dX10_kickNow_24 (by decide) ?_
    refine J_sub [1, 2, 3, 0] rfl ?_
    exact hMo_kickNow_b62 x3 3 d

def Mo_works_b85 (this : Nat) (p1 : Int32) (p2 : Int32) (S : Sp) (d : Dt) : Option (Unit × Dt) :=
  (isK S 9 (some this)).bind fun z22 =>
  bind2 (Mo_kickNow this p1 p2 S d) fun _ d23 =>
  some ((), d23)
def Mo_works_b43 (this : Nat) (p1 : Int32) (p2 : Int32) (S : Sp) (v3 : Int32) (s0 : Int32) (s1 : Int32) (d : Dt) : Option (Unit × Dt) :=
  (some (s1 * s0)).bind fun x8 =>
  if v3 = 0 then
    some ((), d)
  else
    (isK S 9 (some this)).bind fun z9 =>
    (aix S 50 (S.2.1 z9 32) p1).bind fun q10 =>
    if x8 ≤ (d.1 q10.1 q10.2) then
      (aix S 50 (S.2.1 z9 31) p1).bind fun q11 =>
      (Mo_followers this p1 (d.1 q11.1 q11.2) S d).bind fun r12 =>
      if v3 = 2 then
        Mo_works_b85 this p1 p2 S d
      else
        if ¬ r12 = 0 then
          (aix S 50 (S.2.1 z9 29) p1).bind fun q13 =>
          (gz r12).bind fun u14 =>
          (Mo_follower this p1 (d.1 q11.1 q11.2) (irm (d.1 q13.1 q13.2) r12) S d).bind fun r15 =>
          (some (dI d q11.1 q11.2 r15)).bind fun d16 =>
          (some (dI d16 q10.1 q10.2 0)).bind fun d17 =>
          some ((), d17)
        else
          Mo_works_b85 this p1 p2 S d
    else
      some ((), d)
def Mo_works (this : Nat) (p1 : Int32) (p2 : Int32) (S : Sp) (d : Dt) : Option (Unit × Dt) :=
  (isK S 9 (some this)).bind fun z1 =>
  (aix S 50 (S.2.1 z1 31) p1).bind fun q2 =>
  (Mo_changeAt this p1 (d.1 q2.1 q2.2) S d).bind fun r3 =>
  (aix S 50 (S.2.1 z1 32) p1).bind fun q4 =>
  (some (dI d q4.1 q4.2 ((d.1 q4.1 q4.2) + 1))).bind fun d5 =>
  (Mo_unitsOf this p1 (d5.1 q2.1 q2.2) S d5).bind fun r6 =>
  Mo_works_b43 this p1 p2 S r3 (if ¬ r3 = 3 then 1 else 2) r6 d5
set_option maxHeartbeats 4000000 in
theorem Mo_works_fn (this : Nat) (p1 : Int32) (p2 : Int32) (S : Sp) (d : Dt) : Fn yX10_works (ws_ yX10_works cX10_works 6 none) 7 162 [va_rf (some this), .int p1, .int p2] S d rvU Λw (Mo_works this p1 p2 S d) := by
  refine Fn.ofJ (own := RX10) (lv := [(0, va_rf (some this)), (1, .int p1), (2, .int p2)]) (by decide +kernel) rfl (by simp [cat_i, cat_l, cat_f, cat_d, rf_cat]) (by simp [lv_args, cat_i, cat_l, cat_f, cat_d, rf_cat]) ?_
  intro X F G hRm hR hI
  have hMo_works_b85 : ∀ (d : Dt), J X F Λw S d 85 [(0, va_rf (some this)), (1, .int p1), (2, .int p2)] [] (Mo_works_b85 this p1 p2 S d) := by
    intro d
    unfold Mo_works_b85
    refine JR_aload_n (pc := 85) (k := 0) (i := 0) (o := some this) G rfl rfl dX10_works_85 ?_
    refine JR_iload_n (pc := 86) (k := 1) (i := 1) G rfl rfl dX10_works_86 ?_
    refine JR_iload_n (pc := 87) (k := 2) (i := 2) G rfl rfl dX10_works_87 ?_
    refine J_bd (fun z22 hz22 => ?_)
    refine JQV_U (pc := 88) (as := [.int p1, .int p2]) (st' := []) (o := some this) G (Mo_kickNow_fn this p1 p2 S d) (JC_V (n := 2) G hRm cl_X10 q2118 q2120 qs110 q152 q2121 ⟨rfl, dd_X10_kickNow⟩ ⟨by decide, by decide⟩ dX10_works_88 hz22 rfl (Nat.le_of_ble_eq_true rfl)) rfl (fun _ _ => rfl) (fun _ d23 hd23 => ?_)
    exact JR_vret (pc := 91) G hR dX10_works_91 rfl rfl
  have hMo_works_b43 : ∀ (v3 : Int32) (s0 : Int32) (s1 : Int32) (d : Dt), J X F Λw S d 43 [(0, va_rf (some this)), (1, .int p1), (2, .int p2), (3, .int v3)] [.int s0, .int s1] (Mo_works_b43 this p1 p2 S v3 s0 s1 d) := by
    intro v3 s0 s1 d
    unfold Mo_works_b43
    refine JR_imul (pc := 43) G dX10_works_43 ?_
    refine J_nm (fun x8 hx8 => ?_)
    refine JR_istore (pc := 44) (i := 4) (lv' := [(4, .int x8), (0, va_rf (some this)), (1, .int p1), (2, .int p2), (3, .int v3)]) G (by decide) rfl dX10_works_44 ?_
    refine JR_iload_n (pc := 46) (k := 3) (i := 3) G rfl rfl dX10_works_46 ?_
    refine JR_if_eq (pc := 47) (tgt := 61) G dX10_works_47 (by decide) (fun c21 => ?_) (fun c21 => ?_)
    · exact JR_vret (pc := 61) G hR dX10_works_61 rfl rfl
    · refine JR_aload_n (pc := 50) (k := 0) (i := 0) (o := some this) G rfl rfl dX10_works_50 ?_
      refine J_bd (fun z9 hz9 => ?_)
      refine JR_gR (pc := 51) (k := 32) G cl_X10 in_X10 (by decide) (by decide) rfl (Or.inl rfl) q1620 hz9 dX10_works_51 ?_
      refine JR_iload_n (pc := 54) (k := 1) (i := 1) G rfl rfl dX10_works_54 ?_
      refine J_bd (fun q10 hq10 => ?_)
      refine JR_iaload (pc := 55) G hq10 dX10_works_55 ?_
      refine JR_iload (pc := 56) (i := 4) G rfl dX10_works_56 ?_
      refine JR_icmp_ge (pc := 58) (tgt := 62) G dX10_works_58 (by decide) (fun c20 => ?_) (fun c20 => ?_)
      · refine JR_aload_n (pc := 62) (k := 0) (i := 0) (o := some this) G rfl rfl dX10_works_62 ?_
        refine JR_iload_n (pc := 63) (k := 1) (i := 1) G rfl rfl dX10_works_63 ?_
        refine JR_aload_n (pc := 64) (k := 0) (i := 0) (o := some this) G rfl rfl dX10_works_64 ?_
        refine JR_gR (pc := 65) (k := 31) G cl_X10 in_X10 (by decide) (by decide) rfl (Or.inl rfl) q1619 hz9 dX10_works_65 ?_
        refine JR_iload_n (pc := 68) (k := 1) (i := 1) G rfl rfl dX10_works_68 ?_
        refine J_bd (fun q11 hq11 => ?_)
        refine JR_iaload (pc := 69) G hq11 dX10_works_69 ?_
        refine JPV_I (pc := 70) (as := [.int p1, .int (d.1 q11.1 q11.2)]) (st' := []) (o := some this) G (Mo_followers_fn this p1 (d.1 q11.1 q11.2) S d) (JC_V (n := 2) G hRm cl_X10 q1974 q1976 qs88 q152 q1977 ⟨rfl, dd_X10_followers⟩ ⟨by decide, by decide⟩ dX10_works_70 hz9 rfl (Nat.le_of_ble_eq_true rfl)) rfl (fun r12 hr12 => ?_)
        refine JR_istore (pc := 73) (i := 5) (lv' := [(5, .int r12), (4, .int x8), (0, va_rf (some this)), (1, .int p1), (2, .int p2), (3, .int v3)]) G (by decide) rfl dX10_works_73 ?_
        refine JR_iload_n (pc := 75) (k := 3) (i := 3) G rfl rfl dX10_works_75 ?_
        refine JR_iconst (pc := 76) G ci_2 dX10_works_76 ?_
        refine JR_icmp_eq (pc := 77) (tgt := 85) G dX10_works_77 (by decide) (fun c19 => ?_) (fun c19 => ?_)
        · refine J_sub [2, 3, 4] rfl ?_
          exact hMo_works_b85 d
        · refine JR_iload (pc := 80) (i := 5) G rfl dX10_works_80 ?_
          refine JR_if_ne (pc := 82) (tgt := 92) G dX10_works_82 (by decide) (fun c18 => ?_) (fun c18 => ?_)
          · refine JR_aload_n (pc := 92) (k := 0) (i := 0) (o := some this) G rfl rfl dX10_works_92 ?_
            refine JR_gR (pc := 93) (k := 31) G cl_X10 in_X10 (by decide) (by decide) rfl (Or.inl rfl) q1619 hz9 dX10_works_93 ?_
            refine JR_iload_n (pc := 96) (k := 1) (i := 1) G rfl rfl dX10_works_96 ?_
            refine JR_aload_n (pc := 97) (k := 0) (i := 0) (o := some this) G rfl rfl dX10_works_97 ?_
            refine JR_iload_n (pc := 98) (k := 1) (i := 1) G rfl rfl dX10_works_98 ?_
            refine JR_aload_n (pc := 99) (k := 0) (i := 0) (o := some this) G rfl rfl dX10_works_99 ?_
            refine JR_gR (pc := 100) (k := 31) G cl_X10 in_X10 (by decide) (by decide) rfl (Or.inl rfl) q1619 hz9 dX10_works_100 ?_
            refine JR_iload_n (pc := 103) (k := 1) (i := 1) G rfl rfl dX10_works_103 ?_
            refine JR_iaload (pc := 104) G hq11 dX10_works_104 ?_
            refine JR_aload_n (pc := 105) (k := 0) (i := 0) (o := some this) G rfl rfl dX10_works_105 ?_
            refine JR_gR (pc := 106) (k := 29) G cl_X10 in_X10 (by decide) (by decide) rfl (Or.inl rfl) q1617 hz9 dX10_works_106 ?_
            refine JR_iload_n (pc := 109) (k := 1) (i := 1) G rfl rfl dX10_works_109 ?_
            refine J_bd (fun q13 hq13 => ?_)
            refine JR_iaload (pc := 110) G hq13 dX10_works_110 ?_
            refine JR_iload (pc := 111) (i := 5) G rfl dX10_works_111 ?_
            refine J_bd (fun u14 hu14 => ?_)
            refine JR_irem (pc := 113) G (gz_at hu14) dX10_works_113 ?_
            refine JPV_I (pc := 114) (as := [.int p1, .int (d.1 q11.1 q11.2), .int (irm (d.1 q13.1 q13.2) r12)]) (st' := [.int p1, va_rf (S.2.1 z9 31)]) (o := some this) G (Mo_follower_fn this p1 (d.1 q11.1 q11.2) (irm (d.1 q13.1 q13.2) r12) S d) (JC_V (n := 3) G hRm cl_X10 q2054 q2056 qs98 q152 q2057 ⟨rfl, dd_X10_follower⟩ ⟨by decide, by decide⟩ dX10_works_114 hz9 rfl (Nat.le_of_ble_eq_true rfl)) rfl (fun r15 hr15 => ?_)
            refine JW_iastore (pc := 117) G hq11 (fun _ => rfl) dX10_works_117 ?_
            refine J_nmD (fun d16 hd16 => ?_)
            refine JR_aload_n (pc := 118) (k := 0) (i := 0) (o := some this) G rfl rfl dX10_works_118 ?_
            refine JR_gR (pc := 119) (k := 32) G cl_X10 in_X10 (by decide) (by decide) rfl (Or.inl rfl) q1620 hz9 dX10_works_119 ?_
            refine JR_iload_n (pc := 122) (k := 1) (i := 1) G rfl rfl dX10_works_122 ?_
            refine JR_iconst (pc := 123) G ci_0 dX10_works_123 ?_
            refine JW_iastore (pc := 124) G hq10 (fun _ => rfl) dX10_works_124 ?_
            refine J_nmD (fun d17 hd17 => ?_)
            exact JR_vret (pc := 125) G hR dX10_works_125 rfl rfl
          · refine J_sub [2, 3, 4] rfl ?_
            exact hMo_works_b85 d
      · exact JR_vret (pc := 61) G hR dX10_works_61 rfl rfl
  unfold Mo_works
  refine JR_aload_n (pc := 0) (k := 0) (i := 0) (o := some this) G rfl rfl dX10_works_0 ?_
  refine JR_iload_n (pc := 1) (k := 1) (i := 1) G rfl rfl dX10_works_1 ?_
  refine JR_aload_n (pc := 2) (k := 0) (i := 0) (o := some this) G rfl rfl dX10_works_2 ?_
  refine J_bd (fun z1 hz1 => ?_)
  refine JR_gR (pc := 3) (k := 31) G cl_X10 in_X10 (by decide) (by decide) rfl (Or.inl rfl) q1619 hz1 dX10_works_3 ?_
  refine JR_iload_n (pc := 6) (k := 1) (i := 1) G rfl rfl dX10_works_6 ?_
  refine J_bd (fun q2 hq2 => ?_)
  refine JR_iaload (pc := 7) G hq2 dX10_works_7 ?_
  refine JPV_I (pc := 8) (as := [.int p1, .int (d.1 q2.1 q2.2)]) (st' := []) (o := some this) G (Mo_changeAt_fn this p1 (d.1 q2.1 q2.2) S d) (JC_V (n := 2) G hRm cl_X10 q2106 q2108 qs107 q152 q2109 ⟨rfl, dd_X10_changeAt⟩ ⟨by decide, by decide⟩ dX10_works_8 hz1 rfl (Nat.le_of_ble_eq_true rfl)) rfl (fun r3 hr3 => ?_)
  refine JR_istore_n (pc := 11) (k := 3) (i := 3) (lv' := [(3, .int r3), (0, va_rf (some this)), (1, .int p1), (2, .int p2)]) G rfl (by decide) rfl dX10_works_11 ?_
  refine JR_aload_n (pc := 12) (k := 0) (i := 0) (o := some this) G rfl rfl dX10_works_12 ?_
  refine JR_gR (pc := 13) (k := 32) G cl_X10 in_X10 (by decide) (by decide) rfl (Or.inl rfl) q1620 hz1 dX10_works_13 ?_
  refine JR_iload_n (pc := 16) (k := 1) (i := 1) G rfl rfl dX10_works_16 ?_
  refine JR_dup2 (pc := 17) G rfl (rf_cat _) dX10_works_17 ?_
  refine J_bd (fun q4 hq4 => ?_)
  refine JR_iaload (pc := 18) G hq4 dX10_works_18 ?_
  refine JR_iconst (pc := 19) G ci_1 dX10_works_19 ?_
  refine JR_iadd (pc := 20) G dX10_works_20 ?_
  refine JW_iastore (pc := 21) G hq4 (fun _ => rfl) dX10_works_21 ?_
  refine J_nmD (fun d5 hd5 => ?_)
  refine JR_aload_n (pc := 22) (k := 0) (i := 0) (o := some this) G rfl rfl dX10_works_22 ?_
  refine JR_iload_n (pc := 23) (k := 1) (i := 1) G rfl rfl dX10_works_23 ?_
  refine JR_aload_n (pc := 24) (k := 0) (i := 0) (o := some this) G rfl rfl dX10_works_24 ?_
  refine JR_gR (pc := 25) (k := 31) G cl_X10 in_X10 (by decide) (by decide) rfl (Or.inl rfl) q1619 hz1 dX10_works_25 ?_
  refine JR_iload_n (pc := 28) (k := 1) (i := 1) G rfl rfl dX10_works_28 ?_
  refine JR_iaload (pc := 29) G hq2 dX10_works_29 ?_
  refine JPV_I (pc := 30) (as := [.int p1, .int (d5.1 q2.1 q2.2)]) (st' := []) (o := some this) G (Mo_unitsOf_fn this p1 (d5.1 q2.1 q2.2) S d5) (JC_V (n := 2) G hRm cl_X10 q1933 q1935 qs81 q152 q1936 ⟨rfl, dd_X10_unitsOf⟩ ⟨by decide, by decide⟩ dX10_works_30 hz1 rfl (Nat.le_of_ble_eq_true rfl)) rfl (fun r6 hr6 => ?_)
  refine JR_iload_n (pc := 33) (k := 3) (i := 3) G rfl rfl dX10_works_33 ?_
  refine JR_iconst (pc := 34) G ci_3 dX10_works_34 ?_
  refine J_eq (r' := if ¬ r3 = 3 then Mo_works_b43 this p1 p2 S r3 1 r6 d5 else Mo_works_b43 this p1 p2 S r3 2 r6 d5) (by split <;> rfl) ?_
  refine JR_icmp_ne (pc := 35) (tgt := 42) G dX10_works_35 (by decide) (fun c7 => ?_) (fun c7 => ?_)
  · refine JR_iconst (pc := 42) G ci_1 dX10_works_42 ?_
    refine J_sub [1, 2, 3, 0] rfl ?_
    exact hMo_works_b43 r3 1 r6 d5
  · refine JR_iconst (pc := 38) G ci_2 dX10_works_38 ?_
    refine JR_goto (pc := 39) (tgt := 43) G dX10_works_39 (by decide) ?_
    refine J_sub [1, 2, 3, 0] rfl ?_
    exact hMo_works_b43 r3 2 r6 d5

def Mo_asksLate_h2 (this : Nat) (p1 : Int32) (S : Sp) : Nat → Int32 → Dt → Option (Unit × Dt)
  | 0, _, _ => none
  | f + 1, v2, d =>
    (isK S 9 (some this)).bind fun z1 =>
    (aix S 50 (S.2.1 z1 1) 4).bind fun q2 =>
    if (d.1 q2.1 q2.2) ≤ v2 then
      some ((), d)
    else
      if ¬ (d.1 z1 58) = 0 then
        some ((), d)
      else
        (aix S 50 (S.2.1 z1 28) v2).bind fun q3 =>
        if p1 < (d.1 q3.1 q3.2) then
          Mo_asksLate_h2 this p1 S f (v2 + 1) d
        else
          (aix S 50 (S.2.1 z1 34) v2).bind fun q4 =>
          (Mo_closeOf this v2 S d).bind fun r5 =>
          if (p1 - (d.1 q4.1 q4.2)) < r5 then
            Mo_asksLate_h2 this p1 S f (v2 + 1) d
          else
            bind2 (Mo_faultOf this v2 2 p1 S d) fun _ d6 =>
            Mo_asksLate_h2 this p1 S f (v2 + 1) d6
def Mo_asksLate (this : Nat) (p1 : Int32) (S : Sp) (d : Dt) : Option (Unit × Dt) :=
  Mo_asksLate_h2 this p1 S FU 0 d
set_option maxHeartbeats 4000000 in
theorem Mo_asksLate_fn (this : Nat) (p1 : Int32) (S : Sp) (d : Dt) : Fn yX10_asksLate (ws_ yX10_asksLate cX10_asksLate 3 none) 6 137 [va_rf (some this), .int p1] S d rvU Λw (Mo_asksLate this p1 S d) := by
  refine Fn.ofJ (own := RX10) (lv := [(0, va_rf (some this)), (1, .int p1)]) (by decide +kernel) rfl (by simp [cat_i, cat_l, cat_f, cat_d, rf_cat]) (by simp [lv_args, cat_i, cat_l, cat_f, cat_d, rf_cat]) ?_
  intro X F G hRm hR hI
  have hMo_asksLate_h2 : ∀ (f : Nat) (v2 : Int32) (d : Dt), J X F Λw S d 2 [(0, va_rf (some this)), (1, .int p1), (2, .int v2)] [] (Mo_asksLate_h2 this p1 S f v2 d) := by
    intro  f
    induction f with
    | zero => intro v2 d; exact J_no
    | succ f ih =>
      intro v2 d
      unfold Mo_asksLate_h2
      refine JR_iload_n (pc := 2) (k := 2) (i := 2) G rfl rfl dX10_asksLate_2 ?_
      refine JR_aload_n (pc := 3) (k := 0) (i := 0) (o := some this) G rfl rfl dX10_asksLate_3 ?_
      refine J_bd (fun z1 hz1 => ?_)
      refine JR_gR (pc := 4) (k := 1) G cl_X10 in_X10 (by decide) (by decide) rfl (Or.inl rfl) q1589 hz1 dX10_asksLate_4 ?_
      refine JR_iconst (pc := 7) G ci_4 dX10_asksLate_7 ?_
      refine J_bd (fun q2 hq2 => ?_)
      refine JR_iaload (pc := 8) G hq2 dX10_asksLate_8 ?_
      refine JR_icmp_ge (pc := 9) (tgt := 58) G dX10_asksLate_9 (by decide) (fun c10 => ?_) (fun c10 => ?_)
      · exact JR_vret (pc := 58) G hR dX10_asksLate_58 rfl rfl
      · refine JR_aload_n (pc := 12) (k := 0) (i := 0) (o := some this) G rfl rfl dX10_asksLate_12 ?_
        refine JR_gI (pc := 13) (k := 58) G cl_X10 in_X10 (by decide) (by decide) rfl (Or.inl rfl) q1646 hz1 dX10_asksLate_13 ?_
        refine JR_if_ne (pc := 16) (tgt := 58) G dX10_asksLate_16 (by decide) (fun c9 => ?_) (fun c9 => ?_)
        · exact JR_vret (pc := 58) G hR dX10_asksLate_58 rfl rfl
        · refine JR_iload_n (pc := 19) (k := 1) (i := 1) G rfl rfl dX10_asksLate_19 ?_
          refine JR_aload_n (pc := 20) (k := 0) (i := 0) (o := some this) G rfl rfl dX10_asksLate_20 ?_
          refine JR_gR (pc := 21) (k := 28) G cl_X10 in_X10 (by decide) (by decide) rfl (Or.inl rfl) q1616 hz1 dX10_asksLate_21 ?_
          refine JR_iload_n (pc := 24) (k := 2) (i := 2) G rfl rfl dX10_asksLate_24 ?_
          refine J_bd (fun q3 hq3 => ?_)
          refine JR_iaload (pc := 25) G hq3 dX10_asksLate_25 ?_
          refine JR_icmp_lt (pc := 26) (tgt := 52) G dX10_asksLate_26 (by decide) (fun c8 => ?_) (fun c8 => ?_)
          · refine JR_iinc (pc := 52) (i := 2) (v := v2 + 1) (lv' := [(2, .int (v2 + 1)), (0, va_rf (some this)), (1, .int p1)]) G rfl (congrArg (fun z => v2 + z) (by decide)) (by decide) rfl dX10_asksLate_52 ?_
            refine JR_goto (pc := 55) (tgt := 2) G dX10_asksLate_55 (by decide) ?_
            refine J_sub [1, 2, 0] rfl ?_
            exact ih (v2 + 1) d
          · refine JR_iload_n (pc := 29) (k := 1) (i := 1) G rfl rfl dX10_asksLate_29 ?_
            refine JR_aload_n (pc := 30) (k := 0) (i := 0) (o := some this) G rfl rfl dX10_asksLate_30 ?_
            refine JR_gR (pc := 31) (k := 34) G cl_X10 in_X10 (by decide) (by decide) rfl (Or.inl rfl) q1622 hz1 dX10_asksLate_31 ?_
            refine JR_iload_n (pc := 34) (k := 2) (i := 2) G rfl rfl dX10_asksLate_34 ?_
            refine J_bd (fun q4 hq4 => ?_)
            refine JR_iaload (pc := 35) G hq4 dX10_asksLate_35 ?_
            refine JR_isub (pc := 36) G dX10_asksLate_36 ?_
            refine JR_aload_n (pc := 37) (k := 0) (i := 0) (o := some this) G rfl rfl dX10_asksLate_37 ?_
            refine JR_iload_n (pc := 38) (k := 2) (i := 2) G rfl rfl dX10_asksLate_38 ?_
            refine JPV_I (pc := 39) (as := [.int v2]) (st' := [.int (p1 - (d.1 q4.1 q4.2))]) (o := some this) G (Mo_closeOf_fn this v2 S d) (JC_V (n := 1) G hRm cl_X10 q2159 q2161 qs120 q152 q2162 ⟨rfl, dd_X10_closeOf⟩ ⟨by decide, by decide⟩ dX10_asksLate_39 hz1 rfl (Nat.le_of_ble_eq_true rfl)) rfl (fun r5 hr5 => ?_)
            refine JR_icmp_lt (pc := 42) (tgt := 52) G dX10_asksLate_42 (by decide) (fun c7 => ?_) (fun c7 => ?_)
            · refine JR_iinc (pc := 52) (i := 2) (v := v2 + 1) (lv' := [(2, .int (v2 + 1)), (0, va_rf (some this)), (1, .int p1)]) G rfl (congrArg (fun z => v2 + z) (by decide)) (by decide) rfl dX10_asksLate_52 ?_
              refine JR_goto (pc := 55) (tgt := 2) G dX10_asksLate_55 (by decide) ?_
              refine J_sub [1, 2, 0] rfl ?_
              exact ih (v2 + 1) d
            · refine JR_aload_n (pc := 45) (k := 0) (i := 0) (o := some this) G rfl rfl dX10_asksLate_45 ?_
              refine JR_iload_n (pc := 46) (k := 2) (i := 2) G rfl rfl dX10_asksLate_46 ?_
              refine JR_iconst (pc := 47) G ci_2 dX10_asksLate_47 ?_
              refine JR_iload_n (pc := 48) (k := 1) (i := 1) G rfl rfl dX10_asksLate_48 ?_
              refine JQV_U (pc := 49) (as := [.int v2, .int 2, .int p1]) (st' := []) (o := some this) G (Mo_faultOf_fn this v2 2 p1 S d) (JC_V (n := 3) G hRm cl_X10 q2130 q2132 qs113 q152 q2133 ⟨rfl, dd_X10_faultOf⟩ ⟨by decide, by decide⟩ dX10_asksLate_49 hz1 rfl (Nat.le_of_ble_eq_true rfl)) rfl (fun _ _ => rfl) (fun _ d6 hd6 => ?_)
              refine JR_iinc (pc := 52) (i := 2) (v := v2 + 1) (lv' := [(2, .int (v2 + 1)), (0, va_rf (some this)), (1, .int p1)]) G rfl (congrArg (fun z => v2 + z) (by decide)) (by decide) rfl dX10_asksLate_52 ?_
              refine JR_goto (pc := 55) (tgt := 2) G dX10_asksLate_55 (by decide) ?_
              refine J_sub [1, 2, 0] rfl ?_
              exact ih (v2 + 1) d6
  unfold Mo_asksLate
  refine JR_iconst (pc := 0) G ci_0 dX10_asksLate_0 ?_
  refine JR_istore_n (pc := 1) (k := 2) (i := 2) (lv' := [(2, .int 0), (0, va_rf (some this)), (1, .int p1)]) G rfl (by decide) rfl dX10_asksLate_1 ?_
  refine J_sub [1, 2, 0] rfl ?_
  exact hMo_asksLate_h2 FU 0 d

def Mo_isAsleep_h2 (this : Nat) (p1 : Int32) (p2 : Int32) (S : Sp) (d : Dt) : Nat → Int32 → Option Int32
  | 0, _ => none
  | f + 1, v3 =>
    (isK S 9 (some this)).bind fun z1 =>
    (Mo_injections this S d).bind fun r2 =>
    if r2 ≤ v3 then
      some 0
    else
      if v3 = (d.1 z1 23) then
        Mo_isAsleep_h2 this p1 p2 S d f (v3 + 1)
      else
        (Mo_of this v3 0 S d).bind fun r3 =>
        if ¬ r3 = 5 then
          Mo_isAsleep_h2 this p1 p2 S d f (v3 + 1)
        else
          (Mo_of this v3 1 S d).bind fun r4 =>
          if ¬ r4 = p1 then
            Mo_isAsleep_h2 this p1 p2 S d f (v3 + 1)
          else
            (Mo_of this v3 2 S d).bind fun r5 =>
            if p2 < r5 then
              Mo_isAsleep_h2 this p1 p2 S d f (v3 + 1)
            else
              (aix S 51 (S.2.1 z1 48) v3).bind fun q6 =>
              if ¬ (d.1 q6.1 q6.2) = 0 then
                Mo_isAsleep_h2 this p1 p2 S d f (v3 + 1)
              else
                some 1
def Mo_isAsleep (this : Nat) (p1 : Int32) (p2 : Int32) (S : Sp) (d : Dt) : Option Int32 :=
  Mo_isAsleep_h2 this p1 p2 S d FU 0
set_option maxHeartbeats 4000000 in
theorem Mo_isAsleep_fn (this : Nat) (p1 : Int32) (p2 : Int32) (S : Sp) (d : Dt) : Fn yX10_isAsleep (ws_ yX10_isAsleep cX10_isAsleep 4 (some .boolean)) 2 40 [va_rf (some this), .int p1, .int p2] S d rvI Λp (Mo_isAsleep this p1 p2 S d) := by
  refine Fn.ofJ (own := RX10) (lv := [(0, va_rf (some this)), (1, .int p1), (2, .int p2)]) (by decide +kernel) rfl (by simp [cat_i, cat_l, cat_f, cat_d, rf_cat]) (by simp [lv_args, cat_i, cat_l, cat_f, cat_d, rf_cat]) ?_
  intro X F G hRm hR hI
  have hMo_isAsleep_h2 : ∀ (f : Nat) (v3 : Int32), J X F Λp S d 2 [(0, va_rf (some this)), (1, .int p1), (2, .int p2), (3, .int v3)] [] (Mo_isAsleep_h2 this p1 p2 S d f v3) := by
    intro  f
    induction f with
    | zero => intro v3; exact J_no
    | succ f ih =>
      intro v3
      unfold Mo_isAsleep_h2
      refine JR_iload_n (pc := 2) (k := 3) (i := 3) G rfl rfl dX10_isAsleep_2 ?_
      refine JR_aload_n (pc := 3) (k := 0) (i := 0) (o := some this) G rfl rfl dX10_isAsleep_3 ?_
      refine J_bd (fun z1 hz1 => ?_)
      refine JPV_I (pc := 4) (as := []) (st' := [.int v3]) (o := some this) G (Mo_injections_fn this S d) (JC_V (n := 0) G hRm cl_X10 q2110 q2112 qs108 q152 q2113 ⟨rfl, dd_X10_injections⟩ ⟨by decide, by decide⟩ dX10_isAsleep_4 hz1 rfl (Nat.le_of_ble_eq_true rfl)) rfl (fun r2 hr2 => ?_)
      refine JR_icmp_ge (pc := 7) (tgt := 65) G dX10_isAsleep_7 (by decide) (fun c12 => ?_) (fun c12 => ?_)
      · refine JR_iconst (pc := 65) G ci_0 dX10_isAsleep_65 ?_
        exact JR_zret (pc := 66) G hR dX10_isAsleep_66 (Or.inl rfl) rfl rfl
      · refine JR_iload_n (pc := 10) (k := 3) (i := 3) G rfl rfl dX10_isAsleep_10 ?_
        refine JR_aload_n (pc := 11) (k := 0) (i := 0) (o := some this) G rfl rfl dX10_isAsleep_11 ?_
        refine JR_gI (pc := 12) (k := 23) G cl_X10 in_X10 (by decide) (by decide) rfl (Or.inl rfl) q1611 hz1 dX10_isAsleep_12 ?_
        refine JR_icmp_eq (pc := 15) (tgt := 59) G dX10_isAsleep_15 (by decide) (fun c11 => ?_) (fun c11 => ?_)
        · refine JR_iinc (pc := 59) (i := 3) (v := v3 + 1) (lv' := [(3, .int (v3 + 1)), (0, va_rf (some this)), (1, .int p1), (2, .int p2)]) G rfl (congrArg (fun z => v3 + z) (by decide)) (by decide) rfl dX10_isAsleep_59 ?_
          refine JR_goto (pc := 62) (tgt := 2) G dX10_isAsleep_62 (by decide) ?_
          refine J_sub [1, 2, 3, 0] rfl ?_
          exact ih (v3 + 1)
        · refine JR_aload_n (pc := 18) (k := 0) (i := 0) (o := some this) G rfl rfl dX10_isAsleep_18 ?_
          refine JR_iload_n (pc := 19) (k := 3) (i := 3) G rfl rfl dX10_isAsleep_19 ?_
          refine JR_iconst (pc := 20) G ci_0 dX10_isAsleep_20 ?_
          refine JPV_I (pc := 21) (as := [.int v3, .int 0]) (st' := []) (o := some this) G (Mo_of_fn this v3 0 S d) (JC_V (n := 2) G hRm cl_X10 q1962 q1964 qs86 q152 q1965 ⟨rfl, dd_X10_of⟩ ⟨by decide, by decide⟩ dX10_isAsleep_21 hz1 rfl (Nat.le_of_ble_eq_true rfl)) rfl (fun r3 hr3 => ?_)
          refine JR_iconst (pc := 24) G ci_5 dX10_isAsleep_24 ?_
          refine JR_icmp_ne (pc := 25) (tgt := 59) G dX10_isAsleep_25 (by decide) (fun c10 => ?_) (fun c10 => ?_)
          · refine JR_iinc (pc := 59) (i := 3) (v := v3 + 1) (lv' := [(3, .int (v3 + 1)), (0, va_rf (some this)), (1, .int p1), (2, .int p2)]) G rfl (congrArg (fun z => v3 + z) (by decide)) (by decide) rfl dX10_isAsleep_59 ?_
            refine JR_goto (pc := 62) (tgt := 2) G dX10_isAsleep_62 (by decide) ?_
            refine J_sub [1, 2, 3, 0] rfl ?_
            exact ih (v3 + 1)
          · refine JR_aload_n (pc := 28) (k := 0) (i := 0) (o := some this) G rfl rfl dX10_isAsleep_28 ?_
            refine JR_iload_n (pc := 29) (k := 3) (i := 3) G rfl rfl dX10_isAsleep_29 ?_
            refine JR_iconst (pc := 30) G ci_1 dX10_isAsleep_30 ?_
            refine JPV_I (pc := 31) (as := [.int v3, .int 1]) (st' := []) (o := some this) G (Mo_of_fn this v3 1 S d) (JC_V (n := 2) G hRm cl_X10 q1962 q1964 qs86 q152 q1965 ⟨rfl, dd_X10_of⟩ ⟨by decide, by decide⟩ dX10_isAsleep_31 hz1 rfl (Nat.le_of_ble_eq_true rfl)) rfl (fun r4 hr4 => ?_)
            refine JR_iload_n (pc := 34) (k := 1) (i := 1) G rfl rfl dX10_isAsleep_34 ?_
            refine JR_icmp_ne (pc := 35) (tgt := 59) G dX10_isAsleep_35 (by decide) (fun c9 => ?_) (fun c9 => ?_)
            · refine JR_iinc (pc := 59) (i := 3) (v := v3 + 1) (lv' := [(3, .int (v3 + 1)), (0, va_rf (some this)), (1, .int p1), (2, .int p2)]) G rfl (congrArg (fun z => v3 + z) (by decide)) (by decide) rfl dX10_isAsleep_59 ?_
              refine JR_goto (pc := 62) (tgt := 2) G dX10_isAsleep_62 (by decide) ?_
              refine J_sub [1, 2, 3, 0] rfl ?_
              exact ih (v3 + 1)
            · refine JR_aload_n (pc := 38) (k := 0) (i := 0) (o := some this) G rfl rfl dX10_isAsleep_38 ?_
              refine JR_iload_n (pc := 39) (k := 3) (i := 3) G rfl rfl dX10_isAsleep_39 ?_
              refine JR_iconst (pc := 40) G ci_2 dX10_isAsleep_40 ?_
              refine JPV_I (pc := 41) (as := [.int v3, .int 2]) (st' := []) (o := some this) G (Mo_of_fn this v3 2 S d) (JC_V (n := 2) G hRm cl_X10 q1962 q1964 qs86 q152 q1965 ⟨rfl, dd_X10_of⟩ ⟨by decide, by decide⟩ dX10_isAsleep_41 hz1 rfl (Nat.le_of_ble_eq_true rfl)) rfl (fun r5 hr5 => ?_)
              refine JR_iload_n (pc := 44) (k := 2) (i := 2) G rfl rfl dX10_isAsleep_44 ?_
              refine JR_icmp_gt (pc := 45) (tgt := 59) G dX10_isAsleep_45 (by decide) (fun c8 => ?_) (fun c8 => ?_)
              · refine JR_iinc (pc := 59) (i := 3) (v := v3 + 1) (lv' := [(3, .int (v3 + 1)), (0, va_rf (some this)), (1, .int p1), (2, .int p2)]) G rfl (congrArg (fun z => v3 + z) (by decide)) (by decide) rfl dX10_isAsleep_59 ?_
                refine JR_goto (pc := 62) (tgt := 2) G dX10_isAsleep_62 (by decide) ?_
                refine J_sub [1, 2, 3, 0] rfl ?_
                exact ih (v3 + 1)
              · refine JR_aload_n (pc := 48) (k := 0) (i := 0) (o := some this) G rfl rfl dX10_isAsleep_48 ?_
                refine JR_gR (pc := 49) (k := 48) G cl_X10 in_X10 (by decide) (by decide) rfl (Or.inl rfl) q1636 hz1 dX10_isAsleep_49 ?_
                refine JR_iload_n (pc := 52) (k := 3) (i := 3) G rfl rfl dX10_isAsleep_52 ?_
                refine J_bd (fun q6 hq6 => ?_)
                refine JR_zaload (pc := 53) G hq6 dX10_isAsleep_53 ?_
                refine JR_if_ne (pc := 54) (tgt := 59) G dX10_isAsleep_54 (by decide) (fun c7 => ?_) (fun c7 => ?_)
                · refine JR_iinc (pc := 59) (i := 3) (v := v3 + 1) (lv' := [(3, .int (v3 + 1)), (0, va_rf (some this)), (1, .int p1), (2, .int p2)]) G rfl (congrArg (fun z => v3 + z) (by decide)) (by decide) rfl dX10_isAsleep_59 ?_
                  refine JR_goto (pc := 62) (tgt := 2) G dX10_isAsleep_62 (by decide) ?_
                  refine J_sub [1, 2, 3, 0] rfl ?_
                  exact ih (v3 + 1)
                · refine JR_iconst (pc := 57) G ci_1 dX10_isAsleep_57 ?_
                  exact JR_zret (pc := 58) G hR dX10_isAsleep_58 (Or.inr rfl) rfl rfl
  unfold Mo_isAsleep
  refine JR_iconst (pc := 0) G ci_0 dX10_isAsleep_0 ?_
  refine JR_istore_n (pc := 1) (k := 3) (i := 3) (lv' := [(3, .int 0), (0, va_rf (some this)), (1, .int p1), (2, .int p2)]) G rfl (by decide) rfl dX10_isAsleep_1 ?_
  refine J_sub [1, 2, 3, 0] rfl ?_
  exact hMo_isAsleep_h2 FU 0

def Mo_looks_b168 (this : Nat) (p1 : Int32) (p2 : Int32) (S : Sp) (k108 : Int32 → Dt → Option (Unit × Dt)) (v4 : Int32) (s0 : Int32) (d : Dt) : Option (Unit × Dt) :=
  (isK S 9 (some this)).bind fun z30 =>
  (aix S 51 (S.2.1 z30 49) v4).bind fun q31 =>
  (some (dI d q31.1 q31.2 (vp_nar .boolean 1))).bind fun d32 =>
  bind2 (Mo_records this p2 6 v4 s0 S d32) fun _ d33 =>
  bind2 (Mo_climbs this s0 ((-1)) v4 p2 S d33) fun _ d34 =>
  k108 (v4 + 1) d34
def Mo_looks_h108 (this : Nat) (p1 : Int32) (p2 : Int32) (S : Sp) : Nat → Int32 → Dt → Option (Unit × Dt)
  | 0, _, _ => none
  | f + 1, v4, d =>
    (isK S 9 (some this)).bind fun z20 =>
    (aix S 50 (S.2.1 z20 1) 3).bind fun q21 =>
    if (d.1 q21.1 q21.2) ≤ v4 then
      some ((), d)
    else
      if ¬ (d.1 z20 58) = 0 then
        some ((), d)
      else
        (aix S 50 (S.2.1 z20 1) (8 + v4)).bind fun q22 =>
        if ¬ (d.1 q22.1 q22.2) = p1 then
          Mo_looks_h108 this p1 p2 S f (v4 + 1) d
        else
          (aix S 51 (S.2.1 z20 50) v4).bind fun q23 =>
          if (d.1 q23.1 q23.2) = 0 then
            (aix S 51 (S.2.1 z20 49) v4).bind fun q24 =>
            Mo_looks_b168 this p1 p2 S (Mo_looks_h108 this p1 p2 S f) v4 (if (d.1 q24.1 q24.2) = 0 then 2 else 3) d
          else
            Mo_looks_h108 this p1 p2 S f (v4 + 1) d
def Mo_looks_b105 (this : Nat) (p1 : Int32) (p2 : Int32) (S : Sp) (d : Dt) : Option (Unit × Dt) :=
  Mo_looks_h108 this p1 p2 S FU 0 d
def Mo_looks_h21 (this : Nat) (p1 : Int32) (p2 : Int32) (S : Sp) : Nat → Int32 → Int32 → Dt → Option (Unit × Dt)
  | 0, _, _, _ => none
  | f + 1, v3, v4, d =>
    (isK S 9 (some this)).bind fun z6 =>
    (aix S 50 (S.2.1 z6 1) 4).bind fun q7 =>
    if (d.1 q7.1 q7.2) ≤ v4 then
      Mo_looks_b105 this p1 p2 S d
    else
      if ¬ (d.1 z6 58) = 0 then
        Mo_looks_b105 this p1 p2 S d
      else
        (Mo_toldOf this v4 0 S d).bind fun r8 =>
        if ¬ r8 = p1 then
          Mo_looks_h21 this p1 p2 S f v3 (v4 + 1) d
        else
          (aix S 50 (S.2.1 z6 28) v4).bind fun q9 =>
          if v3 < (d.1 q9.1 q9.2) then
            Mo_looks_h21 this p1 p2 S f v3 (v4 + 1) d
          else
            (aix S 50 (S.2.1 z6 36) v4).bind fun q10 =>
            (Mo_toldOf this v4 4 S d).bind fun r11 =>
            (Mo_toldOf this v4 5 S d).bind fun r12 =>
            (Mo_in (Int32.toInt64 (d.1 q10.1 q10.2)) (Int32.toInt64 r11) (Int32.toInt64 r12) S d).bind fun r13 =>
            if ¬ r13 = 0 then
              Mo_looks_h21 this p1 p2 S f v3 (v4 + 1) d
            else
              bind2 (Mo_faultOf this v4 5 p2 S d) fun _ d14 =>
              Mo_looks_h21 this p1 p2 S f v3 (v4 + 1) d14
def Mo_looks (this : Nat) (p1 : Int32) (p2 : Int32) (S : Sp) (d : Dt) : Option (Unit × Dt) :=
  (isK S 9 (some this)).bind fun z1 =>
  (aix S 50 (S.2.1 z1 1) 1).bind fun q2 =>
  (some ((p2 + 1) - (d.1 q2.1 q2.2))).bind fun x3 =>
  (aix S 51 (S.2.1 z1 50) p1).bind fun q4 =>
  (some (dI d q4.1 q4.2 (vp_nar .boolean 1))).bind fun d5 =>
  Mo_looks_h21 this p1 p2 S FU x3 0 d5
set_option maxHeartbeats 4000000 in
theorem Mo_looks_fn (this : Nat) (p1 : Int32) (p2 : Int32) (S : Sp) (d : Dt) : Fn yX10_looks (ws_ yX10_looks cX10_looks 6 none) 6 137 [va_rf (some this), .int p1, .int p2] S d rvU Λw (Mo_looks this p1 p2 S d) := by
  refine Fn.ofJ (own := RX10) (lv := [(0, va_rf (some this)), (1, .int p1), (2, .int p2)]) (by decide +kernel) rfl (by simp [cat_i, cat_l, cat_f, cat_d, rf_cat]) (by simp [lv_args, cat_i, cat_l, cat_f, cat_d, rf_cat]) ?_
  intro X F G hRm hR hI
  have hMo_looks_b168 : ∀ (k108 : Int32 → Dt → Option (Unit × Dt)) (hk108 : ∀ (v4 : Int32) (d : Dt), J X F Λw S d 108 [(0, va_rf (some this)), (1, .int p1), (2, .int p2), (4, .int v4)] [] (k108 v4 d)) (v4 : Int32) (s0 : Int32) (d : Dt), J X F Λw S d 168 [(0, va_rf (some this)), (1, .int p1), (2, .int p2), (4, .int v4)] [.int s0] (Mo_looks_b168 this p1 p2 S k108 v4 s0 d) := by
    intro k108 hk108 v4 s0 d
    unfold Mo_looks_b168
    refine JR_istore (pc := 168) (i := 5) (lv' := [(5, .int s0), (0, va_rf (some this)), (1, .int p1), (2, .int p2), (4, .int v4)]) G (by decide) rfl dX10_looks_168 ?_
    refine JR_aload_n (pc := 170) (k := 0) (i := 0) (o := some this) G rfl rfl dX10_looks_170 ?_
    refine J_bd (fun z30 hz30 => ?_)
    refine JR_gR (pc := 171) (k := 49) G cl_X10 in_X10 (by decide) (by decide) rfl (Or.inl rfl) q1637 hz30 dX10_looks_171 ?_
    refine JR_iload (pc := 174) (i := 4) G rfl dX10_looks_174 ?_
    refine JR_iconst (pc := 176) G ci_1 dX10_looks_176 ?_
    refine J_bd (fun q31 hq31 => ?_)
    refine JW_zastore (pc := 177) G hq31 (fun _ => rfl) dX10_looks_177 ?_
    refine J_nmD (fun d32 hd32 => ?_)
    refine JR_aload_n (pc := 178) (k := 0) (i := 0) (o := some this) G rfl rfl dX10_looks_178 ?_
    refine JR_iload_n (pc := 179) (k := 2) (i := 2) G rfl rfl dX10_looks_179 ?_
    refine JR_bipush (pc := 180) (v := 6) G (by decide) dX10_looks_180 ?_
    refine JR_iload (pc := 182) (i := 4) G rfl dX10_looks_182 ?_
    refine JR_iload (pc := 184) (i := 5) G rfl dX10_looks_184 ?_
    refine JQV_U (pc := 186) (as := [.int p2, .int 6, .int v4, .int s0]) (st' := []) (o := some this) G (Mo_records_fn this p2 6 v4 s0 S d32) (JC_V (n := 4) G hRm cl_X10 q2135 q2137 qs114 q152 q2138 ⟨rfl, dd_X10_records⟩ ⟨by decide, by decide⟩ dX10_looks_186 hz30 rfl (Nat.le_of_ble_eq_true rfl)) rfl (fun _ _ => rfl) (fun _ d33 hd33 => ?_)
    refine JR_aload_n (pc := 189) (k := 0) (i := 0) (o := some this) G rfl rfl dX10_looks_189 ?_
    refine JR_iload (pc := 190) (i := 5) G rfl dX10_looks_190 ?_
    refine JR_iconst (pc := 192) G ci_m1 dX10_looks_192 ?_
    refine JR_iload (pc := 193) (i := 4) G rfl dX10_looks_193 ?_
    refine JR_iload_n (pc := 195) (k := 2) (i := 2) G rfl rfl dX10_looks_195 ?_
    refine JQV_U (pc := 196) (as := [.int s0, .int ((-1)), .int v4, .int p2]) (st' := []) (o := some this) G (Mo_climbs_fn this s0 ((-1)) v4 p2 S d33) (JC_V (n := 4) G hRm cl_X10 q2139 q2141 qs115 q152 q2142 ⟨rfl, dd_X10_climbs⟩ ⟨by decide, by decide⟩ dX10_looks_196 hz30 rfl (Nat.le_of_ble_eq_true rfl)) rfl (fun _ _ => rfl) (fun _ d34 hd34 => ?_)
    refine JR_iinc (pc := 199) (i := 4) (v := v4 + 1) (lv' := [(4, .int (v4 + 1)), (5, .int s0), (0, va_rf (some this)), (1, .int p1), (2, .int p2)]) G rfl (congrArg (fun z => v4 + z) (by decide)) (by decide) rfl dX10_looks_199 ?_
    refine JR_goto (pc := 202) (tgt := 108) G dX10_looks_202 (by decide) ?_
    refine J_sub [2, 3, 4, 0] rfl ?_
    exact hk108 (v4 + 1) d34
  have hMo_looks_h108 : ∀ (f : Nat) (v4 : Int32) (d : Dt), J X F Λw S d 108 [(0, va_rf (some this)), (1, .int p1), (2, .int p2), (4, .int v4)] [] (Mo_looks_h108 this p1 p2 S f v4 d) := by
    intro  f
    induction f with
    | zero => intro v4 d; exact J_no
    | succ f ih =>
      intro v4 d
      unfold Mo_looks_h108
      refine JR_iload (pc := 108) (i := 4) G rfl dX10_looks_108 ?_
      refine JR_aload_n (pc := 110) (k := 0) (i := 0) (o := some this) G rfl rfl dX10_looks_110 ?_
      refine J_bd (fun z20 hz20 => ?_)
      refine JR_gR (pc := 111) (k := 1) G cl_X10 in_X10 (by decide) (by decide) rfl (Or.inl rfl) q1589 hz20 dX10_looks_111 ?_
      refine JR_iconst (pc := 114) G ci_3 dX10_looks_114 ?_
      refine J_bd (fun q21 hq21 => ?_)
      refine JR_iaload (pc := 115) G hq21 dX10_looks_115 ?_
      refine JR_icmp_ge (pc := 116) (tgt := 205) G dX10_looks_116 (by decide) (fun c29 => ?_) (fun c29 => ?_)
      · exact JR_vret (pc := 205) G hR dX10_looks_205 rfl rfl
      · refine JR_aload_n (pc := 119) (k := 0) (i := 0) (o := some this) G rfl rfl dX10_looks_119 ?_
        refine JR_gI (pc := 120) (k := 58) G cl_X10 in_X10 (by decide) (by decide) rfl (Or.inl rfl) q1646 hz20 dX10_looks_120 ?_
        refine JR_if_ne (pc := 123) (tgt := 205) G dX10_looks_123 (by decide) (fun c28 => ?_) (fun c28 => ?_)
        · exact JR_vret (pc := 205) G hR dX10_looks_205 rfl rfl
        · refine JR_aload_n (pc := 126) (k := 0) (i := 0) (o := some this) G rfl rfl dX10_looks_126 ?_
          refine JR_gR (pc := 127) (k := 1) G cl_X10 in_X10 (by decide) (by decide) rfl (Or.inl rfl) q1589 hz20 dX10_looks_127 ?_
          refine JR_bipush (pc := 130) (v := 8) G (by decide) dX10_looks_130 ?_
          refine JR_iload (pc := 132) (i := 4) G rfl dX10_looks_132 ?_
          refine JR_iadd (pc := 134) G dX10_looks_134 ?_
          refine J_bd (fun q22 hq22 => ?_)
          refine JR_iaload (pc := 135) G hq22 dX10_looks_135 ?_
          refine JR_iload_n (pc := 136) (k := 1) (i := 1) G rfl rfl dX10_looks_136 ?_
          refine JR_icmp_ne (pc := 137) (tgt := 199) G dX10_looks_137 (by decide) (fun c27 => ?_) (fun c27 => ?_)
          · refine JR_iinc (pc := 199) (i := 4) (v := v4 + 1) (lv' := [(4, .int (v4 + 1)), (0, va_rf (some this)), (1, .int p1), (2, .int p2)]) G rfl (congrArg (fun z => v4 + z) (by decide)) (by decide) rfl dX10_looks_199 ?_
            refine JR_goto (pc := 202) (tgt := 108) G dX10_looks_202 (by decide) ?_
            refine J_sub [1, 2, 3, 0] rfl ?_
            exact ih (v4 + 1) d
          · refine JR_aload_n (pc := 140) (k := 0) (i := 0) (o := some this) G rfl rfl dX10_looks_140 ?_
            refine JR_gR (pc := 141) (k := 50) G cl_X10 in_X10 (by decide) (by decide) rfl (Or.inl rfl) q1638 hz20 dX10_looks_141 ?_
            refine JR_iload (pc := 144) (i := 4) G rfl dX10_looks_144 ?_
            refine J_bd (fun q23 hq23 => ?_)
            refine JR_zaload (pc := 146) G hq23 dX10_looks_146 ?_
            refine JR_if_eq (pc := 147) (tgt := 153) G dX10_looks_147 (by decide) (fun c26 => ?_) (fun c26 => ?_)
            · refine JR_aload_n (pc := 153) (k := 0) (i := 0) (o := some this) G rfl rfl dX10_looks_153 ?_
              refine JR_gR (pc := 154) (k := 49) G cl_X10 in_X10 (by decide) (by decide) rfl (Or.inl rfl) q1637 hz20 dX10_looks_154 ?_
              refine JR_iload (pc := 157) (i := 4) G rfl dX10_looks_157 ?_
              refine J_bd (fun q24 hq24 => ?_)
              refine JR_zaload (pc := 159) G hq24 dX10_looks_159 ?_
              refine J_eq (r' := if (d.1 q24.1 q24.2) = 0 then Mo_looks_b168 this p1 p2 S (Mo_looks_h108 this p1 p2 S f) v4 2 d else Mo_looks_b168 this p1 p2 S (Mo_looks_h108 this p1 p2 S f) v4 3 d) (by split <;> rfl) ?_
              refine JR_if_eq (pc := 160) (tgt := 167) G dX10_looks_160 (by decide) (fun c25 => ?_) (fun c25 => ?_)
              · refine JR_iconst (pc := 167) G ci_2 dX10_looks_167 ?_
                exact hMo_looks_b168 (Mo_looks_h108 this p1 p2 S f) ih v4 2 d
              · refine JR_iconst (pc := 163) G ci_3 dX10_looks_163 ?_
                refine JR_goto (pc := 164) (tgt := 168) G dX10_looks_164 (by decide) ?_
                exact hMo_looks_b168 (Mo_looks_h108 this p1 p2 S f) ih v4 3 d
            · refine JR_goto (pc := 150) (tgt := 199) G dX10_looks_150 (by decide) ?_
              refine JR_iinc (pc := 199) (i := 4) (v := v4 + 1) (lv' := [(4, .int (v4 + 1)), (0, va_rf (some this)), (1, .int p1), (2, .int p2)]) G rfl (congrArg (fun z => v4 + z) (by decide)) (by decide) rfl dX10_looks_199 ?_
              refine JR_goto (pc := 202) (tgt := 108) G dX10_looks_202 (by decide) ?_
              refine J_sub [1, 2, 3, 0] rfl ?_
              exact ih (v4 + 1) d
  have hMo_looks_b105 : ∀ (d : Dt), J X F Λw S d 105 [(0, va_rf (some this)), (1, .int p1), (2, .int p2)] [] (Mo_looks_b105 this p1 p2 S d) := by
    intro d
    unfold Mo_looks_b105
    refine JR_iconst (pc := 105) G ci_0 dX10_looks_105 ?_
    refine JR_istore (pc := 106) (i := 4) (lv' := [(4, .int 0), (0, va_rf (some this)), (1, .int p1), (2, .int p2)]) G (by decide) rfl dX10_looks_106 ?_
    refine J_sub [1, 2, 3, 0] rfl ?_
    exact hMo_looks_h108 FU 0 d
  have hMo_looks_h21 : ∀ (f : Nat) (v3 : Int32) (v4 : Int32) (d : Dt), J X F Λw S d 21 [(0, va_rf (some this)), (1, .int p1), (2, .int p2), (3, .int v3), (4, .int v4)] [] (Mo_looks_h21 this p1 p2 S f v3 v4 d) := by
    intro  f
    induction f with
    | zero => intro v3 v4 d; exact J_no
    | succ f ih =>
      intro v3 v4 d
      unfold Mo_looks_h21
      refine JR_iload (pc := 21) (i := 4) G rfl dX10_looks_21 ?_
      refine JR_aload_n (pc := 23) (k := 0) (i := 0) (o := some this) G rfl rfl dX10_looks_23 ?_
      refine J_bd (fun z6 hz6 => ?_)
      refine JR_gR (pc := 24) (k := 1) G cl_X10 in_X10 (by decide) (by decide) rfl (Or.inl rfl) q1589 hz6 dX10_looks_24 ?_
      refine JR_iconst (pc := 27) G ci_4 dX10_looks_27 ?_
      refine J_bd (fun q7 hq7 => ?_)
      refine JR_iaload (pc := 28) G hq7 dX10_looks_28 ?_
      refine JR_icmp_ge (pc := 29) (tgt := 105) G dX10_looks_29 (by decide) (fun c19 => ?_) (fun c19 => ?_)
      · refine J_sub [0, 1, 2] rfl ?_
        exact hMo_looks_b105 d
      · refine JR_aload_n (pc := 32) (k := 0) (i := 0) (o := some this) G rfl rfl dX10_looks_32 ?_
        refine JR_gI (pc := 33) (k := 58) G cl_X10 in_X10 (by decide) (by decide) rfl (Or.inl rfl) q1646 hz6 dX10_looks_33 ?_
        refine JR_if_ne (pc := 36) (tgt := 105) G dX10_looks_36 (by decide) (fun c18 => ?_) (fun c18 => ?_)
        · refine J_sub [0, 1, 2] rfl ?_
          exact hMo_looks_b105 d
        · refine JR_aload_n (pc := 39) (k := 0) (i := 0) (o := some this) G rfl rfl dX10_looks_39 ?_
          refine JR_iload (pc := 40) (i := 4) G rfl dX10_looks_40 ?_
          refine JR_iconst (pc := 42) G ci_0 dX10_looks_42 ?_
          refine JPV_I (pc := 43) (as := [.int v4, .int 0]) (st' := []) (o := some this) G (Mo_toldOf_fn this v4 0 S d) (JC_V (n := 2) G hRm cl_X10 q1921 q1923 qs79 q152 q1924 ⟨rfl, dd_X10_toldOf⟩ ⟨by decide, by decide⟩ dX10_looks_43 hz6 rfl (Nat.le_of_ble_eq_true rfl)) rfl (fun r8 hr8 => ?_)
          refine JR_iload_n (pc := 46) (k := 1) (i := 1) G rfl rfl dX10_looks_46 ?_
          refine JR_icmp_ne (pc := 47) (tgt := 99) G dX10_looks_47 (by decide) (fun c17 => ?_) (fun c17 => ?_)
          · refine JR_iinc (pc := 99) (i := 4) (v := v4 + 1) (lv' := [(4, .int (v4 + 1)), (0, va_rf (some this)), (1, .int p1), (2, .int p2), (3, .int v3)]) G rfl (congrArg (fun z => v4 + z) (by decide)) (by decide) rfl dX10_looks_99 ?_
            refine JR_goto (pc := 102) (tgt := 21) G dX10_looks_102 (by decide) ?_
            refine J_sub [1, 2, 3, 4, 0] rfl ?_
            exact ih v3 (v4 + 1) d
          · refine JR_aload_n (pc := 50) (k := 0) (i := 0) (o := some this) G rfl rfl dX10_looks_50 ?_
            refine JR_gR (pc := 51) (k := 28) G cl_X10 in_X10 (by decide) (by decide) rfl (Or.inl rfl) q1616 hz6 dX10_looks_51 ?_
            refine JR_iload (pc := 54) (i := 4) G rfl dX10_looks_54 ?_
            refine J_bd (fun q9 hq9 => ?_)
            refine JR_iaload (pc := 56) G hq9 dX10_looks_56 ?_
            refine JR_iload_n (pc := 57) (k := 3) (i := 3) G rfl rfl dX10_looks_57 ?_
            refine JR_icmp_gt (pc := 58) (tgt := 99) G dX10_looks_58 (by decide) (fun c16 => ?_) (fun c16 => ?_)
            · refine JR_iinc (pc := 99) (i := 4) (v := v4 + 1) (lv' := [(4, .int (v4 + 1)), (0, va_rf (some this)), (1, .int p1), (2, .int p2), (3, .int v3)]) G rfl (congrArg (fun z => v4 + z) (by decide)) (by decide) rfl dX10_looks_99 ?_
              refine JR_goto (pc := 102) (tgt := 21) G dX10_looks_102 (by decide) ?_
              refine J_sub [1, 2, 3, 4, 0] rfl ?_
              exact ih v3 (v4 + 1) d
            · refine JR_aload_n (pc := 61) (k := 0) (i := 0) (o := some this) G rfl rfl dX10_looks_61 ?_
              refine JR_gR (pc := 62) (k := 36) G cl_X10 in_X10 (by decide) (by decide) rfl (Or.inl rfl) q1624 hz6 dX10_looks_62 ?_
              refine JR_iload (pc := 65) (i := 4) G rfl dX10_looks_65 ?_
              refine J_bd (fun q10 hq10 => ?_)
              refine JR_iaload (pc := 67) G hq10 dX10_looks_67 ?_
              refine JR_i2l (pc := 68) G dX10_looks_68 ?_
              refine JR_aload_n (pc := 69) (k := 0) (i := 0) (o := some this) G rfl rfl dX10_looks_69 ?_
              refine JR_iload (pc := 70) (i := 4) G rfl dX10_looks_70 ?_
              refine JR_iconst (pc := 72) G ci_4 dX10_looks_72 ?_
              refine JPV_I (pc := 73) (as := [.int v4, .int 4]) (st' := [.long (Int32.toInt64 (d.1 q10.1 q10.2))]) (o := some this) G (Mo_toldOf_fn this v4 4 S d) (JC_V (n := 2) G hRm cl_X10 q1921 q1923 qs79 q152 q1924 ⟨rfl, dd_X10_toldOf⟩ ⟨by decide, by decide⟩ dX10_looks_73 hz6 rfl (Nat.le_of_ble_eq_true rfl)) rfl (fun r11 hr11 => ?_)
              refine JR_i2l (pc := 76) G dX10_looks_76 ?_
              refine JR_aload_n (pc := 77) (k := 0) (i := 0) (o := some this) G rfl rfl dX10_looks_77 ?_
              refine JR_iload (pc := 78) (i := 4) G rfl dX10_looks_78 ?_
              refine JR_iconst (pc := 80) G ci_5 dX10_looks_80 ?_
              refine JPV_I (pc := 81) (as := [.int v4, .int 5]) (st' := [.long (Int32.toInt64 r11), .long (Int32.toInt64 (d.1 q10.1 q10.2))]) (o := some this) G (Mo_toldOf_fn this v4 5 S d) (JC_V (n := 2) G hRm cl_X10 q1921 q1923 qs79 q152 q1924 ⟨rfl, dd_X10_toldOf⟩ ⟨by decide, by decide⟩ dX10_looks_81 hz6 rfl (Nat.le_of_ble_eq_true rfl)) rfl (fun r12 hr12 => ?_)
              refine JR_i2l (pc := 84) G dX10_looks_84 ?_
              refine JPS_I (pc := 85) (as := [.long (Int32.toInt64 (d.1 q10.1 q10.2)), .long (Int32.toInt64 r11), .long (Int32.toInt64 r12)]) (st' := []) G (Mo_in_fn (Int32.toInt64 (d.1 q10.1 q10.2)) (Int32.toInt64 r11) (Int32.toInt64 r12) S d) (JC_S (n := 3) G hRm q1782 q1783 q152 q1784 dd_X10_in ⟨by decide, by decide⟩ dX10_looks_85 rfl (Nat.le_of_ble_eq_true rfl)) rfl (fun r13 hr13 => ?_)
              refine JR_if_ne (pc := 88) (tgt := 99) G dX10_looks_88 (by decide) (fun c15 => ?_) (fun c15 => ?_)
              · refine JR_iinc (pc := 99) (i := 4) (v := v4 + 1) (lv' := [(4, .int (v4 + 1)), (0, va_rf (some this)), (1, .int p1), (2, .int p2), (3, .int v3)]) G rfl (congrArg (fun z => v4 + z) (by decide)) (by decide) rfl dX10_looks_99 ?_
                refine JR_goto (pc := 102) (tgt := 21) G dX10_looks_102 (by decide) ?_
                refine J_sub [1, 2, 3, 4, 0] rfl ?_
                exact ih v3 (v4 + 1) d
              · refine JR_aload_n (pc := 91) (k := 0) (i := 0) (o := some this) G rfl rfl dX10_looks_91 ?_
                refine JR_iload (pc := 92) (i := 4) G rfl dX10_looks_92 ?_
                refine JR_iconst (pc := 94) G ci_5 dX10_looks_94 ?_
                refine JR_iload_n (pc := 95) (k := 2) (i := 2) G rfl rfl dX10_looks_95 ?_
                refine JQV_U (pc := 96) (as := [.int v4, .int 5, .int p2]) (st' := []) (o := some this) G (Mo_faultOf_fn this v4 5 p2 S d) (JC_V (n := 3) G hRm cl_X10 q2130 q2132 qs113 q152 q2133 ⟨rfl, dd_X10_faultOf⟩ ⟨by decide, by decide⟩ dX10_looks_96 hz6 rfl (Nat.le_of_ble_eq_true rfl)) rfl (fun _ _ => rfl) (fun _ d14 hd14 => ?_)
                refine JR_iinc (pc := 99) (i := 4) (v := v4 + 1) (lv' := [(4, .int (v4 + 1)), (0, va_rf (some this)), (1, .int p1), (2, .int p2), (3, .int v3)]) G rfl (congrArg (fun z => v4 + z) (by decide)) (by decide) rfl dX10_looks_99 ?_
                refine JR_goto (pc := 102) (tgt := 21) G dX10_looks_102 (by decide) ?_
                refine J_sub [1, 2, 3, 4, 0] rfl ?_
                exact ih v3 (v4 + 1) d14
  unfold Mo_looks
  refine JR_iload_n (pc := 0) (k := 2) (i := 2) G rfl rfl dX10_looks_0 ?_
  refine JR_iconst (pc := 1) G ci_1 dX10_looks_1 ?_
  refine JR_iadd (pc := 2) G dX10_looks_2 ?_
  refine JR_aload_n (pc := 3) (k := 0) (i := 0) (o := some this) G rfl rfl dX10_looks_3 ?_
  refine J_bd (fun z1 hz1 => ?_)
  refine JR_gR (pc := 4) (k := 1) G cl_X10 in_X10 (by decide) (by decide) rfl (Or.inl rfl) q1589 hz1 dX10_looks_4 ?_
  refine JR_iconst (pc := 7) G ci_1 dX10_looks_7 ?_
  refine J_bd (fun q2 hq2 => ?_)
  refine JR_iaload (pc := 8) G hq2 dX10_looks_8 ?_
  refine JR_isub (pc := 9) G dX10_looks_9 ?_
  refine J_nm (fun x3 hx3 => ?_)
  refine JR_istore_n (pc := 10) (k := 3) (i := 3) (lv' := [(3, .int x3), (0, va_rf (some this)), (1, .int p1), (2, .int p2)]) G rfl (by decide) rfl dX10_looks_10 ?_
  refine JR_aload_n (pc := 11) (k := 0) (i := 0) (o := some this) G rfl rfl dX10_looks_11 ?_
  refine JR_gR (pc := 12) (k := 50) G cl_X10 in_X10 (by decide) (by decide) rfl (Or.inl rfl) q1638 hz1 dX10_looks_12 ?_
  refine JR_iload_n (pc := 15) (k := 1) (i := 1) G rfl rfl dX10_looks_15 ?_
  refine JR_iconst (pc := 16) G ci_1 dX10_looks_16 ?_
  refine J_bd (fun q4 hq4 => ?_)
  refine JW_zastore (pc := 17) G hq4 (fun _ => rfl) dX10_looks_17 ?_
  refine J_nmD (fun d5 hd5 => ?_)
  refine JR_iconst (pc := 18) G ci_0 dX10_looks_18 ?_
  refine JR_istore (pc := 19) (i := 4) (lv' := [(4, .int 0), (3, .int x3), (0, va_rf (some this)), (1, .int p1), (2, .int p2)]) G (by decide) rfl dX10_looks_19 ?_
  refine J_sub [2, 3, 4, 1, 0] rfl ?_
  exact hMo_looks_h21 FU x3 0 d5

def Mo_endsCycle_h85 (this : Nat) (p1 : Int32) (S : Sp) : Nat → Int32 → Dt → Option (Unit × Dt)
  | 0, _, _ => none
  | f + 1, v2, d =>
    (isK S 9 (some this)).bind fun z18 =>
    (aix S 50 (S.2.1 z18 1) 4).bind fun q19 =>
    if (d.1 q19.1 q19.2) ≤ v2 then
      some ((), d)
    else
      if ¬ (d.1 z18 58) = 0 then
        some ((), d)
      else
        (aix S 51 (S.2.1 z18 40) v2).bind fun q20 =>
        if ¬ (d.1 q20.1 q20.2) = 0 then
          Mo_endsCycle_h85 this p1 S f (v2 + 1) d
        else
          (aix S 50 (S.2.1 z18 37) v2).bind fun q21 =>
          if ¬ (d.1 q21.1 q21.2) = 0 then
            (aix S 50 (S.2.1 z18 39) v2).bind fun q22 =>
            (some (dI d q22.1 q22.2 ((d.1 q22.1 q22.2) + 1))).bind fun d23 =>
            if 3 ≤ (d23.1 q22.1 q22.2) then
              (some (dI d23 q22.1 q22.2 0)).bind fun d24 =>
              (some (dI d24 q21.1 q21.2 ((d24.1 q21.1 q21.2) - 1))).bind fun d25 =>
              Mo_endsCycle_h85 this p1 S f (v2 + 1) d25
            else
              Mo_endsCycle_h85 this p1 S f (v2 + 1) d23
          else
            Mo_endsCycle_h85 this p1 S f (v2 + 1) d
def Mo_endsCycle_b83 (this : Nat) (p1 : Int32) (S : Sp) (d : Dt) : Option (Unit × Dt) :=
  Mo_endsCycle_h85 this p1 S FU 0 d
def Mo_endsCycle_b41 (this : Nat) (p1 : Int32) (S : Sp) (d : Dt) : Option (Unit × Dt) :=
  (isK S 9 (some this)).bind fun z10 =>
  if ¬ (d.1 z10 58) = 0 then
    Mo_endsCycle_b83 this p1 S d
  else
    (aix S 50 (S.2.1 z10 1) 3).bind fun q11 =>
    if (d.1 q11.1 q11.2) ≤ 0 then
      Mo_endsCycle_b83 this p1 S d
    else
      (aix S 51 (S.2.1 z10 50) 0).bind fun q12 =>
      if ¬ (d.1 q12.1 q12.2) = 0 then
        Mo_endsCycle_b83 this p1 S d
      else
        bind2 (Mo_records this p1 7 0 3 S d) fun _ d13 =>
        bind2 (Mo_climbs this 3 ((-1)) ((-1)) p1 S d13) fun _ d14 =>
        Mo_endsCycle_b83 this p1 S d14
def Mo_endsCycle_h9 (this : Nat) (p1 : Int32) (S : Sp) : Nat → Int32 → Dt → Option (Unit × Dt)
  | 0, _, _ => none
  | f + 1, v2, d =>
    if v2 < 0 then
      Mo_endsCycle_b41 this p1 S d
    else
      (isK S 9 (some this)).bind fun z4 =>
      if ¬ (d.1 z4 58) = 0 then
        Mo_endsCycle_b41 this p1 S d
      else
        (Mo_isAsleep this v2 p1 S d).bind fun r5 =>
        if ¬ r5 = 0 then
          Mo_endsCycle_h9 this p1 S f (v2 + (-1)) d
        else
          bind2 (Mo_looks this v2 p1 S d) fun _ d6 =>
          Mo_endsCycle_h9 this p1 S f (v2 + (-1)) d6
def Mo_endsCycle (this : Nat) (p1 : Int32) (S : Sp) (d : Dt) : Option (Unit × Dt) :=
  (isK S 9 (some this)).bind fun z1 =>
  (aix S 50 (S.2.1 z1 1) 3).bind fun q2 =>
  (some ((d.1 q2.1 q2.2) - 1)).bind fun x3 =>
  Mo_endsCycle_h9 this p1 S FU x3 d
set_option maxHeartbeats 4000000 in
theorem Mo_endsCycle_fn (this : Nat) (p1 : Int32) (S : Sp) (d : Dt) : Fn yX10_endsCycle (ws_ yX10_endsCycle cX10_endsCycle 3 none) 7 162 [va_rf (some this), .int p1] S d rvU Λw (Mo_endsCycle this p1 S d) := by
  refine Fn.ofJ (own := RX10) (lv := [(0, va_rf (some this)), (1, .int p1)]) (by decide +kernel) rfl (by simp [cat_i, cat_l, cat_f, cat_d, rf_cat]) (by simp [lv_args, cat_i, cat_l, cat_f, cat_d, rf_cat]) ?_
  intro X F G hRm hR hI
  have hMo_endsCycle_h85 : ∀ (f : Nat) (v2 : Int32) (d : Dt), J X F Λw S d 85 [(0, va_rf (some this)), (1, .int p1), (2, .int v2)] [] (Mo_endsCycle_h85 this p1 S f v2 d) := by
    intro  f
    induction f with
    | zero => intro v2 d; exact J_no
    | succ f ih =>
      intro v2 d
      unfold Mo_endsCycle_h85
      refine JR_iload_n (pc := 85) (k := 2) (i := 2) G rfl rfl dX10_endsCycle_85 ?_
      refine JR_aload_n (pc := 86) (k := 0) (i := 0) (o := some this) G rfl rfl dX10_endsCycle_86 ?_
      refine J_bd (fun z18 hz18 => ?_)
      refine JR_gR (pc := 87) (k := 1) G cl_X10 in_X10 (by decide) (by decide) rfl (Or.inl rfl) q1589 hz18 dX10_endsCycle_87 ?_
      refine JR_iconst (pc := 90) G ci_4 dX10_endsCycle_90 ?_
      refine J_bd (fun q19 hq19 => ?_)
      refine JR_iaload (pc := 91) G hq19 dX10_endsCycle_91 ?_
      refine JR_icmp_ge (pc := 92) (tgt := 169) G dX10_endsCycle_92 (by decide) (fun c30 => ?_) (fun c30 => ?_)
      · exact JR_vret (pc := 169) G hR dX10_endsCycle_169 rfl rfl
      · refine JR_aload_n (pc := 95) (k := 0) (i := 0) (o := some this) G rfl rfl dX10_endsCycle_95 ?_
        refine JR_gI (pc := 96) (k := 58) G cl_X10 in_X10 (by decide) (by decide) rfl (Or.inl rfl) q1646 hz18 dX10_endsCycle_96 ?_
        refine JR_if_ne (pc := 99) (tgt := 169) G dX10_endsCycle_99 (by decide) (fun c29 => ?_) (fun c29 => ?_)
        · exact JR_vret (pc := 169) G hR dX10_endsCycle_169 rfl rfl
        · refine JR_aload_n (pc := 102) (k := 0) (i := 0) (o := some this) G rfl rfl dX10_endsCycle_102 ?_
          refine JR_gR (pc := 103) (k := 40) G cl_X10 in_X10 (by decide) (by decide) rfl (Or.inl rfl) q1628 hz18 dX10_endsCycle_103 ?_
          refine JR_iload_n (pc := 106) (k := 2) (i := 2) G rfl rfl dX10_endsCycle_106 ?_
          refine J_bd (fun q20 hq20 => ?_)
          refine JR_zaload (pc := 107) G hq20 dX10_endsCycle_107 ?_
          refine JR_if_ne (pc := 108) (tgt := 163) G dX10_endsCycle_108 (by decide) (fun c28 => ?_) (fun c28 => ?_)
          · refine JR_iinc (pc := 163) (i := 2) (v := v2 + 1) (lv' := [(2, .int (v2 + 1)), (0, va_rf (some this)), (1, .int p1)]) G rfl (congrArg (fun z => v2 + z) (by decide)) (by decide) rfl dX10_endsCycle_163 ?_
            refine JR_goto (pc := 166) (tgt := 85) G dX10_endsCycle_166 (by decide) ?_
            refine J_sub [1, 2, 0] rfl ?_
            exact ih (v2 + 1) d
          · refine JR_aload_n (pc := 111) (k := 0) (i := 0) (o := some this) G rfl rfl dX10_endsCycle_111 ?_
            refine JR_gR (pc := 112) (k := 37) G cl_X10 in_X10 (by decide) (by decide) rfl (Or.inl rfl) q1625 hz18 dX10_endsCycle_112 ?_
            refine JR_iload_n (pc := 115) (k := 2) (i := 2) G rfl rfl dX10_endsCycle_115 ?_
            refine J_bd (fun q21 hq21 => ?_)
            refine JR_iaload (pc := 116) G hq21 dX10_endsCycle_116 ?_
            refine JR_if_ne (pc := 117) (tgt := 123) G dX10_endsCycle_117 (by decide) (fun c27 => ?_) (fun c27 => ?_)
            · refine JR_aload_n (pc := 123) (k := 0) (i := 0) (o := some this) G rfl rfl dX10_endsCycle_123 ?_
              refine JR_gR (pc := 124) (k := 39) G cl_X10 in_X10 (by decide) (by decide) rfl (Or.inl rfl) q1627 hz18 dX10_endsCycle_124 ?_
              refine JR_iload_n (pc := 127) (k := 2) (i := 2) G rfl rfl dX10_endsCycle_127 ?_
              refine JR_dup2 (pc := 128) G rfl (rf_cat _) dX10_endsCycle_128 ?_
              refine J_bd (fun q22 hq22 => ?_)
              refine JR_iaload (pc := 129) G hq22 dX10_endsCycle_129 ?_
              refine JR_iconst (pc := 130) G ci_1 dX10_endsCycle_130 ?_
              refine JR_iadd (pc := 131) G dX10_endsCycle_131 ?_
              refine JW_iastore (pc := 132) G hq22 (fun _ => rfl) dX10_endsCycle_132 ?_
              refine J_nmD (fun d23 hd23 => ?_)
              refine JR_aload_n (pc := 133) (k := 0) (i := 0) (o := some this) G rfl rfl dX10_endsCycle_133 ?_
              refine JR_gR (pc := 134) (k := 39) G cl_X10 in_X10 (by decide) (by decide) rfl (Or.inl rfl) q1627 hz18 dX10_endsCycle_134 ?_
              refine JR_iload_n (pc := 137) (k := 2) (i := 2) G rfl rfl dX10_endsCycle_137 ?_
              refine JR_iaload (pc := 138) G hq22 dX10_endsCycle_138 ?_
              refine JR_iconst (pc := 139) G ci_3 dX10_endsCycle_139 ?_
              refine JR_icmp_ge (pc := 140) (tgt := 146) G dX10_endsCycle_140 (by decide) (fun c26 => ?_) (fun c26 => ?_)
              · refine JR_aload_n (pc := 146) (k := 0) (i := 0) (o := some this) G rfl rfl dX10_endsCycle_146 ?_
                refine JR_gR (pc := 147) (k := 39) G cl_X10 in_X10 (by decide) (by decide) rfl (Or.inl rfl) q1627 hz18 dX10_endsCycle_147 ?_
                refine JR_iload_n (pc := 150) (k := 2) (i := 2) G rfl rfl dX10_endsCycle_150 ?_
                refine JR_iconst (pc := 151) G ci_0 dX10_endsCycle_151 ?_
                refine JW_iastore (pc := 152) G hq22 (fun _ => rfl) dX10_endsCycle_152 ?_
                refine J_nmD (fun d24 hd24 => ?_)
                refine JR_aload_n (pc := 153) (k := 0) (i := 0) (o := some this) G rfl rfl dX10_endsCycle_153 ?_
                refine JR_gR (pc := 154) (k := 37) G cl_X10 in_X10 (by decide) (by decide) rfl (Or.inl rfl) q1625 hz18 dX10_endsCycle_154 ?_
                refine JR_iload_n (pc := 157) (k := 2) (i := 2) G rfl rfl dX10_endsCycle_157 ?_
                refine JR_dup2 (pc := 158) G rfl (rf_cat _) dX10_endsCycle_158 ?_
                refine JR_iaload (pc := 159) G hq21 dX10_endsCycle_159 ?_
                refine JR_iconst (pc := 160) G ci_1 dX10_endsCycle_160 ?_
                refine JR_isub (pc := 161) G dX10_endsCycle_161 ?_
                refine JW_iastore (pc := 162) G hq21 (fun _ => rfl) dX10_endsCycle_162 ?_
                refine J_nmD (fun d25 hd25 => ?_)
                refine JR_iinc (pc := 163) (i := 2) (v := v2 + 1) (lv' := [(2, .int (v2 + 1)), (0, va_rf (some this)), (1, .int p1)]) G rfl (congrArg (fun z => v2 + z) (by decide)) (by decide) rfl dX10_endsCycle_163 ?_
                refine JR_goto (pc := 166) (tgt := 85) G dX10_endsCycle_166 (by decide) ?_
                refine J_sub [1, 2, 0] rfl ?_
                exact ih (v2 + 1) d25
              · refine JR_goto (pc := 143) (tgt := 163) G dX10_endsCycle_143 (by decide) ?_
                refine JR_iinc (pc := 163) (i := 2) (v := v2 + 1) (lv' := [(2, .int (v2 + 1)), (0, va_rf (some this)), (1, .int p1)]) G rfl (congrArg (fun z => v2 + z) (by decide)) (by decide) rfl dX10_endsCycle_163 ?_
                refine JR_goto (pc := 166) (tgt := 85) G dX10_endsCycle_166 (by decide) ?_
                refine J_sub [1, 2, 0] rfl ?_
                exact ih (v2 + 1) d23
            · refine JR_goto (pc := 120) (tgt := 163) G dX10_endsCycle_120 (by decide) ?_
              refine JR_iinc (pc := 163) (i := 2) (v := v2 + 1) (lv' := [(2, .int (v2 + 1)), (0, va_rf (some this)), (1, .int p1)]) G rfl (congrArg (fun z => v2 + z) (by decide)) (by decide) rfl dX10_endsCycle_163 ?_
              refine JR_goto (pc := 166) (tgt := 85) G dX10_endsCycle_166 (by decide) ?_
              refine J_sub [1, 2, 0] rfl ?_
              exact ih (v2 + 1) d
  have hMo_endsCycle_b83 : ∀ (d : Dt), J X F Λw S d 83 [(0, va_rf (some this)), (1, .int p1)] [] (Mo_endsCycle_b83 this p1 S d) := by
    intro d
    unfold Mo_endsCycle_b83
    refine JR_iconst (pc := 83) G ci_0 dX10_endsCycle_83 ?_
    refine JR_istore_n (pc := 84) (k := 2) (i := 2) (lv' := [(2, .int 0), (0, va_rf (some this)), (1, .int p1)]) G rfl (by decide) rfl dX10_endsCycle_84 ?_
    refine J_sub [1, 2, 0] rfl ?_
    exact hMo_endsCycle_h85 FU 0 d
  have hMo_endsCycle_b41 : ∀ (d : Dt), J X F Λw S d 41 [(0, va_rf (some this)), (1, .int p1)] [] (Mo_endsCycle_b41 this p1 S d) := by
    intro d
    unfold Mo_endsCycle_b41
    refine JR_aload_n (pc := 41) (k := 0) (i := 0) (o := some this) G rfl rfl dX10_endsCycle_41 ?_
    refine J_bd (fun z10 hz10 => ?_)
    refine JR_gI (pc := 42) (k := 58) G cl_X10 in_X10 (by decide) (by decide) rfl (Or.inl rfl) q1646 hz10 dX10_endsCycle_42 ?_
    refine JR_if_ne (pc := 45) (tgt := 83) G dX10_endsCycle_45 (by decide) (fun c17 => ?_) (fun c17 => ?_)
    · exact hMo_endsCycle_b83 d
    · refine JR_aload_n (pc := 48) (k := 0) (i := 0) (o := some this) G rfl rfl dX10_endsCycle_48 ?_
      refine JR_gR (pc := 49) (k := 1) G cl_X10 in_X10 (by decide) (by decide) rfl (Or.inl rfl) q1589 hz10 dX10_endsCycle_49 ?_
      refine JR_iconst (pc := 52) G ci_3 dX10_endsCycle_52 ?_
      refine J_bd (fun q11 hq11 => ?_)
      refine JR_iaload (pc := 53) G hq11 dX10_endsCycle_53 ?_
      refine JR_if_le (pc := 54) (tgt := 83) G dX10_endsCycle_54 (by decide) (fun c16 => ?_) (fun c16 => ?_)
      · exact hMo_endsCycle_b83 d
      · refine JR_aload_n (pc := 57) (k := 0) (i := 0) (o := some this) G rfl rfl dX10_endsCycle_57 ?_
        refine JR_gR (pc := 58) (k := 50) G cl_X10 in_X10 (by decide) (by decide) rfl (Or.inl rfl) q1638 hz10 dX10_endsCycle_58 ?_
        refine JR_iconst (pc := 61) G ci_0 dX10_endsCycle_61 ?_
        refine J_bd (fun q12 hq12 => ?_)
        refine JR_zaload (pc := 62) G hq12 dX10_endsCycle_62 ?_
        refine JR_if_ne (pc := 63) (tgt := 83) G dX10_endsCycle_63 (by decide) (fun c15 => ?_) (fun c15 => ?_)
        · exact hMo_endsCycle_b83 d
        · refine JR_aload_n (pc := 66) (k := 0) (i := 0) (o := some this) G rfl rfl dX10_endsCycle_66 ?_
          refine JR_iload_n (pc := 67) (k := 1) (i := 1) G rfl rfl dX10_endsCycle_67 ?_
          refine JR_bipush (pc := 68) (v := 7) G (by decide) dX10_endsCycle_68 ?_
          refine JR_iconst (pc := 70) G ci_0 dX10_endsCycle_70 ?_
          refine JR_iconst (pc := 71) G ci_3 dX10_endsCycle_71 ?_
          refine JQV_U (pc := 72) (as := [.int p1, .int 7, .int 0, .int 3]) (st' := []) (o := some this) G (Mo_records_fn this p1 7 0 3 S d) (JC_V (n := 4) G hRm cl_X10 q2135 q2137 qs114 q152 q2138 ⟨rfl, dd_X10_records⟩ ⟨by decide, by decide⟩ dX10_endsCycle_72 hz10 rfl (Nat.le_of_ble_eq_true rfl)) rfl (fun _ _ => rfl) (fun _ d13 hd13 => ?_)
          refine JR_aload_n (pc := 75) (k := 0) (i := 0) (o := some this) G rfl rfl dX10_endsCycle_75 ?_
          refine JR_iconst (pc := 76) G ci_3 dX10_endsCycle_76 ?_
          refine JR_iconst (pc := 77) G ci_m1 dX10_endsCycle_77 ?_
          refine JR_iconst (pc := 78) G ci_m1 dX10_endsCycle_78 ?_
          refine JR_iload_n (pc := 79) (k := 1) (i := 1) G rfl rfl dX10_endsCycle_79 ?_
          refine JQV_U (pc := 80) (as := [.int 3, .int ((-1)), .int ((-1)), .int p1]) (st' := []) (o := some this) G (Mo_climbs_fn this 3 ((-1)) ((-1)) p1 S d13) (JC_V (n := 4) G hRm cl_X10 q2139 q2141 qs115 q152 q2142 ⟨rfl, dd_X10_climbs⟩ ⟨by decide, by decide⟩ dX10_endsCycle_80 hz10 rfl (Nat.le_of_ble_eq_true rfl)) rfl (fun _ _ => rfl) (fun _ d14 hd14 => ?_)
          exact hMo_endsCycle_b83 d14
  have hMo_endsCycle_h9 : ∀ (f : Nat) (v2 : Int32) (d : Dt), J X F Λw S d 9 [(0, va_rf (some this)), (1, .int p1), (2, .int v2)] [] (Mo_endsCycle_h9 this p1 S f v2 d) := by
    intro  f
    induction f with
    | zero => intro v2 d; exact J_no
    | succ f ih =>
      intro v2 d
      unfold Mo_endsCycle_h9
      refine JR_iload_n (pc := 9) (k := 2) (i := 2) G rfl rfl dX10_endsCycle_9 ?_
      refine JR_if_lt (pc := 10) (tgt := 41) G dX10_endsCycle_10 (by decide) (fun c9 => ?_) (fun c9 => ?_)
      · refine J_sub [0, 1] rfl ?_
        exact hMo_endsCycle_b41 d
      · refine JR_aload_n (pc := 13) (k := 0) (i := 0) (o := some this) G rfl rfl dX10_endsCycle_13 ?_
        refine J_bd (fun z4 hz4 => ?_)
        refine JR_gI (pc := 14) (k := 58) G cl_X10 in_X10 (by decide) (by decide) rfl (Or.inl rfl) q1646 hz4 dX10_endsCycle_14 ?_
        refine JR_if_ne (pc := 17) (tgt := 41) G dX10_endsCycle_17 (by decide) (fun c8 => ?_) (fun c8 => ?_)
        · refine J_sub [0, 1] rfl ?_
          exact hMo_endsCycle_b41 d
        · refine JR_aload_n (pc := 20) (k := 0) (i := 0) (o := some this) G rfl rfl dX10_endsCycle_20 ?_
          refine JR_iload_n (pc := 21) (k := 2) (i := 2) G rfl rfl dX10_endsCycle_21 ?_
          refine JR_iload_n (pc := 22) (k := 1) (i := 1) G rfl rfl dX10_endsCycle_22 ?_
          refine JPV_I (pc := 23) (as := [.int v2, .int p1]) (st' := []) (o := some this) G (Mo_isAsleep_fn this v2 p1 S d) (JC_V (n := 2) G hRm cl_X10 q2172 q2174 qs123 q152 q2175 ⟨rfl, dd_X10_isAsleep⟩ ⟨by decide, by decide⟩ dX10_endsCycle_23 hz4 rfl (Nat.le_of_ble_eq_true rfl)) rfl (fun r5 hr5 => ?_)
          refine JR_if_ne (pc := 26) (tgt := 35) G dX10_endsCycle_26 (by decide) (fun c7 => ?_) (fun c7 => ?_)
          · refine JR_iinc (pc := 35) (i := 2) (v := v2 + (-1)) (lv' := [(2, .int (v2 + (-1))), (0, va_rf (some this)), (1, .int p1)]) G rfl (congrArg (fun z => v2 + z) (by decide)) (by decide) rfl dX10_endsCycle_35 ?_
            refine JR_goto (pc := 38) (tgt := 9) G dX10_endsCycle_38 (by decide) ?_
            refine J_sub [1, 2, 0] rfl ?_
            exact ih (v2 + (-1)) d
          · refine JR_aload_n (pc := 29) (k := 0) (i := 0) (o := some this) G rfl rfl dX10_endsCycle_29 ?_
            refine JR_iload_n (pc := 30) (k := 2) (i := 2) G rfl rfl dX10_endsCycle_30 ?_
            refine JR_iload_n (pc := 31) (k := 1) (i := 1) G rfl rfl dX10_endsCycle_31 ?_
            refine JQV_U (pc := 32) (as := [.int v2, .int p1]) (st' := []) (o := some this) G (Mo_looks_fn this v2 p1 S d) (JC_V (n := 2) G hRm cl_X10 q2176 q2178 qs124 q152 q2179 ⟨rfl, dd_X10_looks⟩ ⟨by decide, by decide⟩ dX10_endsCycle_32 hz4 rfl (Nat.le_of_ble_eq_true rfl)) rfl (fun _ _ => rfl) (fun _ d6 hd6 => ?_)
            refine JR_iinc (pc := 35) (i := 2) (v := v2 + (-1)) (lv' := [(2, .int (v2 + (-1))), (0, va_rf (some this)), (1, .int p1)]) G rfl (congrArg (fun z => v2 + z) (by decide)) (by decide) rfl dX10_endsCycle_35 ?_
            refine JR_goto (pc := 38) (tgt := 9) G dX10_endsCycle_38 (by decide) ?_
            refine J_sub [1, 2, 0] rfl ?_
            exact ih (v2 + (-1)) d6
  unfold Mo_endsCycle
  refine JR_aload_n (pc := 0) (k := 0) (i := 0) (o := some this) G rfl rfl dX10_endsCycle_0 ?_
  refine J_bd (fun z1 hz1 => ?_)
  refine JR_gR (pc := 1) (k := 1) G cl_X10 in_X10 (by decide) (by decide) rfl (Or.inl rfl) q1589 hz1 dX10_endsCycle_1 ?_
  refine JR_iconst (pc := 4) G ci_3 dX10_endsCycle_4 ?_
  refine J_bd (fun q2 hq2 => ?_)
  refine JR_iaload (pc := 5) G hq2 dX10_endsCycle_5 ?_
  refine JR_iconst (pc := 6) G ci_1 dX10_endsCycle_6 ?_
  refine JR_isub (pc := 7) G dX10_endsCycle_7 ?_
  refine J_nm (fun x3 hx3 => ?_)
  refine JR_istore_n (pc := 8) (k := 2) (i := 2) (lv' := [(2, .int x3), (0, va_rf (some this)), (1, .int p1)]) G rfl (by decide) rfl dX10_endsCycle_8 ?_
  refine J_sub [1, 2, 0] rfl ?_
  exact hMo_endsCycle_h9 FU x3 d

def Mo_newCycle_h29 (this : Nat) (S : Sp) : Nat → Int32 → Dt → Option (Unit × Dt)
  | 0, _, _ => none
  | f + 1, v1, d =>
    if 3 ≤ v1 then
      some ((), d)
    else
      (isK S 9 (some this)).bind fun z7 =>
      (aix S 51 (S.2.1 z7 50) v1).bind fun q8 =>
      (some (dI d q8.1 q8.2 (vp_nar .boolean 0))).bind fun d9 =>
      Mo_newCycle_h29 this S f (v1 + 1) d9
def Mo_newCycle_h2 (this : Nat) (S : Sp) : Nat → Int32 → Dt → Option (Unit × Dt)
  | 0, _, _ => none
  | f + 1, v1, d =>
    if 5 ≤ v1 then
      Mo_newCycle_h29 this S FU 0 d
    else
      (isK S 9 (some this)).bind fun z1 =>
      (aix S 50 (S.2.1 z1 36) v1).bind fun q2 =>
      (some (dI d q2.1 q2.2 0)).bind fun d3 =>
      (aix S 51 (S.2.1 z1 40) v1).bind fun q4 =>
      (some (dI d3 q4.1 q4.2 (vp_nar .boolean 0))).bind fun d5 =>
      Mo_newCycle_h2 this S f (v1 + 1) d5
def Mo_newCycle (this : Nat) (S : Sp) (d : Dt) : Option (Unit × Dt) :=
  Mo_newCycle_h2 this S FU 0 d
set_option maxHeartbeats 4000000 in
theorem Mo_newCycle_fn (this : Nat) (S : Sp) (d : Dt) : Fn yX10_newCycle (ws_ yX10_newCycle cX10_newCycle 2 none) 0 0 [va_rf (some this)] S d rvU Λw (Mo_newCycle this S d) := by
  refine Fn.ofJ (own := RX10) (lv := [(0, va_rf (some this))]) (by decide +kernel) rfl (by simp [cat_i, cat_l, cat_f, cat_d, rf_cat]) (by simp [lv_args, cat_i, cat_l, cat_f, cat_d, rf_cat]) ?_
  intro X F G hRm hR hI
  have hMo_newCycle_h29 : ∀ (f : Nat) (v1 : Int32) (d : Dt), J X F Λw S d 29 [(0, va_rf (some this)), (1, .int v1)] [] (Mo_newCycle_h29 this S f v1 d) := by
    intro  f
    induction f with
    | zero => intro v1 d; exact J_no
    | succ f ih =>
      intro v1 d
      unfold Mo_newCycle_h29
      refine JR_iload_n (pc := 29) (k := 1) (i := 1) G rfl rfl dX10_newCycle_29 ?_
      refine JR_iconst (pc := 30) G ci_3 dX10_newCycle_30 ?_
      refine JR_icmp_ge (pc := 31) (tgt := 47) G dX10_newCycle_31 (by decide) (fun c10 => ?_) (fun c10 => ?_)
      · exact JR_vret (pc := 47) G hR dX10_newCycle_47 rfl rfl
      · refine JR_aload_n (pc := 34) (k := 0) (i := 0) (o := some this) G rfl rfl dX10_newCycle_34 ?_
        refine J_bd (fun z7 hz7 => ?_)
        refine JR_gR (pc := 35) (k := 50) G cl_X10 in_X10 (by decide) (by decide) rfl (Or.inl rfl) q1638 hz7 dX10_newCycle_35 ?_
        refine JR_iload_n (pc := 38) (k := 1) (i := 1) G rfl rfl dX10_newCycle_38 ?_
        refine JR_iconst (pc := 39) G ci_0 dX10_newCycle_39 ?_
        refine J_bd (fun q8 hq8 => ?_)
        refine JW_zastore (pc := 40) G hq8 (fun _ => rfl) dX10_newCycle_40 ?_
        refine J_nmD (fun d9 hd9 => ?_)
        refine JR_iinc (pc := 41) (i := 1) (v := v1 + 1) (lv' := [(1, .int (v1 + 1)), (0, va_rf (some this))]) G rfl (congrArg (fun z => v1 + z) (by decide)) (by decide) rfl dX10_newCycle_41 ?_
        refine JR_goto (pc := 44) (tgt := 29) G dX10_newCycle_44 (by decide) ?_
        refine J_sub [1, 0] rfl ?_
        exact ih (v1 + 1) d9
  have hMo_newCycle_h2 : ∀ (f : Nat) (v1 : Int32) (d : Dt), J X F Λw S d 2 [(0, va_rf (some this)), (1, .int v1)] [] (Mo_newCycle_h2 this S f v1 d) := by
    intro  f
    induction f with
    | zero => intro v1 d; exact J_no
    | succ f ih =>
      intro v1 d
      unfold Mo_newCycle_h2
      refine JR_iload_n (pc := 2) (k := 1) (i := 1) G rfl rfl dX10_newCycle_2 ?_
      refine JR_iconst (pc := 3) G ci_5 dX10_newCycle_3 ?_
      refine JR_icmp_ge (pc := 4) (tgt := 27) G dX10_newCycle_4 (by decide) (fun c6 => ?_) (fun c6 => ?_)
      · refine JR_iconst (pc := 27) G ci_0 dX10_newCycle_27 ?_
        refine JR_istore_n (pc := 28) (k := 1) (i := 1) (lv' := [(1, .int 0), (0, va_rf (some this))]) G rfl (by decide) rfl dX10_newCycle_28 ?_
        refine J_sub [1, 0] rfl ?_
        exact hMo_newCycle_h29 FU 0 d
      · refine JR_aload_n (pc := 7) (k := 0) (i := 0) (o := some this) G rfl rfl dX10_newCycle_7 ?_
        refine J_bd (fun z1 hz1 => ?_)
        refine JR_gR (pc := 8) (k := 36) G cl_X10 in_X10 (by decide) (by decide) rfl (Or.inl rfl) q1624 hz1 dX10_newCycle_8 ?_
        refine JR_iload_n (pc := 11) (k := 1) (i := 1) G rfl rfl dX10_newCycle_11 ?_
        refine JR_iconst (pc := 12) G ci_0 dX10_newCycle_12 ?_
        refine J_bd (fun q2 hq2 => ?_)
        refine JW_iastore (pc := 13) G hq2 (fun _ => rfl) dX10_newCycle_13 ?_
        refine J_nmD (fun d3 hd3 => ?_)
        refine JR_aload_n (pc := 14) (k := 0) (i := 0) (o := some this) G rfl rfl dX10_newCycle_14 ?_
        refine JR_gR (pc := 15) (k := 40) G cl_X10 in_X10 (by decide) (by decide) rfl (Or.inl rfl) q1628 hz1 dX10_newCycle_15 ?_
        refine JR_iload_n (pc := 18) (k := 1) (i := 1) G rfl rfl dX10_newCycle_18 ?_
        refine JR_iconst (pc := 19) G ci_0 dX10_newCycle_19 ?_
        refine J_bd (fun q4 hq4 => ?_)
        refine JW_zastore (pc := 20) G hq4 (fun _ => rfl) dX10_newCycle_20 ?_
        refine J_nmD (fun d5 hd5 => ?_)
        refine JR_iinc (pc := 21) (i := 1) (v := v1 + 1) (lv' := [(1, .int (v1 + 1)), (0, va_rf (some this))]) G rfl (congrArg (fun z => v1 + z) (by decide)) (by decide) rfl dX10_newCycle_21 ?_
        refine JR_goto (pc := 24) (tgt := 2) G dX10_newCycle_24 (by decide) ?_
        refine J_sub [1, 0] rfl ?_
        exact ih (v1 + 1) d5
  unfold Mo_newCycle
  refine JR_iconst (pc := 0) G ci_0 dX10_newCycle_0 ?_
  refine JR_istore_n (pc := 1) (k := 1) (i := 1) (lv' := [(1, .int 0), (0, va_rf (some this))]) G rfl (by decide) rfl dX10_newCycle_1 ?_
  refine J_sub [1, 0] rfl ?_
  exact hMo_newCycle_h2 FU 0 d

def Mo_tick_b64 (this : Nat) (p1 : Int32) (S : Sp) (d : Dt) : Option (Unit × Dt) :=
  (isK S 9 (some this)).bind fun z16 =>
  if ¬ (d.1 z16 59) = ((-1)) then
    some ((), d)
  else
    bind2 (Mo_newCycle this S d) fun _ d17 =>
    some ((), d17)
def Mo_tick_b33 (this : Nat) (p1 : Int32) (S : Sp) (d : Dt) : Option (Unit × Dt) :=
  (isK S 9 (some this)).bind fun z9 =>
  bind2 (Mo_asksLate this p1 S d) fun _ d10 =>
  (aix S 50 (S.2.1 z9 1) 1).bind fun q11 =>
  (gz (d10.1 q11.1 q11.2)).bind fun u12 =>
  if (irm (p1 + 1) (d10.1 q11.1 q11.2)) = 0 then
    if ¬ (d10.1 z9 58) = 0 then
      Mo_tick_b64 this p1 S d10
    else
      bind2 (Mo_endsCycle this p1 S d10) fun _ d13 =>
      Mo_tick_b64 this p1 S d13
  else
    some ((), d10)
def Mo_tick (this : Nat) (p1 : Int32) (S : Sp) (d : Dt) : Option (Unit × Dt) :=
  (isK S 9 (some this)).bind fun z1 =>
  (some (dI d z1 58 0)).bind fun d2 =>
  bind2 (Mo_begins this p1 S d2) fun _ d3 =>
  (Mo_whoHas this S d3).bind fun r4 =>
  (aix S 50 (S.2.1 z1 51) p1).bind fun q5 =>
  (some (dI d3 q5.1 q5.2 r4)).bind fun d6 =>
  if r4 = ((-1)) then
    Mo_tick_b33 this p1 S d6
  else
    bind2 (Mo_works this r4 p1 S d6) fun _ d7 =>
    Mo_tick_b33 this p1 S d7
set_option maxHeartbeats 4000000 in
theorem Mo_tick_fn (this : Nat) (p1 : Int32) (S : Sp) (d : Dt) : Fn yX10_tick (ws_ yX10_tick cX10_tick 3 none) 8 187 [va_rf (some this), .int p1] S d rvU Λw (Mo_tick this p1 S d) := by
  refine Fn.ofJ (own := RX10) (lv := [(0, va_rf (some this)), (1, .int p1)]) (by decide +kernel) rfl (by simp [cat_i, cat_l, cat_f, cat_d, rf_cat]) (by simp [lv_args, cat_i, cat_l, cat_f, cat_d, rf_cat]) ?_
  intro X F G hRm hR hI
  have hMo_tick_b64 : ∀ (d : Dt), J X F Λw S d 64 [(0, va_rf (some this)), (1, .int p1)] [] (Mo_tick_b64 this p1 S d) := by
    intro d
    unfold Mo_tick_b64
    refine JR_aload_n (pc := 64) (k := 0) (i := 0) (o := some this) G rfl rfl dX10_tick_64 ?_
    refine J_bd (fun z16 hz16 => ?_)
    refine JR_gI (pc := 65) (k := 59) G cl_X10 in_X10 (by decide) (by decide) rfl (Or.inl rfl) q1647 hz16 dX10_tick_65 ?_
    refine JR_iconst (pc := 68) G ci_m1 dX10_tick_68 ?_
    refine JR_icmp_ne (pc := 69) (tgt := 76) G dX10_tick_69 (by decide) (fun c18 => ?_) (fun c18 => ?_)
    · exact JR_vret (pc := 76) G hR dX10_tick_76 rfl rfl
    · refine JR_aload_n (pc := 72) (k := 0) (i := 0) (o := some this) G rfl rfl dX10_tick_72 ?_
      refine JQV_U (pc := 73) (as := []) (st' := []) (o := some this) G (Mo_newCycle_fn this S d) (JC_V (n := 0) G hRm cl_X10 q2180 q2182 qs125 q152 q2183 ⟨rfl, dd_X10_newCycle⟩ ⟨by decide, by decide⟩ dX10_tick_73 hz16 rfl (Nat.le_of_ble_eq_true rfl)) rfl (fun _ _ => rfl) (fun _ d17 hd17 => ?_)
      exact JR_vret (pc := 76) G hR dX10_tick_76 rfl rfl
  have hMo_tick_b33 : ∀ (d : Dt), J X F Λw S d 33 [(0, va_rf (some this)), (1, .int p1)] [] (Mo_tick_b33 this p1 S d) := by
    intro d
    unfold Mo_tick_b33
    refine JR_aload_n (pc := 33) (k := 0) (i := 0) (o := some this) G rfl rfl dX10_tick_33 ?_
    refine JR_iload_n (pc := 34) (k := 1) (i := 1) G rfl rfl dX10_tick_34 ?_
    refine J_bd (fun z9 hz9 => ?_)
    refine JQV_U (pc := 35) (as := [.int p1]) (st' := []) (o := some this) G (Mo_asksLate_fn this p1 S d) (JC_V (n := 1) G hRm cl_X10 q2164 q2166 qs121 q152 q2167 ⟨rfl, dd_X10_asksLate⟩ ⟨by decide, by decide⟩ dX10_tick_35 hz9 rfl (Nat.le_of_ble_eq_true rfl)) rfl (fun _ _ => rfl) (fun _ d10 hd10 => ?_)
    refine JR_iload_n (pc := 38) (k := 1) (i := 1) G rfl rfl dX10_tick_38 ?_
    refine JR_iconst (pc := 39) G ci_1 dX10_tick_39 ?_
    refine JR_iadd (pc := 40) G dX10_tick_40 ?_
    refine JR_aload_n (pc := 41) (k := 0) (i := 0) (o := some this) G rfl rfl dX10_tick_41 ?_
    refine JR_gR (pc := 42) (k := 1) G cl_X10 in_X10 (by decide) (by decide) rfl (Or.inl rfl) q1589 hz9 dX10_tick_42 ?_
    refine JR_iconst (pc := 45) G ci_1 dX10_tick_45 ?_
    refine J_bd (fun q11 hq11 => ?_)
    refine JR_iaload (pc := 46) G hq11 dX10_tick_46 ?_
    refine J_bd (fun u12 hu12 => ?_)
    refine JR_irem (pc := 47) G (gz_at hu12) dX10_tick_47 ?_
    refine JR_if_eq (pc := 48) (tgt := 52) G dX10_tick_48 (by decide) (fun c15 => ?_) (fun c15 => ?_)
    · refine JR_aload_n (pc := 52) (k := 0) (i := 0) (o := some this) G rfl rfl dX10_tick_52 ?_
      refine JR_gI (pc := 53) (k := 58) G cl_X10 in_X10 (by decide) (by decide) rfl (Or.inl rfl) q1646 hz9 dX10_tick_53 ?_
      refine JR_if_ne (pc := 56) (tgt := 64) G dX10_tick_56 (by decide) (fun c14 => ?_) (fun c14 => ?_)
      · exact hMo_tick_b64 d10
      · refine JR_aload_n (pc := 59) (k := 0) (i := 0) (o := some this) G rfl rfl dX10_tick_59 ?_
        refine JR_iload_n (pc := 60) (k := 1) (i := 1) G rfl rfl dX10_tick_60 ?_
        refine JQV_U (pc := 61) (as := [.int p1]) (st' := []) (o := some this) G (Mo_endsCycle_fn this p1 S d10) (JC_V (n := 1) G hRm cl_X10 q2168 q2170 qs122 q152 q2171 ⟨rfl, dd_X10_endsCycle⟩ ⟨by decide, by decide⟩ dX10_tick_61 hz9 rfl (Nat.le_of_ble_eq_true rfl)) rfl (fun _ _ => rfl) (fun _ d13 hd13 => ?_)
        exact hMo_tick_b64 d13
    · exact JR_vret (pc := 51) G hR dX10_tick_51 rfl rfl
  unfold Mo_tick
  refine JR_aload_n (pc := 0) (k := 0) (i := 0) (o := some this) G rfl rfl dX10_tick_0 ?_
  refine JR_iconst (pc := 1) G ci_0 dX10_tick_1 ?_
  refine J_bd (fun z1 hz1 => ?_)
  refine JW_pI (pc := 2) (k := 58) G cl_X10 in_X10 tyX10_ok nmX10 (by decide) (by decide) rfl (Or.inl rfl) rfl q1646 rfl rfl hz1 (fun _ => rfl) dX10_tick_2 ?_
  refine J_nmD (fun d2 hd2 => ?_)
  refine JR_aload_n (pc := 5) (k := 0) (i := 0) (o := some this) G rfl rfl dX10_tick_5 ?_
  refine JR_iload_n (pc := 6) (k := 1) (i := 1) G rfl rfl dX10_tick_6 ?_
  refine JQV_U (pc := 7) (as := [.int p1]) (st' := []) (o := some this) G (Mo_begins_fn this p1 S d2) (JC_V (n := 1) G hRm cl_X10 q2098 q2100 qs105 q152 q2101 ⟨rfl, dd_X10_begins⟩ ⟨by decide, by decide⟩ dX10_tick_7 hz1 rfl (Nat.le_of_ble_eq_true rfl)) rfl (fun _ _ => rfl) (fun _ d3 hd3 => ?_)
  refine JR_aload_n (pc := 10) (k := 0) (i := 0) (o := some this) G rfl rfl dX10_tick_10 ?_
  refine JPV_I (pc := 11) (as := []) (st' := []) (o := some this) G (Mo_whoHas_fn this S d3) (JC_V (n := 0) G hRm cl_X10 q2102 q2104 qs106 q152 q2105 ⟨rfl, dd_X10_whoHas⟩ ⟨by decide, by decide⟩ dX10_tick_11 hz1 rfl (Nat.le_of_ble_eq_true rfl)) rfl (fun r4 hr4 => ?_)
  refine JR_istore_n (pc := 14) (k := 2) (i := 2) (lv' := [(2, .int r4), (0, va_rf (some this)), (1, .int p1)]) G rfl (by decide) rfl dX10_tick_14 ?_
  refine JR_aload_n (pc := 15) (k := 0) (i := 0) (o := some this) G rfl rfl dX10_tick_15 ?_
  refine JR_gR (pc := 16) (k := 51) G cl_X10 in_X10 (by decide) (by decide) rfl (Or.inl rfl) q1639 hz1 dX10_tick_16 ?_
  refine JR_iload_n (pc := 19) (k := 1) (i := 1) G rfl rfl dX10_tick_19 ?_
  refine JR_iload_n (pc := 20) (k := 2) (i := 2) G rfl rfl dX10_tick_20 ?_
  refine J_bd (fun q5 hq5 => ?_)
  refine JW_iastore (pc := 21) G hq5 (fun _ => rfl) dX10_tick_21 ?_
  refine J_nmD (fun d6 hd6 => ?_)
  refine JR_iload_n (pc := 22) (k := 2) (i := 2) G rfl rfl dX10_tick_22 ?_
  refine JR_iconst (pc := 23) G ci_m1 dX10_tick_23 ?_
  refine JR_icmp_eq (pc := 24) (tgt := 33) G dX10_tick_24 (by decide) (fun c8 => ?_) (fun c8 => ?_)
  · refine J_sub [1, 2] rfl ?_
    exact hMo_tick_b33 d6
  · refine JR_aload_n (pc := 27) (k := 0) (i := 0) (o := some this) G rfl rfl dX10_tick_27 ?_
    refine JR_iload_n (pc := 28) (k := 2) (i := 2) G rfl rfl dX10_tick_28 ?_
    refine JR_iload_n (pc := 29) (k := 1) (i := 1) G rfl rfl dX10_tick_29 ?_
    refine JQV_U (pc := 30) (as := [.int r4, .int p1]) (st' := []) (o := some this) G (Mo_works_fn this r4 p1 S d6) (JC_V (n := 2) G hRm cl_X10 q2114 q2116 qs109 q152 q2117 ⟨rfl, dd_X10_works⟩ ⟨by decide, by decide⟩ dX10_tick_30 hz1 rfl (Nat.le_of_ble_eq_true rfl)) rfl (fun _ _ => rfl) (fun _ d7 hd7 => ?_)
    refine J_sub [1, 2] rfl ?_
    exact hMo_tick_b33 d7

def Mo_runs_h6 (this : Nat) (p1 : Int32) (S : Sp) : Nat → Int32 → Dt → Option (Unit × Dt)
  | 0, _, _ => none
  | f + 1, v2, d =>
    if p1 ≤ v2 then
      some ((), d)
    else
      (isK S 9 (some this)).bind fun z3 =>
      if ¬ (d.1 z3 59) = ((-1)) then
        some ((), d)
      else
        bind2 (Mo_tick this v2 S d) fun _ d4 =>
        Mo_runs_h6 this p1 S f (v2 + 1) d4
def Mo_runs (this : Nat) (p1 : Int32) (S : Sp) (d : Dt) : Option (Unit × Dt) :=
  (isK S 9 (some this)).bind fun z1 =>
  bind2 (Mo_beginRun this S d) fun _ d2 =>
  Mo_runs_h6 this p1 S FU 0 d2
set_option maxHeartbeats 4000000 in
theorem Mo_runs_fn (this : Nat) (p1 : Int32) (S : Sp) (d : Dt) : Fn yX10_runs (ws_ yX10_runs cX10_runs 3 none) 9 209 [va_rf (some this), .int p1] S d rvU Λw (Mo_runs this p1 S d) := by
  refine Fn.ofJ (own := RX10) (lv := [(0, va_rf (some this)), (1, .int p1)]) (by decide +kernel) rfl (by simp [cat_i, cat_l, cat_f, cat_d, rf_cat]) (by simp [lv_args, cat_i, cat_l, cat_f, cat_d, rf_cat]) ?_
  intro X F G hRm hR hI
  have hMo_runs_h6 : ∀ (f : Nat) (v2 : Int32) (d : Dt), J X F Λw S d 6 [(0, va_rf (some this)), (1, .int p1), (2, .int v2)] [] (Mo_runs_h6 this p1 S f v2 d) := by
    intro  f
    induction f with
    | zero => intro v2 d; exact J_no
    | succ f ih =>
      intro v2 d
      unfold Mo_runs_h6
      refine JR_iload_n (pc := 6) (k := 2) (i := 2) G rfl rfl dX10_runs_6 ?_
      refine JR_iload_n (pc := 7) (k := 1) (i := 1) G rfl rfl dX10_runs_7 ?_
      refine JR_icmp_ge (pc := 8) (tgt := 30) G dX10_runs_8 (by decide) (fun c6 => ?_) (fun c6 => ?_)
      · exact JR_vret (pc := 30) G hR dX10_runs_30 rfl rfl
      · refine JR_aload_n (pc := 11) (k := 0) (i := 0) (o := some this) G rfl rfl dX10_runs_11 ?_
        refine J_bd (fun z3 hz3 => ?_)
        refine JR_gI (pc := 12) (k := 59) G cl_X10 in_X10 (by decide) (by decide) rfl (Or.inl rfl) q1647 hz3 dX10_runs_12 ?_
        refine JR_iconst (pc := 15) G ci_m1 dX10_runs_15 ?_
        refine JR_icmp_ne (pc := 16) (tgt := 30) G dX10_runs_16 (by decide) (fun c5 => ?_) (fun c5 => ?_)
        · exact JR_vret (pc := 30) G hR dX10_runs_30 rfl rfl
        · refine JR_aload_n (pc := 19) (k := 0) (i := 0) (o := some this) G rfl rfl dX10_runs_19 ?_
          refine JR_iload_n (pc := 20) (k := 2) (i := 2) G rfl rfl dX10_runs_20 ?_
          refine JQV_U (pc := 21) (as := [.int v2]) (st' := []) (o := some this) G (Mo_tick_fn this v2 S d) (JC_V (n := 1) G hRm cl_X10 q2094 q2096 qs104 q152 q2097 ⟨rfl, dd_X10_tick⟩ ⟨by decide, by decide⟩ dX10_runs_21 hz3 rfl (Nat.le_of_ble_eq_true rfl)) rfl (fun _ _ => rfl) (fun _ d4 hd4 => ?_)
          refine JR_iinc (pc := 24) (i := 2) (v := v2 + 1) (lv' := [(2, .int (v2 + 1)), (0, va_rf (some this)), (1, .int p1)]) G rfl (congrArg (fun z => v2 + z) (by decide)) (by decide) rfl dX10_runs_24 ?_
          refine JR_goto (pc := 27) (tgt := 6) G dX10_runs_27 (by decide) ?_
          refine J_sub [1, 2, 0] rfl ?_
          exact ih (v2 + 1) d4
  unfold Mo_runs
  refine JR_aload_n (pc := 0) (k := 0) (i := 0) (o := some this) G rfl rfl dX10_runs_0 ?_
  refine J_bd (fun z1 hz1 => ?_)
  refine JQV_U (pc := 1) (as := []) (st' := []) (o := some this) G (Mo_beginRun_fn this S d) (JC_V (n := 0) G hRm cl_X10 q2090 q2092 qs103 q152 q2093 ⟨rfl, dd_X10_beginRun⟩ ⟨by decide, by decide⟩ dX10_runs_1 hz1 rfl (Nat.le_of_ble_eq_true rfl)) rfl (fun _ _ => rfl) (fun _ d2 hd2 => ?_)
  refine JR_iconst (pc := 4) G ci_0 dX10_runs_4 ?_
  refine JR_istore_n (pc := 5) (k := 2) (i := 2) (lv' := [(2, .int 0), (0, va_rf (some this)), (1, .int p1)]) G rfl (by decide) rfl dX10_runs_5 ?_
  refine J_sub [1, 2, 0] rfl ?_
  exact hMo_runs_h6 FU 0 d2

def Mo_asks_b21 (this : Nat) (S : Sp) (d : Dt) : Option (Int32 × Dt) :=
  (isK S 9 (some this)).bind fun z7 =>
  (Mo_isBoard this S d).bind fun r8 =>
  (gb r8).bind fun b9 =>
  some (b9, d)
def Mo_asks (this : Nat) (S : Sp) (d : Dt) : Option (Int32 × Dt) :=
  (isK S 9 (some this)).bind fun z1 =>
  bind2 (Mo_asTold this S d) fun _ d2 =>
  (Mo_isBoard this S d2).bind fun r3 =>
  if r3 = 0 then
    Mo_asks_b21 this S d2
  else
    (aix S 50 (S.2.1 z1 1) 0).bind fun q4 =>
    bind2 (Mo_runs this (d2.1 q4.1 q4.2) S d2) fun _ d5 =>
    Mo_asks_b21 this S d5
set_option maxHeartbeats 4000000 in
theorem Mo_asks_fn (this : Nat) (S : Sp) (d : Dt) : Fn yX10_asks (ws_ yX10_asks cX10_asks 1 (some .boolean)) 10 231 [va_rf (some this)] S d rvI Λw (Mo_asks this S d) := by
  refine Fn.ofJ (own := RX10) (lv := [(0, va_rf (some this))]) (by decide +kernel) rfl (by simp [cat_i, cat_l, cat_f, cat_d, rf_cat]) (by simp [lv_args, cat_i, cat_l, cat_f, cat_d, rf_cat]) ?_
  intro X F G hRm hR hI
  have hMo_asks_b21 : ∀ (d : Dt), J X F Λw S d 21 [(0, va_rf (some this))] [] (Mo_asks_b21 this S d) := by
    intro d
    unfold Mo_asks_b21
    refine JR_aload_n (pc := 21) (k := 0) (i := 0) (o := some this) G rfl rfl dX10_asks_21 ?_
    refine J_bd (fun z7 hz7 => ?_)
    refine JPV_I (pc := 22) (as := []) (st' := []) (o := some this) G (Mo_isBoard_fn this S d) (JC_V (n := 0) G hRm cl_X10 q2012 q2014 qs93 q152 q2015 ⟨rfl, dd_X10_isBoard⟩ ⟨by decide, by decide⟩ dX10_asks_22 hz7 rfl (Nat.le_of_ble_eq_true rfl)) rfl (fun r8 hr8 => ?_)
    refine J_bd (fun b9 hb9 => ?_)
    refine J_stk (st' := [.int b9]) (by rw [(gb_at hb9).1]) ?_
    exact JR_zret (pc := 25) G hR dX10_asks_25 (by have h9 := gb_at hb9; rw [h9.1]; exact h9.2) rfl rfl
  unfold Mo_asks
  refine JR_aload_n (pc := 0) (k := 0) (i := 0) (o := some this) G rfl rfl dX10_asks_0 ?_
  refine J_bd (fun z1 hz1 => ?_)
  refine JQV_U (pc := 1) (as := []) (st' := []) (o := some this) G (Mo_asTold_fn this S d) (JC_V (n := 0) G hRm cl_X10 q2082 q2084 qs101 q152 q2085 ⟨rfl, dd_X10_asTold⟩ ⟨by decide, by decide⟩ dX10_asks_1 hz1 rfl (Nat.le_of_ble_eq_true rfl)) rfl (fun _ _ => rfl) (fun _ d2 hd2 => ?_)
  refine JR_aload_n (pc := 4) (k := 0) (i := 0) (o := some this) G rfl rfl dX10_asks_4 ?_
  refine JPV_I (pc := 5) (as := []) (st' := []) (o := some this) G (Mo_isBoard_fn this S d2) (JC_V (n := 0) G hRm cl_X10 q2012 q2014 qs93 q152 q2015 ⟨rfl, dd_X10_isBoard⟩ ⟨by decide, by decide⟩ dX10_asks_5 hz1 rfl (Nat.le_of_ble_eq_true rfl)) rfl (fun r3 hr3 => ?_)
  refine JR_if_eq (pc := 8) (tgt := 21) G dX10_asks_8 (by decide) (fun c6 => ?_) (fun c6 => ?_)
  · exact hMo_asks_b21 d2
  · refine JR_aload_n (pc := 11) (k := 0) (i := 0) (o := some this) G rfl rfl dX10_asks_11 ?_
    refine JR_aload_n (pc := 12) (k := 0) (i := 0) (o := some this) G rfl rfl dX10_asks_12 ?_
    refine JR_gR (pc := 13) (k := 1) G cl_X10 in_X10 (by decide) (by decide) rfl (Or.inl rfl) q1589 hz1 dX10_asks_13 ?_
    refine JR_iconst (pc := 16) G ci_0 dX10_asks_16 ?_
    refine J_bd (fun q4 hq4 => ?_)
    refine JR_iaload (pc := 17) G hq4 dX10_asks_17 ?_
    refine JQV_U (pc := 18) (as := [.int (d2.1 q4.1 q4.2)]) (st' := []) (o := some this) G (Mo_runs_fn this (d2.1 q4.1 q4.2) S d2) (JC_V (n := 1) G hRm cl_X10 q2086 q2088 qs102 q152 q2089 ⟨rfl, dd_X10_runs⟩ ⟨by decide, by decide⟩ dX10_asks_18 hz1 rfl (Nat.le_of_ble_eq_true rfl)) rfl (fun _ _ => rfl) (fun _ d5 hd5 => ?_)
    exact hMo_asks_b21 d5

def Mo_had (this : Nat) (p1 : Int32) (S : Sp) (d : Dt) : Option (Int32 × Dt) :=
  (isK S 9 (some this)).bind fun z1 =>
  bind2 (Mo_asks this S d) fun r2 d3 =>
  if r2 = 0 then
    some ((-2), d3)
  else
    (aix S 50 (S.2.1 z1 1) 0).bind fun q4 =>
    (Mo_in (Int32.toInt64 p1) 0 (Int32.toInt64 ((d3.1 q4.1 q4.2) - 1)) S d3).bind fun r5 =>
    if r5 = 0 then
      some ((-2), d3)
    else
      (aix S 50 (S.2.1 z1 51) p1).bind fun q6 =>
      some (d3.1 q6.1 q6.2, d3)
set_option maxHeartbeats 4000000 in
theorem Mo_had_fn (this : Nat) (p1 : Int32) (S : Sp) (d : Dt) : Fn yX10_had (ws_ yX10_had cX10_had 2 (some .int)) 11 251 [va_rf (some this), .int p1] S d rvI Λw (Mo_had this p1 S d) := by
  refine Fn.ofJ (own := RX10) (lv := [(0, va_rf (some this)), (1, .int p1)]) (by decide +kernel) rfl (by simp [cat_i, cat_l, cat_f, cat_d, rf_cat]) (by simp [lv_args, cat_i, cat_l, cat_f, cat_d, rf_cat]) ?_
  intro X F G hRm hR hI
  unfold Mo_had
  refine JR_aload_n (pc := 0) (k := 0) (i := 0) (o := some this) G rfl rfl dX10_had_0 ?_
  refine J_bd (fun z1 hz1 => ?_)
  refine JQV_I (pc := 1) (as := []) (st' := []) (o := some this) G (Mo_asks_fn this S d) (JC_V (n := 0) G hRm cl_X10 q2078 q2080 qs100 q152 q2081 ⟨rfl, dd_X10_asks⟩ ⟨by decide, by decide⟩ dX10_had_1 hz1 rfl (Nat.le_of_ble_eq_true rfl)) rfl (fun _ _ => rfl) (fun r2 d3 hd3 => ?_)
  refine JR_if_eq (pc := 4) (tgt := 34) G dX10_had_4 (by decide) (fun c8 => ?_) (fun c8 => ?_)
  · refine JR_bipush (pc := 34) (v := (-2)) G (by decide) dX10_had_34 ?_
    exact JR_iret (pc := 36) G hR dX10_had_36 rfl rfl
  · refine JR_iload_n (pc := 7) (k := 1) (i := 1) G rfl rfl dX10_had_7 ?_
    refine JR_i2l (pc := 8) G dX10_had_8 ?_
    refine JR_lconst (pc := 9) G cl_0 dX10_had_9 ?_
    refine JR_aload_n (pc := 10) (k := 0) (i := 0) (o := some this) G rfl rfl dX10_had_10 ?_
    refine JR_gR (pc := 11) (k := 1) G cl_X10 in_X10 (by decide) (by decide) rfl (Or.inl rfl) q1589 hz1 dX10_had_11 ?_
    refine JR_iconst (pc := 14) G ci_0 dX10_had_14 ?_
    refine J_bd (fun q4 hq4 => ?_)
    refine JR_iaload (pc := 15) G hq4 dX10_had_15 ?_
    refine JR_iconst (pc := 16) G ci_1 dX10_had_16 ?_
    refine JR_isub (pc := 17) G dX10_had_17 ?_
    refine JR_i2l (pc := 18) G dX10_had_18 ?_
    refine JPS_I (pc := 19) (as := [.long (Int32.toInt64 p1), .long 0, .long (Int32.toInt64 ((d3.1 q4.1 q4.2) - 1))]) (st' := []) G (Mo_in_fn (Int32.toInt64 p1) 0 (Int32.toInt64 ((d3.1 q4.1 q4.2) - 1)) S d3) (JC_S (n := 3) G hRm q1782 q1783 q152 q1784 dd_X10_in ⟨by decide, by decide⟩ dX10_had_19 rfl (Nat.le_of_ble_eq_true rfl)) rfl (fun r5 hr5 => ?_)
    refine JR_if_eq (pc := 22) (tgt := 34) G dX10_had_22 (by decide) (fun c7 => ?_) (fun c7 => ?_)
    · refine JR_bipush (pc := 34) (v := (-2)) G (by decide) dX10_had_34 ?_
      exact JR_iret (pc := 36) G hR dX10_had_36 rfl rfl
    · refine JR_aload_n (pc := 25) (k := 0) (i := 0) (o := some this) G rfl rfl dX10_had_25 ?_
      refine JR_gR (pc := 26) (k := 51) G cl_X10 in_X10 (by decide) (by decide) rfl (Or.inl rfl) q1639 hz1 dX10_had_26 ?_
      refine JR_iload_n (pc := 29) (k := 1) (i := 1) G rfl rfl dX10_had_29 ?_
      refine J_bd (fun q6 hq6 => ?_)
      refine JR_iaload (pc := 30) G hq6 dX10_had_30 ?_
      refine JR_goto (pc := 31) (tgt := 36) G dX10_had_31 (by decide) ?_
      exact JR_iret (pc := 36) G hR dX10_had_36 rfl rfl

def Mo_isTick (this : Nat) (p1 : Int32) (S : Sp) (d : Dt) : Option Int32 :=
  (isK S 9 (some this)).bind fun z1 =>
  (Mo_isBoard this S d).bind fun r2 =>
  if r2 = 0 then
    some 0
  else
    (aix S 50 (S.2.1 z1 1) 0).bind fun q3 =>
    (Mo_in (Int32.toInt64 p1) 0 (Int32.toInt64 (d.1 q3.1 q3.2)) S d).bind fun r4 =>
    if r4 = 0 then
      some 0
    else
      some 1
set_option maxHeartbeats 4000000 in
theorem Mo_isTick_fn (this : Nat) (p1 : Int32) (S : Sp) (d : Dt) : Fn yX10_isTick (ws_ yX10_isTick cX10_isTick 2 (some .boolean)) 1 25 [va_rf (some this), .int p1] S d rvI Λp (Mo_isTick this p1 S d) := by
  refine Fn.ofJ (own := RX10) (lv := [(0, va_rf (some this)), (1, .int p1)]) (by decide +kernel) rfl (by simp [cat_i, cat_l, cat_f, cat_d, rf_cat]) (by simp [lv_args, cat_i, cat_l, cat_f, cat_d, rf_cat]) ?_
  intro X F G hRm hR hI
  unfold Mo_isTick
  refine JR_aload_n (pc := 0) (k := 0) (i := 0) (o := some this) G rfl rfl dX10_isTick_0 ?_
  refine J_bd (fun z1 hz1 => ?_)
  refine JPV_I (pc := 1) (as := []) (st' := []) (o := some this) G (Mo_isBoard_fn this S d) (JC_V (n := 0) G hRm cl_X10 q2012 q2014 qs93 q152 q2015 ⟨rfl, dd_X10_isBoard⟩ ⟨by decide, by decide⟩ dX10_isTick_1 hz1 rfl (Nat.le_of_ble_eq_true rfl)) rfl (fun r2 hr2 => ?_)
  refine JR_if_eq (pc := 4) (tgt := 27) G dX10_isTick_4 (by decide) (fun c6 => ?_) (fun c6 => ?_)
  · refine JR_iconst (pc := 27) G ci_0 dX10_isTick_27 ?_
    exact JR_zret (pc := 28) G hR dX10_isTick_28 (Or.inl rfl) rfl rfl
  · refine JR_iload_n (pc := 7) (k := 1) (i := 1) G rfl rfl dX10_isTick_7 ?_
    refine JR_i2l (pc := 8) G dX10_isTick_8 ?_
    refine JR_lconst (pc := 9) G cl_0 dX10_isTick_9 ?_
    refine JR_aload_n (pc := 10) (k := 0) (i := 0) (o := some this) G rfl rfl dX10_isTick_10 ?_
    refine JR_gR (pc := 11) (k := 1) G cl_X10 in_X10 (by decide) (by decide) rfl (Or.inl rfl) q1589 hz1 dX10_isTick_11 ?_
    refine JR_iconst (pc := 14) G ci_0 dX10_isTick_14 ?_
    refine J_bd (fun q3 hq3 => ?_)
    refine JR_iaload (pc := 15) G hq3 dX10_isTick_15 ?_
    refine JR_i2l (pc := 16) G dX10_isTick_16 ?_
    refine JPS_I (pc := 17) (as := [.long (Int32.toInt64 p1), .long 0, .long (Int32.toInt64 (d.1 q3.1 q3.2))]) (st' := []) G (Mo_in_fn (Int32.toInt64 p1) 0 (Int32.toInt64 (d.1 q3.1 q3.2)) S d) (JC_S (n := 3) G hRm q1782 q1783 q152 q1784 dd_X10_in ⟨by decide, by decide⟩ dX10_isTick_17 rfl (Nat.le_of_ble_eq_true rfl)) rfl (fun r4 hr4 => ?_)
    refine JR_if_eq (pc := 20) (tgt := 27) G dX10_isTick_20 (by decide) (fun c5 => ?_) (fun c5 => ?_)
    · refine JR_iconst (pc := 27) G ci_0 dX10_isTick_27 ?_
      exact JR_zret (pc := 28) G hR dX10_isTick_28 (Or.inl rfl) rfl rfl
    · refine JR_iconst (pc := 23) G ci_1 dX10_isTick_23 ?_
      refine JR_goto (pc := 24) (tgt := 28) G dX10_isTick_24 (by decide) ?_
      exact JR_zret (pc := 28) G hR dX10_isTick_28 (Or.inr rfl) rfl rfl

def Mo_asksAt (this : Nat) (p1 : Int32) (S : Sp) (d : Dt) : Option (Int32 × Dt) :=
  (isK S 9 (some this)).bind fun z1 =>
  (Mo_isTick this p1 S d).bind fun r2 =>
  if ¬ r2 = 0 then
    bind2 (Mo_asTold this S d) fun _ d3 =>
    bind2 (Mo_runs this p1 S d3) fun _ d4 =>
    some (1, d4)
  else
    some (0, d)
set_option maxHeartbeats 4000000 in
theorem Mo_asksAt_fn (this : Nat) (p1 : Int32) (S : Sp) (d : Dt) : Fn yX10_asksAt (ws_ yX10_asksAt cX10_asksAt 2 (some .boolean)) 10 231 [va_rf (some this), .int p1] S d rvI Λw (Mo_asksAt this p1 S d) := by
  refine Fn.ofJ (own := RX10) (lv := [(0, va_rf (some this)), (1, .int p1)]) (by decide +kernel) rfl (by simp [cat_i, cat_l, cat_f, cat_d, rf_cat]) (by simp [lv_args, cat_i, cat_l, cat_f, cat_d, rf_cat]) ?_
  intro X F G hRm hR hI
  unfold Mo_asksAt
  refine JR_aload_n (pc := 0) (k := 0) (i := 0) (o := some this) G rfl rfl dX10_asksAt_0 ?_
  refine JR_iload_n (pc := 1) (k := 1) (i := 1) G rfl rfl dX10_asksAt_1 ?_
  refine J_bd (fun z1 hz1 => ?_)
  refine JPV_I (pc := 2) (as := [.int p1]) (st' := []) (o := some this) G (Mo_isTick_fn this p1 S d) (JC_V (n := 1) G hRm cl_X10 q2192 q2194 qs127 q152 q2195 ⟨rfl, dd_X10_isTick⟩ ⟨by decide, by decide⟩ dX10_asksAt_2 hz1 rfl (Nat.le_of_ble_eq_true rfl)) rfl (fun r2 hr2 => ?_)
  refine JR_if_ne (pc := 5) (tgt := 10) G dX10_asksAt_5 (by decide) (fun c5 => ?_) (fun c5 => ?_)
  · refine JR_aload_n (pc := 10) (k := 0) (i := 0) (o := some this) G rfl rfl dX10_asksAt_10 ?_
    refine JQV_U (pc := 11) (as := []) (st' := []) (o := some this) G (Mo_asTold_fn this S d) (JC_V (n := 0) G hRm cl_X10 q2082 q2084 qs101 q152 q2085 ⟨rfl, dd_X10_asTold⟩ ⟨by decide, by decide⟩ dX10_asksAt_11 hz1 rfl (Nat.le_of_ble_eq_true rfl)) rfl (fun _ _ => rfl) (fun _ d3 hd3 => ?_)
    refine JR_aload_n (pc := 14) (k := 0) (i := 0) (o := some this) G rfl rfl dX10_asksAt_14 ?_
    refine JR_iload_n (pc := 15) (k := 1) (i := 1) G rfl rfl dX10_asksAt_15 ?_
    refine JQV_U (pc := 16) (as := [.int p1]) (st' := []) (o := some this) G (Mo_runs_fn this p1 S d3) (JC_V (n := 1) G hRm cl_X10 q2086 q2088 qs102 q152 q2089 ⟨rfl, dd_X10_runs⟩ ⟨by decide, by decide⟩ dX10_asksAt_16 hz1 rfl (Nat.le_of_ble_eq_true rfl)) rfl (fun _ _ => rfl) (fun _ d4 hd4 => ?_)
    refine JR_iconst (pc := 19) G ci_1 dX10_asksAt_19 ?_
    exact JR_zret (pc := 20) G hR dX10_asksAt_20 (Or.inr rfl) rfl rfl
  · refine JR_iconst (pc := 8) G ci_0 dX10_asksAt_8 ?_
    exact JR_zret (pc := 9) G hR dX10_asksAt_9 (Or.inl rfl) rfl rfl

def Mo_idle_b36 (this : Nat) (p1 : Int32) (S : Sp) (k15 : Int32 → Int32 → Dt → Option (Int32 × Dt)) (v3 : Int32) (s0 : Int32) (s1 : Int32) (d : Dt) : Option (Int32 × Dt) :=
  (some (s1 + s0)).bind fun x9 =>
  k15 x9 (v3 + 1) d
def Mo_idle_h15 (this : Nat) (p1 : Int32) (S : Sp) : Nat → Int32 → Int32 → Dt → Option (Int32 × Dt)
  | 0, _, _, _ => none
  | f + 1, v2, v3, d =>
    if p1 ≤ v3 then
      some (v2, d)
    else
      (isK S 9 (some this)).bind fun z5 =>
      (aix S 50 (S.2.1 z5 51) v3).bind fun q6 =>
      Mo_idle_b36 this p1 S (Mo_idle_h15 this p1 S f) v3 (if ¬ (d.1 q6.1 q6.2) = ((-1)) then 0 else 1) v2 d
def Mo_idle (this : Nat) (p1 : Int32) (S : Sp) (d : Dt) : Option (Int32 × Dt) :=
  (isK S 9 (some this)).bind fun z1 =>
  bind2 (Mo_asksAt this p1 S d) fun r2 d3 =>
  if ¬ r2 = 0 then
    Mo_idle_h15 this p1 S FU 0 0 d3
  else
    some ((-2), d3)
set_option maxHeartbeats 4000000 in
theorem Mo_idle_fn (this : Nat) (p1 : Int32) (S : Sp) (d : Dt) : Fn yX10_idle (ws_ yX10_idle cX10_idle 4 (some .int)) 11 252 [va_rf (some this), .int p1] S d rvI Λw (Mo_idle this p1 S d) := by
  refine Fn.ofJ (own := RX10) (lv := [(0, va_rf (some this)), (1, .int p1)]) (by decide +kernel) rfl (by simp [cat_i, cat_l, cat_f, cat_d, rf_cat]) (by simp [lv_args, cat_i, cat_l, cat_f, cat_d, rf_cat]) ?_
  intro X F G hRm hR hI
  have hMo_idle_b36 : ∀ (k15 : Int32 → Int32 → Dt → Option (Int32 × Dt)) (hk15 : ∀ (v2 : Int32) (v3 : Int32) (d : Dt), J X F Λw S d 15 [(0, va_rf (some this)), (1, .int p1), (2, .int v2), (3, .int v3)] [] (k15 v2 v3 d)) (v3 : Int32) (s0 : Int32) (s1 : Int32) (d : Dt), J X F Λw S d 36 [(0, va_rf (some this)), (1, .int p1), (3, .int v3)] [.int s0, .int s1] (Mo_idle_b36 this p1 S k15 v3 s0 s1 d) := by
    intro k15 hk15 v3 s0 s1 d
    unfold Mo_idle_b36
    refine JR_iadd (pc := 36) G dX10_idle_36 ?_
    refine J_nm (fun x9 hx9 => ?_)
    refine JR_istore_n (pc := 37) (k := 2) (i := 2) (lv' := [(2, .int x9), (0, va_rf (some this)), (1, .int p1), (3, .int v3)]) G rfl (by decide) rfl dX10_idle_37 ?_
    refine JR_iinc (pc := 38) (i := 3) (v := v3 + 1) (lv' := [(3, .int (v3 + 1)), (2, .int x9), (0, va_rf (some this)), (1, .int p1)]) G rfl (congrArg (fun z => v3 + z) (by decide)) (by decide) rfl dX10_idle_38 ?_
    refine JR_goto (pc := 41) (tgt := 15) G dX10_idle_41 (by decide) ?_
    refine J_sub [2, 3, 1, 0] rfl ?_
    exact hk15 x9 (v3 + 1) d
  have hMo_idle_h15 : ∀ (f : Nat) (v2 : Int32) (v3 : Int32) (d : Dt), J X F Λw S d 15 [(0, va_rf (some this)), (1, .int p1), (2, .int v2), (3, .int v3)] [] (Mo_idle_h15 this p1 S f v2 v3 d) := by
    intro  f
    induction f with
    | zero => intro v2 v3 d; exact J_no
    | succ f ih =>
      intro v2 v3 d
      unfold Mo_idle_h15
      refine JR_iload_n (pc := 15) (k := 3) (i := 3) G rfl rfl dX10_idle_15 ?_
      refine JR_iload_n (pc := 16) (k := 1) (i := 1) G rfl rfl dX10_idle_16 ?_
      refine JR_icmp_ge (pc := 17) (tgt := 44) G dX10_idle_17 (by decide) (fun c8 => ?_) (fun c8 => ?_)
      · refine JR_iload_n (pc := 44) (k := 2) (i := 2) G rfl rfl dX10_idle_44 ?_
        exact JR_iret (pc := 45) G hR dX10_idle_45 rfl rfl
      · refine JR_iload_n (pc := 20) (k := 2) (i := 2) G rfl rfl dX10_idle_20 ?_
        refine JR_aload_n (pc := 21) (k := 0) (i := 0) (o := some this) G rfl rfl dX10_idle_21 ?_
        refine J_bd (fun z5 hz5 => ?_)
        refine JR_gR (pc := 22) (k := 51) G cl_X10 in_X10 (by decide) (by decide) rfl (Or.inl rfl) q1639 hz5 dX10_idle_22 ?_
        refine JR_iload_n (pc := 25) (k := 3) (i := 3) G rfl rfl dX10_idle_25 ?_
        refine J_bd (fun q6 hq6 => ?_)
        refine JR_iaload (pc := 26) G hq6 dX10_idle_26 ?_
        refine JR_iconst (pc := 27) G ci_m1 dX10_idle_27 ?_
        refine J_eq (r' := if ¬ (d.1 q6.1 q6.2) = ((-1)) then Mo_idle_b36 this p1 S (Mo_idle_h15 this p1 S f) v3 0 v2 d else Mo_idle_b36 this p1 S (Mo_idle_h15 this p1 S f) v3 1 v2 d) (by split <;> rfl) ?_
        refine JR_icmp_ne (pc := 28) (tgt := 35) G dX10_idle_28 (by decide) (fun c7 => ?_) (fun c7 => ?_)
        · refine JR_iconst (pc := 35) G ci_0 dX10_idle_35 ?_
          refine J_sub [0, 1, 3] rfl ?_
          exact hMo_idle_b36 (Mo_idle_h15 this p1 S f) ih v3 0 v2 d
        · refine JR_iconst (pc := 31) G ci_1 dX10_idle_31 ?_
          refine JR_goto (pc := 32) (tgt := 36) G dX10_idle_32 (by decide) ?_
          refine J_sub [0, 1, 3] rfl ?_
          exact hMo_idle_b36 (Mo_idle_h15 this p1 S f) ih v3 1 v2 d
  unfold Mo_idle
  refine JR_aload_n (pc := 0) (k := 0) (i := 0) (o := some this) G rfl rfl dX10_idle_0 ?_
  refine JR_iload_n (pc := 1) (k := 1) (i := 1) G rfl rfl dX10_idle_1 ?_
  refine J_bd (fun z1 hz1 => ?_)
  refine JQV_I (pc := 2) (as := [.int p1]) (st' := []) (o := some this) G (Mo_asksAt_fn this p1 S d) (JC_V (n := 1) G hRm cl_X10 q2188 q2190 qs126 q152 q2191 ⟨rfl, dd_X10_asksAt⟩ ⟨by decide, by decide⟩ dX10_idle_2 hz1 rfl (Nat.le_of_ble_eq_true rfl)) rfl (fun _ _ => rfl) (fun r2 d3 hd3 => ?_)
  refine JR_if_ne (pc := 5) (tgt := 11) G dX10_idle_5 (by decide) (fun c4 => ?_) (fun c4 => ?_)
  · refine JR_iconst (pc := 11) G ci_0 dX10_idle_11 ?_
    refine JR_istore_n (pc := 12) (k := 2) (i := 2) (lv' := [(2, .int 0), (0, va_rf (some this)), (1, .int p1)]) G rfl (by decide) rfl dX10_idle_12 ?_
    refine JR_iconst (pc := 13) G ci_0 dX10_idle_13 ?_
    refine JR_istore_n (pc := 14) (k := 3) (i := 3) (lv' := [(3, .int 0), (2, .int 0), (0, va_rf (some this)), (1, .int p1)]) G rfl (by decide) rfl dX10_idle_14 ?_
    refine J_sub [2, 3, 1, 0] rfl ?_
    exact hMo_idle_h15 FU 0 0 d3
  · refine JR_bipush (pc := 8) (v := (-2)) G (by decide) dX10_idle_8 ?_
    exact JR_iret (pc := 10) G hR dX10_idle_10 rfl rfl

def Mo_asksOf (this : Nat) (p1 : Int32) (p2 : Int32) (S : Sp) (d : Dt) : Option (Int32 × Dt) :=
  (isK S 9 (some this)).bind fun z1 =>
  (Mo_isTask this p1 S d).bind fun r2 =>
  if r2 = 0 then
    some (0, d)
  else
    bind2 (Mo_asksAt this p2 S d) fun r3 d4 =>
    if r3 = 0 then
      some (0, d4)
    else
      some (1, d4)
set_option maxHeartbeats 4000000 in
theorem Mo_asksOf_fn (this : Nat) (p1 : Int32) (p2 : Int32) (S : Sp) (d : Dt) : Fn yX10_asksOf (ws_ yX10_asksOf cX10_asksOf 3 (some .boolean)) 11 252 [va_rf (some this), .int p1, .int p2] S d rvI Λw (Mo_asksOf this p1 p2 S d) := by
  refine Fn.ofJ (own := RX10) (lv := [(0, va_rf (some this)), (1, .int p1), (2, .int p2)]) (by decide +kernel) rfl (by simp [cat_i, cat_l, cat_f, cat_d, rf_cat]) (by simp [lv_args, cat_i, cat_l, cat_f, cat_d, rf_cat]) ?_
  intro X F G hRm hR hI
  unfold Mo_asksOf
  refine JR_aload_n (pc := 0) (k := 0) (i := 0) (o := some this) G rfl rfl dX10_asksOf_0 ?_
  refine JR_iload_n (pc := 1) (k := 1) (i := 1) G rfl rfl dX10_asksOf_1 ?_
  refine J_bd (fun z1 hz1 => ?_)
  refine JPV_I (pc := 2) (as := [.int p1]) (st' := []) (o := some this) G (Mo_isTask_fn this p1 S d) (JC_V (n := 1) G hRm cl_X10 q1916 q1918 qs78 q152 q1919 ⟨rfl, dd_X10_isTask⟩ ⟨by decide, by decide⟩ dX10_asksOf_2 hz1 rfl (Nat.le_of_ble_eq_true rfl)) rfl (fun r2 hr2 => ?_)
  refine JR_if_eq (pc := 5) (tgt := 20) G dX10_asksOf_5 (by decide) (fun c6 => ?_) (fun c6 => ?_)
  · refine JR_iconst (pc := 20) G ci_0 dX10_asksOf_20 ?_
    exact JR_zret (pc := 21) G hR dX10_asksOf_21 (Or.inl rfl) rfl rfl
  · refine JR_aload_n (pc := 8) (k := 0) (i := 0) (o := some this) G rfl rfl dX10_asksOf_8 ?_
    refine JR_iload_n (pc := 9) (k := 2) (i := 2) G rfl rfl dX10_asksOf_9 ?_
    refine JQV_I (pc := 10) (as := [.int p2]) (st' := []) (o := some this) G (Mo_asksAt_fn this p2 S d) (JC_V (n := 1) G hRm cl_X10 q2188 q2190 qs126 q152 q2191 ⟨rfl, dd_X10_asksAt⟩ ⟨by decide, by decide⟩ dX10_asksOf_10 hz1 rfl (Nat.le_of_ble_eq_true rfl)) rfl (fun _ _ => rfl) (fun r3 d4 hd4 => ?_)
    refine JR_if_eq (pc := 13) (tgt := 20) G dX10_asksOf_13 (by decide) (fun c5 => ?_) (fun c5 => ?_)
    · refine JR_iconst (pc := 20) G ci_0 dX10_asksOf_20 ?_
      exact JR_zret (pc := 21) G hR dX10_asksOf_21 (Or.inl rfl) rfl rfl
    · refine JR_iconst (pc := 16) G ci_1 dX10_asksOf_16 ?_
      refine JR_goto (pc := 17) (tgt := 21) G dX10_asksOf_17 (by decide) ?_
      exact JR_zret (pc := 21) G hR dX10_asksOf_21 (Or.inr rfl) rfl rfl

def Mo_kicks (this : Nat) (p1 : Int32) (p2 : Int32) (S : Sp) (d : Dt) : Option (Int32 × Dt) :=
  (isK S 9 (some this)).bind fun z1 =>
  bind2 (Mo_asksOf this p1 p2 S d) fun r2 d3 =>
  if r2 = 0 then
    some ((-2), d3)
  else
    (aix S 50 (S.2.1 z1 41) p1).bind fun q4 =>
    some (d3.1 q4.1 q4.2, d3)
set_option maxHeartbeats 4000000 in
theorem Mo_kicks_fn (this : Nat) (p1 : Int32) (p2 : Int32) (S : Sp) (d : Dt) : Fn yX10_kicks (ws_ yX10_kicks cX10_kicks 3 (some .int)) 12 274 [va_rf (some this), .int p1, .int p2] S d rvI Λw (Mo_kicks this p1 p2 S d) := by
  refine Fn.ofJ (own := RX10) (lv := [(0, va_rf (some this)), (1, .int p1), (2, .int p2)]) (by decide +kernel) rfl (by simp [cat_i, cat_l, cat_f, cat_d, rf_cat]) (by simp [lv_args, cat_i, cat_l, cat_f, cat_d, rf_cat]) ?_
  intro X F G hRm hR hI
  unfold Mo_kicks
  refine JR_aload_n (pc := 0) (k := 0) (i := 0) (o := some this) G rfl rfl dX10_kicks_0 ?_
  refine JR_iload_n (pc := 1) (k := 1) (i := 1) G rfl rfl dX10_kicks_1 ?_
  refine JR_iload_n (pc := 2) (k := 2) (i := 2) G rfl rfl dX10_kicks_2 ?_
  refine J_bd (fun z1 hz1 => ?_)
  refine JQV_I (pc := 3) (as := [.int p1, .int p2]) (st' := []) (o := some this) G (Mo_asksOf_fn this p1 p2 S d) (JC_V (n := 2) G hRm cl_X10 q2200 q2202 qs128 q152 q2203 ⟨rfl, dd_X10_asksOf⟩ ⟨by decide, by decide⟩ dX10_kicks_3 hz1 rfl (Nat.le_of_ble_eq_true rfl)) rfl (fun _ _ => rfl) (fun r2 d3 hd3 => ?_)
  refine JR_if_eq (pc := 6) (tgt := 18) G dX10_kicks_6 (by decide) (fun c5 => ?_) (fun c5 => ?_)
  · refine JR_bipush (pc := 18) (v := (-2)) G (by decide) dX10_kicks_18 ?_
    exact JR_iret (pc := 20) G hR dX10_kicks_20 rfl rfl
  · refine JR_aload_n (pc := 9) (k := 0) (i := 0) (o := some this) G rfl rfl dX10_kicks_9 ?_
    refine JR_gR (pc := 10) (k := 41) G cl_X10 in_X10 (by decide) (by decide) rfl (Or.inl rfl) q1629 hz1 dX10_kicks_10 ?_
    refine JR_iload_n (pc := 13) (k := 1) (i := 1) G rfl rfl dX10_kicks_13 ?_
    refine J_bd (fun q4 hq4 => ?_)
    refine JR_iaload (pc := 14) G hq4 dX10_kicks_14 ?_
    refine JR_goto (pc := 15) (tgt := 20) G dX10_kicks_15 (by decide) ?_
    exact JR_iret (pc := 20) G hR dX10_kicks_20 rfl rfl

def Mo_kicked (this : Nat) (p1 : Int32) (p2 : Int32) (S : Sp) (d : Dt) : Option (Int32 × Dt) :=
  (isK S 9 (some this)).bind fun z1 =>
  bind2 (Mo_asksOf this p1 p2 S d) fun r2 d3 =>
  if r2 = 0 then
    some ((-2), d3)
  else
    (aix S 50 (S.2.1 z1 42) p1).bind fun q4 =>
    some (d3.1 q4.1 q4.2, d3)
set_option maxHeartbeats 4000000 in
theorem Mo_kicked_fn (this : Nat) (p1 : Int32) (p2 : Int32) (S : Sp) (d : Dt) : Fn yX10_kicked (ws_ yX10_kicked cX10_kicked 3 (some .int)) 12 274 [va_rf (some this), .int p1, .int p2] S d rvI Λw (Mo_kicked this p1 p2 S d) := by
  refine Fn.ofJ (own := RX10) (lv := [(0, va_rf (some this)), (1, .int p1), (2, .int p2)]) (by decide +kernel) rfl (by simp [cat_i, cat_l, cat_f, cat_d, rf_cat]) (by simp [lv_args, cat_i, cat_l, cat_f, cat_d, rf_cat]) ?_
  intro X F G hRm hR hI
  unfold Mo_kicked
  refine JR_aload_n (pc := 0) (k := 0) (i := 0) (o := some this) G rfl rfl dX10_kicked_0 ?_
  refine JR_iload_n (pc := 1) (k := 1) (i := 1) G rfl rfl dX10_kicked_1 ?_
  refine JR_iload_n (pc := 2) (k := 2) (i := 2) G rfl rfl dX10_kicked_2 ?_
  refine J_bd (fun z1 hz1 => ?_)
  refine JQV_I (pc := 3) (as := [.int p1, .int p2]) (st' := []) (o := some this) G (Mo_asksOf_fn this p1 p2 S d) (JC_V (n := 2) G hRm cl_X10 q2200 q2202 qs128 q152 q2203 ⟨rfl, dd_X10_asksOf⟩ ⟨by decide, by decide⟩ dX10_kicked_3 hz1 rfl (Nat.le_of_ble_eq_true rfl)) rfl (fun _ _ => rfl) (fun r2 d3 hd3 => ?_)
  refine JR_if_eq (pc := 6) (tgt := 18) G dX10_kicked_6 (by decide) (fun c5 => ?_) (fun c5 => ?_)
  · refine JR_bipush (pc := 18) (v := (-2)) G (by decide) dX10_kicked_18 ?_
    exact JR_iret (pc := 20) G hR dX10_kicked_20 rfl rfl
  · refine JR_aload_n (pc := 9) (k := 0) (i := 0) (o := some this) G rfl rfl dX10_kicked_9 ?_
    refine JR_gR (pc := 10) (k := 42) G cl_X10 in_X10 (by decide) (by decide) rfl (Or.inl rfl) q1630 hz1 dX10_kicked_10 ?_
    refine JR_iload_n (pc := 13) (k := 1) (i := 1) G rfl rfl dX10_kicked_13 ?_
    refine J_bd (fun q4 hq4 => ?_)
    refine JR_iaload (pc := 14) G hq4 dX10_kicked_14 ?_
    refine JR_goto (pc := 15) (tgt := 20) G dX10_kicked_15 (by decide) ?_
    exact JR_iret (pc := 20) G hR dX10_kicked_20 rfl rfl

def Mo_gap (this : Nat) (p1 : Int32) (p2 : Int32) (S : Sp) (d : Dt) : Option (Int32 × Dt) :=
  (isK S 9 (some this)).bind fun z1 =>
  (Mo_isTask this p1 S d).bind fun r2 =>
  if r2 = 0 then
    some ((-2), d)
  else
    if p2 < 0 then
      some ((-2), d)
    else
      bind2 (Mo_asks this S d) fun r3 d4 =>
      if ¬ r3 = 0 then
        (aix S 50 (S.2.1 z1 41) p1).bind fun q5 =>
        if (d4.1 q5.1 q5.2) ≤ p2 then
          some ((-1), d4)
        else
          (aix S 50 (S.2.1 z1 46) ((200 * p1) + p2)).bind fun q6 =>
          some (d4.1 q6.1 q6.2, d4)
      else
        some ((-2), d4)
set_option maxHeartbeats 4000000 in
theorem Mo_gap_fn (this : Nat) (p1 : Int32) (p2 : Int32) (S : Sp) (d : Dt) : Fn yX10_gap (ws_ yX10_gap cX10_gap 3 (some .int)) 11 251 [va_rf (some this), .int p1, .int p2] S d rvI Λw (Mo_gap this p1 p2 S d) := by
  refine Fn.ofJ (own := RX10) (lv := [(0, va_rf (some this)), (1, .int p1), (2, .int p2)]) (by decide +kernel) rfl (by simp [cat_i, cat_l, cat_f, cat_d, rf_cat]) (by simp [lv_args, cat_i, cat_l, cat_f, cat_d, rf_cat]) ?_
  intro X F G hRm hR hI
  unfold Mo_gap
  refine JR_aload_n (pc := 0) (k := 0) (i := 0) (o := some this) G rfl rfl dX10_gap_0 ?_
  refine JR_iload_n (pc := 1) (k := 1) (i := 1) G rfl rfl dX10_gap_1 ?_
  refine J_bd (fun z1 hz1 => ?_)
  refine JPV_I (pc := 2) (as := [.int p1]) (st' := []) (o := some this) G (Mo_isTask_fn this p1 S d) (JC_V (n := 1) G hRm cl_X10 q1916 q1918 qs78 q152 q1919 ⟨rfl, dd_X10_isTask⟩ ⟨by decide, by decide⟩ dX10_gap_2 hz1 rfl (Nat.le_of_ble_eq_true rfl)) rfl (fun r2 hr2 => ?_)
  refine JR_if_eq (pc := 5) (tgt := 19) G dX10_gap_5 (by decide) (fun c10 => ?_) (fun c10 => ?_)
  · refine JR_bipush (pc := 19) (v := (-2)) G (by decide) dX10_gap_19 ?_
    exact JR_iret (pc := 21) G hR dX10_gap_21 rfl rfl
  · refine JR_iload_n (pc := 8) (k := 2) (i := 2) G rfl rfl dX10_gap_8 ?_
    refine JR_if_lt (pc := 9) (tgt := 19) G dX10_gap_9 (by decide) (fun c9 => ?_) (fun c9 => ?_)
    · refine JR_bipush (pc := 19) (v := (-2)) G (by decide) dX10_gap_19 ?_
      exact JR_iret (pc := 21) G hR dX10_gap_21 rfl rfl
    · refine JR_aload_n (pc := 12) (k := 0) (i := 0) (o := some this) G rfl rfl dX10_gap_12 ?_
      refine JQV_I (pc := 13) (as := []) (st' := []) (o := some this) G (Mo_asks_fn this S d) (JC_V (n := 0) G hRm cl_X10 q2078 q2080 qs100 q152 q2081 ⟨rfl, dd_X10_asks⟩ ⟨by decide, by decide⟩ dX10_gap_13 hz1 rfl (Nat.le_of_ble_eq_true rfl)) rfl (fun _ _ => rfl) (fun r3 d4 hd4 => ?_)
      refine JR_if_ne (pc := 16) (tgt := 22) G dX10_gap_16 (by decide) (fun c8 => ?_) (fun c8 => ?_)
      · refine JR_iload_n (pc := 22) (k := 2) (i := 2) G rfl rfl dX10_gap_22 ?_
        refine JR_aload_n (pc := 23) (k := 0) (i := 0) (o := some this) G rfl rfl dX10_gap_23 ?_
        refine JR_gR (pc := 24) (k := 41) G cl_X10 in_X10 (by decide) (by decide) rfl (Or.inl rfl) q1629 hz1 dX10_gap_24 ?_
        refine JR_iload_n (pc := 27) (k := 1) (i := 1) G rfl rfl dX10_gap_27 ?_
        refine J_bd (fun q5 hq5 => ?_)
        refine JR_iaload (pc := 28) G hq5 dX10_gap_28 ?_
        refine JR_icmp_ge (pc := 29) (tgt := 47) G dX10_gap_29 (by decide) (fun c7 => ?_) (fun c7 => ?_)
        · refine JR_iconst (pc := 47) G ci_m1 dX10_gap_47 ?_
          exact JR_iret (pc := 48) G hR dX10_gap_48 rfl rfl
        · refine JR_aload_n (pc := 32) (k := 0) (i := 0) (o := some this) G rfl rfl dX10_gap_32 ?_
          refine JR_gR (pc := 33) (k := 46) G cl_X10 in_X10 (by decide) (by decide) rfl (Or.inl rfl) q1634 hz1 dX10_gap_33 ?_
          refine JR_sipush (pc := 36) (v := 200) G (by decide) dX10_gap_36 ?_
          refine JR_iload_n (pc := 39) (k := 1) (i := 1) G rfl rfl dX10_gap_39 ?_
          refine JR_imul (pc := 40) G dX10_gap_40 ?_
          refine JR_iload_n (pc := 41) (k := 2) (i := 2) G rfl rfl dX10_gap_41 ?_
          refine JR_iadd (pc := 42) G dX10_gap_42 ?_
          refine J_bd (fun q6 hq6 => ?_)
          refine JR_iaload (pc := 43) G hq6 dX10_gap_43 ?_
          refine JR_goto (pc := 44) (tgt := 48) G dX10_gap_44 (by decide) ?_
          exact JR_iret (pc := 48) G hR dX10_gap_48 rfl rfl
      · refine JR_bipush (pc := 19) (v := (-2)) G (by decide) dX10_gap_19 ?_
        exact JR_iret (pc := 21) G hR dX10_gap_21 rfl rfl

def Mo_jobs (this : Nat) (p1 : Int32) (p2 : Int32) (S : Sp) (d : Dt) : Option (Int32 × Dt) :=
  (isK S 9 (some this)).bind fun z1 =>
  bind2 (Mo_asksOf this p1 p2 S d) fun r2 d3 =>
  if r2 = 0 then
    some ((-2), d3)
  else
    (aix S 50 (S.2.1 z1 30) p1).bind fun q4 =>
    some (d3.1 q4.1 q4.2, d3)
set_option maxHeartbeats 4000000 in
theorem Mo_jobs_fn (this : Nat) (p1 : Int32) (p2 : Int32) (S : Sp) (d : Dt) : Fn yX10_jobs (ws_ yX10_jobs cX10_jobs 3 (some .int)) 12 274 [va_rf (some this), .int p1, .int p2] S d rvI Λw (Mo_jobs this p1 p2 S d) := by
  refine Fn.ofJ (own := RX10) (lv := [(0, va_rf (some this)), (1, .int p1), (2, .int p2)]) (by decide +kernel) rfl (by simp [cat_i, cat_l, cat_f, cat_d, rf_cat]) (by simp [lv_args, cat_i, cat_l, cat_f, cat_d, rf_cat]) ?_
  intro X F G hRm hR hI
  unfold Mo_jobs
  refine JR_aload_n (pc := 0) (k := 0) (i := 0) (o := some this) G rfl rfl dX10_jobs_0 ?_
  refine JR_iload_n (pc := 1) (k := 1) (i := 1) G rfl rfl dX10_jobs_1 ?_
  refine JR_iload_n (pc := 2) (k := 2) (i := 2) G rfl rfl dX10_jobs_2 ?_
  refine J_bd (fun z1 hz1 => ?_)
  refine JQV_I (pc := 3) (as := [.int p1, .int p2]) (st' := []) (o := some this) G (Mo_asksOf_fn this p1 p2 S d) (JC_V (n := 2) G hRm cl_X10 q2200 q2202 qs128 q152 q2203 ⟨rfl, dd_X10_asksOf⟩ ⟨by decide, by decide⟩ dX10_jobs_3 hz1 rfl (Nat.le_of_ble_eq_true rfl)) rfl (fun _ _ => rfl) (fun r2 d3 hd3 => ?_)
  refine JR_if_eq (pc := 6) (tgt := 18) G dX10_jobs_6 (by decide) (fun c5 => ?_) (fun c5 => ?_)
  · refine JR_bipush (pc := 18) (v := (-2)) G (by decide) dX10_jobs_18 ?_
    exact JR_iret (pc := 20) G hR dX10_jobs_20 rfl rfl
  · refine JR_aload_n (pc := 9) (k := 0) (i := 0) (o := some this) G rfl rfl dX10_jobs_9 ?_
    refine JR_gR (pc := 10) (k := 30) G cl_X10 in_X10 (by decide) (by decide) rfl (Or.inl rfl) q1618 hz1 dX10_jobs_10 ?_
    refine JR_iload_n (pc := 13) (k := 1) (i := 1) G rfl rfl dX10_jobs_13 ?_
    refine J_bd (fun q4 hq4 => ?_)
    refine JR_iaload (pc := 14) G hq4 dX10_jobs_14 ?_
    refine JR_goto (pc := 15) (tgt := 20) G dX10_jobs_15 (by decide) ?_
    exact JR_iret (pc := 20) G hR dX10_jobs_20 rfl rfl

def Mo_at (this : Nat) (p1 : Int32) (p2 : Int32) (S : Sp) (d : Dt) : Option (Int32 × Dt) :=
  (isK S 9 (some this)).bind fun z1 =>
  bind2 (Mo_asksOf this p1 p2 S d) fun r2 d3 =>
  if ¬ r2 = 0 then
    (aix S 50 (S.2.1 z1 29) p1).bind fun q4 =>
    if ¬ (d3.1 q4.1 q4.2) = ((-1)) then
      (aix S 50 (S.2.1 z1 31) p1).bind fun q5 =>
      some (d3.1 q5.1 q5.2, d3)
    else
      some ((-1), d3)
  else
    some ((-2), d3)
set_option maxHeartbeats 4000000 in
theorem Mo_at_fn (this : Nat) (p1 : Int32) (p2 : Int32) (S : Sp) (d : Dt) : Fn yX10_at (ws_ yX10_at cX10_at 3 (some .int)) 12 274 [va_rf (some this), .int p1, .int p2] S d rvI Λw (Mo_at this p1 p2 S d) := by
  refine Fn.ofJ (own := RX10) (lv := [(0, va_rf (some this)), (1, .int p1), (2, .int p2)]) (by decide +kernel) rfl (by simp [cat_i, cat_l, cat_f, cat_d, rf_cat]) (by simp [lv_args, cat_i, cat_l, cat_f, cat_d, rf_cat]) ?_
  intro X F G hRm hR hI
  unfold Mo_at
  refine JR_aload_n (pc := 0) (k := 0) (i := 0) (o := some this) G rfl rfl dX10_at_0 ?_
  refine JR_iload_n (pc := 1) (k := 1) (i := 1) G rfl rfl dX10_at_1 ?_
  refine JR_iload_n (pc := 2) (k := 2) (i := 2) G rfl rfl dX10_at_2 ?_
  refine J_bd (fun z1 hz1 => ?_)
  refine JQV_I (pc := 3) (as := [.int p1, .int p2]) (st' := []) (o := some this) G (Mo_asksOf_fn this p1 p2 S d) (JC_V (n := 2) G hRm cl_X10 q2200 q2202 qs128 q152 q2203 ⟨rfl, dd_X10_asksOf⟩ ⟨by decide, by decide⟩ dX10_at_3 hz1 rfl (Nat.le_of_ble_eq_true rfl)) rfl (fun _ _ => rfl) (fun r2 d3 hd3 => ?_)
  refine JR_if_ne (pc := 6) (tgt := 12) G dX10_at_6 (by decide) (fun c7 => ?_) (fun c7 => ?_)
  · refine JR_aload_n (pc := 12) (k := 0) (i := 0) (o := some this) G rfl rfl dX10_at_12 ?_
    refine JR_gR (pc := 13) (k := 29) G cl_X10 in_X10 (by decide) (by decide) rfl (Or.inl rfl) q1617 hz1 dX10_at_13 ?_
    refine JR_iload_n (pc := 16) (k := 1) (i := 1) G rfl rfl dX10_at_16 ?_
    refine J_bd (fun q4 hq4 => ?_)
    refine JR_iaload (pc := 17) G hq4 dX10_at_17 ?_
    refine JR_iconst (pc := 18) G ci_m1 dX10_at_18 ?_
    refine JR_icmp_ne (pc := 19) (tgt := 26) G dX10_at_19 (by decide) (fun c6 => ?_) (fun c6 => ?_)
    · refine JR_aload_n (pc := 26) (k := 0) (i := 0) (o := some this) G rfl rfl dX10_at_26 ?_
      refine JR_gR (pc := 27) (k := 31) G cl_X10 in_X10 (by decide) (by decide) rfl (Or.inl rfl) q1619 hz1 dX10_at_27 ?_
      refine JR_iload_n (pc := 30) (k := 1) (i := 1) G rfl rfl dX10_at_30 ?_
      refine J_bd (fun q5 hq5 => ?_)
      refine JR_iaload (pc := 31) G hq5 dX10_at_31 ?_
      exact JR_iret (pc := 32) G hR dX10_at_32 rfl rfl
    · refine JR_iconst (pc := 22) G ci_m1 dX10_at_22 ?_
      refine JR_goto (pc := 23) (tgt := 32) G dX10_at_23 (by decide) ?_
      exact JR_iret (pc := 32) G hR dX10_at_32 rfl rfl
  · refine JR_bipush (pc := 9) (v := (-2)) G (by decide) dX10_at_9 ?_
    exact JR_iret (pc := 11) G hR dX10_at_11 rfl rfl

def Mo_question (this : Nat) (p1 : Int32) (p2 : Int32) (S : Sp) (d : Dt) : Option (Int32 × Dt) :=
  (isK S 9 (some this)).bind fun z1 =>
  bind2 (Mo_asksOf this p1 p2 S d) fun r2 d3 =>
  if r2 = 0 then
    some ((-2), d3)
  else
    (aix S 50 (S.2.1 z1 33) p1).bind fun q4 =>
    some (d3.1 q4.1 q4.2, d3)
set_option maxHeartbeats 4000000 in
theorem Mo_question_fn (this : Nat) (p1 : Int32) (p2 : Int32) (S : Sp) (d : Dt) : Fn yX10_question (ws_ yX10_question cX10_question 3 (some .int)) 12 274 [va_rf (some this), .int p1, .int p2] S d rvI Λw (Mo_question this p1 p2 S d) := by
  refine Fn.ofJ (own := RX10) (lv := [(0, va_rf (some this)), (1, .int p1), (2, .int p2)]) (by decide +kernel) rfl (by simp [cat_i, cat_l, cat_f, cat_d, rf_cat]) (by simp [lv_args, cat_i, cat_l, cat_f, cat_d, rf_cat]) ?_
  intro X F G hRm hR hI
  unfold Mo_question
  refine JR_aload_n (pc := 0) (k := 0) (i := 0) (o := some this) G rfl rfl dX10_question_0 ?_
  refine JR_iload_n (pc := 1) (k := 1) (i := 1) G rfl rfl dX10_question_1 ?_
  refine JR_iload_n (pc := 2) (k := 2) (i := 2) G rfl rfl dX10_question_2 ?_
  refine J_bd (fun z1 hz1 => ?_)
  refine JQV_I (pc := 3) (as := [.int p1, .int p2]) (st' := []) (o := some this) G (Mo_asksOf_fn this p1 p2 S d) (JC_V (n := 2) G hRm cl_X10 q2200 q2202 qs128 q152 q2203 ⟨rfl, dd_X10_asksOf⟩ ⟨by decide, by decide⟩ dX10_question_3 hz1 rfl (Nat.le_of_ble_eq_true rfl)) rfl (fun _ _ => rfl) (fun r2 d3 hd3 => ?_)
  refine JR_if_eq (pc := 6) (tgt := 18) G dX10_question_6 (by decide) (fun c5 => ?_) (fun c5 => ?_)
  · refine JR_bipush (pc := 18) (v := (-2)) G (by decide) dX10_question_18 ?_
    exact JR_iret (pc := 20) G hR dX10_question_20 rfl rfl
  · refine JR_aload_n (pc := 9) (k := 0) (i := 0) (o := some this) G rfl rfl dX10_question_9 ?_
    refine JR_gR (pc := 10) (k := 33) G cl_X10 in_X10 (by decide) (by decide) rfl (Or.inl rfl) q1621 hz1 dX10_question_10 ?_
    refine JR_iload_n (pc := 13) (k := 1) (i := 1) G rfl rfl dX10_question_13 ?_
    refine J_bd (fun q4 hq4 => ?_)
    refine JR_iaload (pc := 14) G hq4 dX10_question_14 ?_
    refine JR_goto (pc := 15) (tgt := 20) G dX10_question_15 (by decide) ?_
    exact JR_iret (pc := 20) G hR dX10_question_20 rfl rfl

def Mo_start (this : Nat) (p1 : Int32) (p2 : Int32) (S : Sp) (d : Dt) : Option (Int32 × Dt) :=
  (isK S 9 (some this)).bind fun z1 =>
  bind2 (Mo_asksOf this p1 p2 S d) fun r2 d3 =>
  if r2 = 0 then
    some ((-2), d3)
  else
    (aix S 50 (S.2.1 z1 28) p1).bind fun q4 =>
    some (d3.1 q4.1 q4.2, d3)
set_option maxHeartbeats 4000000 in
theorem Mo_start_fn (this : Nat) (p1 : Int32) (p2 : Int32) (S : Sp) (d : Dt) : Fn yX10_start (ws_ yX10_start cX10_start 3 (some .int)) 12 274 [va_rf (some this), .int p1, .int p2] S d rvI Λw (Mo_start this p1 p2 S d) := by
  refine Fn.ofJ (own := RX10) (lv := [(0, va_rf (some this)), (1, .int p1), (2, .int p2)]) (by decide +kernel) rfl (by simp [cat_i, cat_l, cat_f, cat_d, rf_cat]) (by simp [lv_args, cat_i, cat_l, cat_f, cat_d, rf_cat]) ?_
  intro X F G hRm hR hI
  unfold Mo_start
  refine JR_aload_n (pc := 0) (k := 0) (i := 0) (o := some this) G rfl rfl dX10_start_0 ?_
  refine JR_iload_n (pc := 1) (k := 1) (i := 1) G rfl rfl dX10_start_1 ?_
  refine JR_iload_n (pc := 2) (k := 2) (i := 2) G rfl rfl dX10_start_2 ?_
  refine J_bd (fun z1 hz1 => ?_)
  refine JQV_I (pc := 3) (as := [.int p1, .int p2]) (st' := []) (o := some this) G (Mo_asksOf_fn this p1 p2 S d) (JC_V (n := 2) G hRm cl_X10 q2200 q2202 qs128 q152 q2203 ⟨rfl, dd_X10_asksOf⟩ ⟨by decide, by decide⟩ dX10_start_3 hz1 rfl (Nat.le_of_ble_eq_true rfl)) rfl (fun _ _ => rfl) (fun r2 d3 hd3 => ?_)
  refine JR_if_eq (pc := 6) (tgt := 18) G dX10_start_6 (by decide) (fun c5 => ?_) (fun c5 => ?_)
  · refine JR_bipush (pc := 18) (v := (-2)) G (by decide) dX10_start_18 ?_
    exact JR_iret (pc := 20) G hR dX10_start_20 rfl rfl
  · refine JR_aload_n (pc := 9) (k := 0) (i := 0) (o := some this) G rfl rfl dX10_start_9 ?_
    refine JR_gR (pc := 10) (k := 28) G cl_X10 in_X10 (by decide) (by decide) rfl (Or.inl rfl) q1616 hz1 dX10_start_10 ?_
    refine JR_iload_n (pc := 13) (k := 1) (i := 1) G rfl rfl dX10_start_13 ?_
    refine J_bd (fun q4 hq4 => ?_)
    refine JR_iaload (pc := 14) G hq4 dX10_start_14 ?_
    refine JR_goto (pc := 15) (tgt := 20) G dX10_start_15 (by decide) ?_
    exact JR_iret (pc := 20) G hR dX10_start_20 rfl rfl

def Mo_memory (this : Nat) (p1 : Int32) (p2 : Int32) (S : Sp) (d : Dt) : Option (Int32 × Dt) :=
  (isK S 9 (some this)).bind fun z1 =>
  bind2 (Mo_asksOf this p1 p2 S d) fun r2 d3 =>
  if r2 = 0 then
    some ((-2), d3)
  else
    (aix S 50 (S.2.1 z1 37) p1).bind fun q4 =>
    some (d3.1 q4.1 q4.2, d3)
set_option maxHeartbeats 4000000 in
theorem Mo_memory_fn (this : Nat) (p1 : Int32) (p2 : Int32) (S : Sp) (d : Dt) : Fn yX10_memory (ws_ yX10_memory cX10_memory 3 (some .int)) 12 274 [va_rf (some this), .int p1, .int p2] S d rvI Λw (Mo_memory this p1 p2 S d) := by
  refine Fn.ofJ (own := RX10) (lv := [(0, va_rf (some this)), (1, .int p1), (2, .int p2)]) (by decide +kernel) rfl (by simp [cat_i, cat_l, cat_f, cat_d, rf_cat]) (by simp [lv_args, cat_i, cat_l, cat_f, cat_d, rf_cat]) ?_
  intro X F G hRm hR hI
  unfold Mo_memory
  refine JR_aload_n (pc := 0) (k := 0) (i := 0) (o := some this) G rfl rfl dX10_memory_0 ?_
  refine JR_iload_n (pc := 1) (k := 1) (i := 1) G rfl rfl dX10_memory_1 ?_
  refine JR_iload_n (pc := 2) (k := 2) (i := 2) G rfl rfl dX10_memory_2 ?_
  refine J_bd (fun z1 hz1 => ?_)
  refine JQV_I (pc := 3) (as := [.int p1, .int p2]) (st' := []) (o := some this) G (Mo_asksOf_fn this p1 p2 S d) (JC_V (n := 2) G hRm cl_X10 q2200 q2202 qs128 q152 q2203 ⟨rfl, dd_X10_asksOf⟩ ⟨by decide, by decide⟩ dX10_memory_3 hz1 rfl (Nat.le_of_ble_eq_true rfl)) rfl (fun _ _ => rfl) (fun r2 d3 hd3 => ?_)
  refine JR_if_eq (pc := 6) (tgt := 18) G dX10_memory_6 (by decide) (fun c5 => ?_) (fun c5 => ?_)
  · refine JR_bipush (pc := 18) (v := (-2)) G (by decide) dX10_memory_18 ?_
    exact JR_iret (pc := 20) G hR dX10_memory_20 rfl rfl
  · refine JR_aload_n (pc := 9) (k := 0) (i := 0) (o := some this) G rfl rfl dX10_memory_9 ?_
    refine JR_gR (pc := 10) (k := 37) G cl_X10 in_X10 (by decide) (by decide) rfl (Or.inl rfl) q1625 hz1 dX10_memory_10 ?_
    refine JR_iload_n (pc := 13) (k := 1) (i := 1) G rfl rfl dX10_memory_13 ?_
    refine J_bd (fun q4 hq4 => ?_)
    refine JR_iaload (pc := 14) G hq4 dX10_memory_14 ?_
    refine JR_goto (pc := 15) (tgt := 20) G dX10_memory_15 (by decide) ?_
    exact JR_iret (pc := 20) G hR dX10_memory_20 rfl rfl

def Mo_health (this : Nat) (p1 : Int32) (p2 : Int32) (S : Sp) (d : Dt) : Option (Int32 × Dt) :=
  (isK S 9 (some this)).bind fun z1 =>
  bind2 (Mo_asksOf this p1 p2 S d) fun r2 d3 =>
  if r2 = 0 then
    some ((-2), d3)
  else
    (aix S 53 (S.2.1 z1 38) p1).bind fun q4 =>
    (Jf_floatToIntBits (d3.2.1 q4.1 q4.2) S d3).bind fun r5 =>
    some (r5, d3)
set_option maxHeartbeats 4000000 in
theorem Mo_health_fn (this : Nat) (p1 : Int32) (p2 : Int32) (S : Sp) (d : Dt) : Fn yX10_health (ws_ yX10_health cX10_health 3 (some .int)) 12 274 [va_rf (some this), .int p1, .int p2] S d rvI Λw (Mo_health this p1 p2 S d) := by
  refine Fn.ofJ (own := RX10) (lv := [(0, va_rf (some this)), (1, .int p1), (2, .int p2)]) (by decide +kernel) rfl (by simp [cat_i, cat_l, cat_f, cat_d, rf_cat]) (by simp [lv_args, cat_i, cat_l, cat_f, cat_d, rf_cat]) ?_
  intro X F G hRm hR hI
  unfold Mo_health
  refine JR_aload_n (pc := 0) (k := 0) (i := 0) (o := some this) G rfl rfl dX10_health_0 ?_
  refine JR_iload_n (pc := 1) (k := 1) (i := 1) G rfl rfl dX10_health_1 ?_
  refine JR_iload_n (pc := 2) (k := 2) (i := 2) G rfl rfl dX10_health_2 ?_
  refine J_bd (fun z1 hz1 => ?_)
  refine JQV_I (pc := 3) (as := [.int p1, .int p2]) (st' := []) (o := some this) G (Mo_asksOf_fn this p1 p2 S d) (JC_V (n := 2) G hRm cl_X10 q2200 q2202 qs128 q152 q2203 ⟨rfl, dd_X10_asksOf⟩ ⟨by decide, by decide⟩ dX10_health_3 hz1 rfl (Nat.le_of_ble_eq_true rfl)) rfl (fun _ _ => rfl) (fun r2 d3 hd3 => ?_)
  refine JR_if_eq (pc := 6) (tgt := 21) G dX10_health_6 (by decide) (fun c6 => ?_) (fun c6 => ?_)
  · refine JR_bipush (pc := 21) (v := (-2)) G (by decide) dX10_health_21 ?_
    exact JR_iret (pc := 23) G hR dX10_health_23 rfl rfl
  · refine JR_aload_n (pc := 9) (k := 0) (i := 0) (o := some this) G rfl rfl dX10_health_9 ?_
    refine JR_gR (pc := 10) (k := 38) G cl_X10 in_X10 (by decide) (by decide) rfl (Or.inl rfl) q1626 hz1 dX10_health_10 ?_
    refine JR_iload_n (pc := 13) (k := 1) (i := 1) G rfl rfl dX10_health_13 ?_
    refine J_bd (fun q4 hq4 => ?_)
    refine JR_faload (pc := 14) G hq4 dX10_health_14 ?_
    refine JPS_I (pc := 15) (as := [.float (d3.2.1 q4.1 q4.2)]) (st' := []) G (Jf_floatToIntBits_fn (d3.2.1 q4.1 q4.2) S d3) (JC_S (n := 1) G hRm q2048 q1134 q169 q1135 dd_J15_floatToIntBits ⟨by decide, by decide⟩ dX10_health_15 rfl (Nat.le_of_ble_eq_true rfl)) rfl (fun r5 hr5 => ?_)
    refine JR_goto (pc := 18) (tgt := 23) G dX10_health_18 (by decide) ?_
    exact JR_iret (pc := 23) G hR dX10_health_23 rfl rfl

def Mo_tenths (this : Nat) (p1 : Int32) (p2 : Int32) (S : Sp) (d : Dt) : Option (Int32 × Dt) :=
  (isK S 9 (some this)).bind fun z1 =>
  bind2 (Mo_asksOf this p1 p2 S d) fun r2 d3 =>
  if r2 = 0 then
    some ((-2), d3)
  else
    (aix S 53 (S.2.1 z1 38) p1).bind fun q4 =>
    (gf (FP.fmul (d3.2.1 q4.1 q4.2) 1092616192)).bind fun g5 =>
    some (FP.f2i g5, d3)
set_option maxHeartbeats 4000000 in
theorem Mo_tenths_fn (this : Nat) (p1 : Int32) (p2 : Int32) (S : Sp) (d : Dt) : Fn yX10_tenths (ws_ yX10_tenths cX10_tenths 3 (some .int)) 12 274 [va_rf (some this), .int p1, .int p2] S d rvI Λw (Mo_tenths this p1 p2 S d) := by
  refine Fn.ofJ (own := RX10) (lv := [(0, va_rf (some this)), (1, .int p1), (2, .int p2)]) (by decide +kernel) rfl (by simp [cat_i, cat_l, cat_f, cat_d, rf_cat]) (by simp [lv_args, cat_i, cat_l, cat_f, cat_d, rf_cat]) ?_
  intro X F G hRm hR hI
  unfold Mo_tenths
  refine JR_aload_n (pc := 0) (k := 0) (i := 0) (o := some this) G rfl rfl dX10_tenths_0 ?_
  refine JR_iload_n (pc := 1) (k := 1) (i := 1) G rfl rfl dX10_tenths_1 ?_
  refine JR_iload_n (pc := 2) (k := 2) (i := 2) G rfl rfl dX10_tenths_2 ?_
  refine J_bd (fun z1 hz1 => ?_)
  refine JQV_I (pc := 3) (as := [.int p1, .int p2]) (st' := []) (o := some this) G (Mo_asksOf_fn this p1 p2 S d) (JC_V (n := 2) G hRm cl_X10 q2200 q2202 qs128 q152 q2203 ⟨rfl, dd_X10_asksOf⟩ ⟨by decide, by decide⟩ dX10_tenths_3 hz1 rfl (Nat.le_of_ble_eq_true rfl)) rfl (fun _ _ => rfl) (fun r2 d3 hd3 => ?_)
  refine JR_if_eq (pc := 6) (tgt := 23) G dX10_tenths_6 (by decide) (fun c6 => ?_) (fun c6 => ?_)
  · refine JR_bipush (pc := 23) (v := (-2)) G (by decide) dX10_tenths_23 ?_
    exact JR_iret (pc := 25) G hR dX10_tenths_25 rfl rfl
  · refine JR_aload_n (pc := 9) (k := 0) (i := 0) (o := some this) G rfl rfl dX10_tenths_9 ?_
    refine JR_gR (pc := 10) (k := 38) G cl_X10 in_X10 (by decide) (by decide) rfl (Or.inl rfl) q1626 hz1 dX10_tenths_10 ?_
    refine JR_iload_n (pc := 13) (k := 1) (i := 1) G rfl rfl dX10_tenths_13 ?_
    refine J_bd (fun q4 hq4 => ?_)
    refine JR_faload (pc := 14) G hq4 dX10_tenths_14 ?_
    refine JR_ldcwF (pc := 15) G q2134 dX10_tenths_15 ?_
    refine J_bd (fun g5 hg5 => ?_)
    refine JR_fmul (pc := 18) G hg5 dX10_tenths_18 ?_
    refine JR_f2i (pc := 19) G dX10_tenths_19 ?_
    refine JR_goto (pc := 20) (tgt := 25) G dX10_tenths_20 (by decide) ?_
    exact JR_iret (pc := 25) G hR dX10_tenths_25 rfl rfl

def Mo_margin (this : Nat) (p1 : Int32) (p2 : Int32) (S : Sp) (d : Dt) : Option (Int32 × Dt) :=
  (isK S 9 (some this)).bind fun z1 =>
  bind2 (Mo_asksOf this p1 p2 S d) fun r2 d3 =>
  if ¬ r2 = 0 then
    (aix S 50 (S.2.1 z1 45) p1).bind fun q4 =>
    if ¬ (d3.1 q4.1 q4.2) = 0 then
      (aix S 53 (S.2.1 z1 43) p1).bind fun q5 =>
      (Jf_floatToIntBits (d3.2.1 q5.1 q5.2) S d3).bind fun r6 =>
      some (r6, d3)
    else
      some ((-1), d3)
  else
    some ((-2), d3)
set_option maxHeartbeats 4000000 in
theorem Mo_margin_fn (this : Nat) (p1 : Int32) (p2 : Int32) (S : Sp) (d : Dt) : Fn yX10_margin (ws_ yX10_margin cX10_margin 3 (some .int)) 12 274 [va_rf (some this), .int p1, .int p2] S d rvI Λw (Mo_margin this p1 p2 S d) := by
  refine Fn.ofJ (own := RX10) (lv := [(0, va_rf (some this)), (1, .int p1), (2, .int p2)]) (by decide +kernel) rfl (by simp [cat_i, cat_l, cat_f, cat_d, rf_cat]) (by simp [lv_args, cat_i, cat_l, cat_f, cat_d, rf_cat]) ?_
  intro X F G hRm hR hI
  unfold Mo_margin
  refine JR_aload_n (pc := 0) (k := 0) (i := 0) (o := some this) G rfl rfl dX10_margin_0 ?_
  refine JR_iload_n (pc := 1) (k := 1) (i := 1) G rfl rfl dX10_margin_1 ?_
  refine JR_iload_n (pc := 2) (k := 2) (i := 2) G rfl rfl dX10_margin_2 ?_
  refine J_bd (fun z1 hz1 => ?_)
  refine JQV_I (pc := 3) (as := [.int p1, .int p2]) (st' := []) (o := some this) G (Mo_asksOf_fn this p1 p2 S d) (JC_V (n := 2) G hRm cl_X10 q2200 q2202 qs128 q152 q2203 ⟨rfl, dd_X10_asksOf⟩ ⟨by decide, by decide⟩ dX10_margin_3 hz1 rfl (Nat.le_of_ble_eq_true rfl)) rfl (fun _ _ => rfl) (fun r2 d3 hd3 => ?_)
  refine JR_if_ne (pc := 6) (tgt := 12) G dX10_margin_6 (by decide) (fun c8 => ?_) (fun c8 => ?_)
  · refine JR_aload_n (pc := 12) (k := 0) (i := 0) (o := some this) G rfl rfl dX10_margin_12 ?_
    refine JR_gR (pc := 13) (k := 45) G cl_X10 in_X10 (by decide) (by decide) rfl (Or.inl rfl) q1633 hz1 dX10_margin_13 ?_
    refine JR_iload_n (pc := 16) (k := 1) (i := 1) G rfl rfl dX10_margin_16 ?_
    refine J_bd (fun q4 hq4 => ?_)
    refine JR_iaload (pc := 17) G hq4 dX10_margin_17 ?_
    refine JR_if_ne (pc := 18) (tgt := 25) G dX10_margin_18 (by decide) (fun c7 => ?_) (fun c7 => ?_)
    · refine JR_aload_n (pc := 25) (k := 0) (i := 0) (o := some this) G rfl rfl dX10_margin_25 ?_
      refine JR_gR (pc := 26) (k := 43) G cl_X10 in_X10 (by decide) (by decide) rfl (Or.inl rfl) q1631 hz1 dX10_margin_26 ?_
      refine JR_iload_n (pc := 29) (k := 1) (i := 1) G rfl rfl dX10_margin_29 ?_
      refine J_bd (fun q5 hq5 => ?_)
      refine JR_faload (pc := 30) G hq5 dX10_margin_30 ?_
      refine JPS_I (pc := 31) (as := [.float (d3.2.1 q5.1 q5.2)]) (st' := []) G (Jf_floatToIntBits_fn (d3.2.1 q5.1 q5.2) S d3) (JC_S (n := 1) G hRm q2048 q1134 q169 q1135 dd_J15_floatToIntBits ⟨by decide, by decide⟩ dX10_margin_31 rfl (Nat.le_of_ble_eq_true rfl)) rfl (fun r6 hr6 => ?_)
      exact JR_iret (pc := 34) G hR dX10_margin_34 rfl rfl
    · refine JR_iconst (pc := 21) G ci_m1 dX10_margin_21 ?_
      refine JR_goto (pc := 22) (tgt := 34) G dX10_margin_22 (by decide) ?_
      exact JR_iret (pc := 34) G hR dX10_margin_34 rfl rfl
  · refine JR_bipush (pc := 9) (v := (-2)) G (by decide) dX10_margin_9 ?_
    exact JR_iret (pc := 11) G hR dX10_margin_11 rfl rfl

def Mo_mean (this : Nat) (p1 : Int32) (p2 : Int32) (S : Sp) (d : Dt) : Option (Int64 × Dt) :=
  (isK S 9 (some this)).bind fun z1 =>
  bind2 (Mo_asksOf this p1 p2 S d) fun r2 d3 =>
  if ¬ r2 = 0 then
    (aix S 50 (S.2.1 z1 45) p1).bind fun q4 =>
    if ¬ (d3.1 q4.1 q4.2) = 0 then
      (aix S 54 (S.2.1 z1 44) p1).bind fun q5 =>
      (gd (FP.ddiv (d3.2.2 q5.1 q5.2) (FP.i2d (d3.1 q4.1 q4.2)))).bind fun g6 =>
      (Jd_doubleToLongBits g6 S d3).bind fun r7 =>
      some (r7, d3)
    else
      some ((-1), d3)
  else
    some ((-2), d3)
set_option maxHeartbeats 4000000 in
theorem Mo_mean_fn (this : Nat) (p1 : Int32) (p2 : Int32) (S : Sp) (d : Dt) : Fn yX10_mean (ws_ yX10_mean cX10_mean 3 (some .long)) 12 274 [va_rf (some this), .int p1, .int p2] S d rvL Λw (Mo_mean this p1 p2 S d) := by
  refine Fn.ofJ (own := RX10) (lv := [(0, va_rf (some this)), (1, .int p1), (2, .int p2)]) (by decide +kernel) rfl (by simp [cat_i, cat_l, cat_f, cat_d, rf_cat]) (by simp [lv_args, cat_i, cat_l, cat_f, cat_d, rf_cat]) ?_
  intro X F G hRm hR hI
  unfold Mo_mean
  refine JR_aload_n (pc := 0) (k := 0) (i := 0) (o := some this) G rfl rfl dX10_mean_0 ?_
  refine JR_iload_n (pc := 1) (k := 1) (i := 1) G rfl rfl dX10_mean_1 ?_
  refine JR_iload_n (pc := 2) (k := 2) (i := 2) G rfl rfl dX10_mean_2 ?_
  refine J_bd (fun z1 hz1 => ?_)
  refine JQV_I (pc := 3) (as := [.int p1, .int p2]) (st' := []) (o := some this) G (Mo_asksOf_fn this p1 p2 S d) (JC_V (n := 2) G hRm cl_X10 q2200 q2202 qs128 q152 q2203 ⟨rfl, dd_X10_asksOf⟩ ⟨by decide, by decide⟩ dX10_mean_3 hz1 rfl (Nat.le_of_ble_eq_true rfl)) rfl (fun _ _ => rfl) (fun r2 d3 hd3 => ?_)
  refine JR_if_ne (pc := 6) (tgt := 13) G dX10_mean_6 (by decide) (fun c9 => ?_) (fun c9 => ?_)
  · refine JR_aload_n (pc := 13) (k := 0) (i := 0) (o := some this) G rfl rfl dX10_mean_13 ?_
    refine JR_gR (pc := 14) (k := 45) G cl_X10 in_X10 (by decide) (by decide) rfl (Or.inl rfl) q1633 hz1 dX10_mean_14 ?_
    refine JR_iload_n (pc := 17) (k := 1) (i := 1) G rfl rfl dX10_mean_17 ?_
    refine J_bd (fun q4 hq4 => ?_)
    refine JR_iaload (pc := 18) G hq4 dX10_mean_18 ?_
    refine JR_if_ne (pc := 19) (tgt := 28) G dX10_mean_19 (by decide) (fun c8 => ?_) (fun c8 => ?_)
    · refine JR_aload_n (pc := 28) (k := 0) (i := 0) (o := some this) G rfl rfl dX10_mean_28 ?_
      refine JR_gR (pc := 29) (k := 44) G cl_X10 in_X10 (by decide) (by decide) rfl (Or.inl rfl) q1632 hz1 dX10_mean_29 ?_
      refine JR_iload_n (pc := 32) (k := 1) (i := 1) G rfl rfl dX10_mean_32 ?_
      refine J_bd (fun q5 hq5 => ?_)
      refine JR_daload (pc := 33) G hq5 dX10_mean_33 ?_
      refine JR_aload_n (pc := 34) (k := 0) (i := 0) (o := some this) G rfl rfl dX10_mean_34 ?_
      refine JR_gR (pc := 35) (k := 45) G cl_X10 in_X10 (by decide) (by decide) rfl (Or.inl rfl) q1633 hz1 dX10_mean_35 ?_
      refine JR_iload_n (pc := 38) (k := 1) (i := 1) G rfl rfl dX10_mean_38 ?_
      refine JR_iaload (pc := 39) G hq4 dX10_mean_39 ?_
      refine JR_i2d (pc := 40) G dX10_mean_40 ?_
      refine J_bd (fun g6 hg6 => ?_)
      refine JR_ddiv (pc := 41) G hg6 dX10_mean_41 ?_
      refine JPS_L (pc := 42) (as := [.double g6]) (st' := []) G (Jd_doubleToLongBits_fn g6 S d3) (JC_S (n := 1) G hRm q2250 q1367 q171 q1368 dd_J16_doubleToLongBits ⟨by decide, by decide⟩ dX10_mean_42 rfl (Nat.le_of_ble_eq_true rfl)) rfl (fun r7 hr7 => ?_)
      exact JR_lret (pc := 45) G hR dX10_mean_45 rfl rfl
    · refine JR_ldc2 (pc := 22) G q2249 dX10_mean_22 ?_
      refine JR_goto (pc := 25) (tgt := 45) G dX10_mean_25 (by decide) ?_
      exact JR_lret (pc := 45) G hR dX10_mean_45 rfl rfl
  · refine JR_ldc2 (pc := 9) G q2248 dX10_mean_9 ?_
    exact JR_lret (pc := 12) G hR dX10_mean_12 rfl rfl

def Mo_faults (this : Nat) (p1 : Int32) (S : Sp) (d : Dt) : Option (Int32 × Dt) :=
  (isK S 9 (some this)).bind fun z1 =>
  bind2 (Mo_asksAt this p1 S d) fun r2 d3 =>
  if r2 = 0 then
    some ((-2), d3)
  else
    some (d3.1 z1 56, d3)
set_option maxHeartbeats 4000000 in
theorem Mo_faults_fn (this : Nat) (p1 : Int32) (S : Sp) (d : Dt) : Fn yX10_faults (ws_ yX10_faults cX10_faults 2 (some .int)) 11 252 [va_rf (some this), .int p1] S d rvI Λw (Mo_faults this p1 S d) := by
  refine Fn.ofJ (own := RX10) (lv := [(0, va_rf (some this)), (1, .int p1)]) (by decide +kernel) rfl (by simp [cat_i, cat_l, cat_f, cat_d, rf_cat]) (by simp [lv_args, cat_i, cat_l, cat_f, cat_d, rf_cat]) ?_
  intro X F G hRm hR hI
  unfold Mo_faults
  refine JR_aload_n (pc := 0) (k := 0) (i := 0) (o := some this) G rfl rfl dX10_faults_0 ?_
  refine JR_iload_n (pc := 1) (k := 1) (i := 1) G rfl rfl dX10_faults_1 ?_
  refine J_bd (fun z1 hz1 => ?_)
  refine JQV_I (pc := 2) (as := [.int p1]) (st' := []) (o := some this) G (Mo_asksAt_fn this p1 S d) (JC_V (n := 1) G hRm cl_X10 q2188 q2190 qs126 q152 q2191 ⟨rfl, dd_X10_asksAt⟩ ⟨by decide, by decide⟩ dX10_faults_2 hz1 rfl (Nat.le_of_ble_eq_true rfl)) rfl (fun _ _ => rfl) (fun r2 d3 hd3 => ?_)
  refine JR_if_eq (pc := 5) (tgt := 15) G dX10_faults_5 (by decide) (fun c4 => ?_) (fun c4 => ?_)
  · refine JR_bipush (pc := 15) (v := (-2)) G (by decide) dX10_faults_15 ?_
    exact JR_iret (pc := 17) G hR dX10_faults_17 rfl rfl
  · refine JR_aload_n (pc := 8) (k := 0) (i := 0) (o := some this) G rfl rfl dX10_faults_8 ?_
    refine JR_gI (pc := 9) (k := 56) G cl_X10 in_X10 (by decide) (by decide) rfl (Or.inl rfl) q1644 hz1 dX10_faults_9 ?_
    refine JR_goto (pc := 12) (tgt := 17) G dX10_faults_12 (by decide) ?_
    exact JR_iret (pc := 17) G hR dX10_faults_17 rfl rfl

def Mo_record (this : Nat) (p1 : Int32) (p2 : Int32) (S : Sp) (d : Dt) : Option (Int32 × Dt) :=
  if p1 < 0 then
    some ((-2), d)
  else
    (Mo_in (Int32.toInt64 p2) 0 3 S d).bind fun r1 =>
    if r1 = 0 then
      some ((-2), d)
    else
      (isK S 9 (some this)).bind fun z2 =>
      bind2 (Mo_asks this S d) fun r3 d4 =>
      if ¬ r3 = 0 then
        if p1 < (d4.1 z2 56) then
          if ¬ p2 = 0 then
            if ¬ p2 = 1 then
              if ¬ p2 = 2 then
                (aix S 50 (S.2.1 z2 55) p1).bind fun q5 =>
                some (d4.1 q5.1 q5.2, d4)
              else
                (aix S 50 (S.2.1 z2 54) p1).bind fun q6 =>
                some (d4.1 q6.1 q6.2, d4)
            else
              (aix S 50 (S.2.1 z2 53) p1).bind fun q8 =>
              some (d4.1 q8.1 q8.2, d4)
          else
            (aix S 50 (S.2.1 z2 52) p1).bind fun q10 =>
            some (d4.1 q10.1 q10.2, d4)
        else
          some ((-1), d4)
      else
        some ((-2), d4)
set_option maxHeartbeats 4000000 in
theorem Mo_record_fn (this : Nat) (p1 : Int32) (p2 : Int32) (S : Sp) (d : Dt) : Fn yX10_record (ws_ yX10_record cX10_record 3 (some .int)) 11 251 [va_rf (some this), .int p1, .int p2] S d rvI Λw (Mo_record this p1 p2 S d) := by
  refine Fn.ofJ (own := RX10) (lv := [(0, va_rf (some this)), (1, .int p1), (2, .int p2)]) (by decide +kernel) rfl (by simp [cat_i, cat_l, cat_f, cat_d, rf_cat]) (by simp [lv_args, cat_i, cat_l, cat_f, cat_d, rf_cat]) ?_
  intro X F G hRm hR hI
  unfold Mo_record
  refine JR_iload_n (pc := 0) (k := 1) (i := 1) G rfl rfl dX10_record_0 ?_
  refine JR_if_lt (pc := 1) (tgt := 23) G dX10_record_1 (by decide) (fun c15 => ?_) (fun c15 => ?_)
  · refine JR_bipush (pc := 23) (v := (-2)) G (by decide) dX10_record_23 ?_
    exact JR_iret (pc := 25) G hR dX10_record_25 rfl rfl
  · refine JR_iload_n (pc := 4) (k := 2) (i := 2) G rfl rfl dX10_record_4 ?_
    refine JR_i2l (pc := 5) G dX10_record_5 ?_
    refine JR_lconst (pc := 6) G cl_0 dX10_record_6 ?_
    refine JR_ldc2 (pc := 7) G q2003 dX10_record_7 ?_
    refine JPS_I (pc := 10) (as := [.long (Int32.toInt64 p2), .long 0, .long 3]) (st' := []) G (Mo_in_fn (Int32.toInt64 p2) 0 3 S d) (JC_S (n := 3) G hRm q1782 q1783 q152 q1784 dd_X10_in ⟨by decide, by decide⟩ dX10_record_10 rfl (Nat.le_of_ble_eq_true rfl)) rfl (fun r1 hr1 => ?_)
    refine JR_if_eq (pc := 13) (tgt := 23) G dX10_record_13 (by decide) (fun c14 => ?_) (fun c14 => ?_)
    · refine JR_bipush (pc := 23) (v := (-2)) G (by decide) dX10_record_23 ?_
      exact JR_iret (pc := 25) G hR dX10_record_25 rfl rfl
    · refine JR_aload_n (pc := 16) (k := 0) (i := 0) (o := some this) G rfl rfl dX10_record_16 ?_
      refine J_bd (fun z2 hz2 => ?_)
      refine JQV_I (pc := 17) (as := []) (st' := []) (o := some this) G (Mo_asks_fn this S d) (JC_V (n := 0) G hRm cl_X10 q2078 q2080 qs100 q152 q2081 ⟨rfl, dd_X10_asks⟩ ⟨by decide, by decide⟩ dX10_record_17 hz2 rfl (Nat.le_of_ble_eq_true rfl)) rfl (fun _ _ => rfl) (fun r3 d4 hd4 => ?_)
      refine JR_if_ne (pc := 20) (tgt := 26) G dX10_record_20 (by decide) (fun c13 => ?_) (fun c13 => ?_)
      · refine JR_iload_n (pc := 26) (k := 1) (i := 1) G rfl rfl dX10_record_26 ?_
        refine JR_aload_n (pc := 27) (k := 0) (i := 0) (o := some this) G rfl rfl dX10_record_27 ?_
        refine JR_gI (pc := 28) (k := 56) G cl_X10 in_X10 (by decide) (by decide) rfl (Or.inl rfl) q1644 hz2 dX10_record_28 ?_
        refine JR_icmp_lt (pc := 31) (tgt := 36) G dX10_record_31 (by decide) (fun c12 => ?_) (fun c12 => ?_)
        · refine JR_iload_n (pc := 36) (k := 2) (i := 2) G rfl rfl dX10_record_36 ?_
          refine JR_if_ne (pc := 37) (tgt := 49) G dX10_record_37 (by decide) (fun c11 => ?_) (fun c11 => ?_)
          · refine JR_iload_n (pc := 49) (k := 2) (i := 2) G rfl rfl dX10_record_49 ?_
            refine JR_iconst (pc := 50) G ci_1 dX10_record_50 ?_
            refine JR_icmp_ne (pc := 51) (tgt := 63) G dX10_record_51 (by decide) (fun c9 => ?_) (fun c9 => ?_)
            · refine JR_iload_n (pc := 63) (k := 2) (i := 2) G rfl rfl dX10_record_63 ?_
              refine JR_iconst (pc := 64) G ci_2 dX10_record_64 ?_
              refine JR_icmp_ne (pc := 65) (tgt := 77) G dX10_record_65 (by decide) (fun c7 => ?_) (fun c7 => ?_)
              · refine JR_aload_n (pc := 77) (k := 0) (i := 0) (o := some this) G rfl rfl dX10_record_77 ?_
                refine JR_gR (pc := 78) (k := 55) G cl_X10 in_X10 (by decide) (by decide) rfl (Or.inl rfl) q1643 hz2 dX10_record_78 ?_
                refine JR_iload_n (pc := 81) (k := 1) (i := 1) G rfl rfl dX10_record_81 ?_
                refine J_bd (fun q5 hq5 => ?_)
                refine JR_iaload (pc := 82) G hq5 dX10_record_82 ?_
                exact JR_iret (pc := 83) G hR dX10_record_83 rfl rfl
              · refine JR_aload_n (pc := 68) (k := 0) (i := 0) (o := some this) G rfl rfl dX10_record_68 ?_
                refine JR_gR (pc := 69) (k := 54) G cl_X10 in_X10 (by decide) (by decide) rfl (Or.inl rfl) q1642 hz2 dX10_record_69 ?_
                refine JR_iload_n (pc := 72) (k := 1) (i := 1) G rfl rfl dX10_record_72 ?_
                refine J_bd (fun q6 hq6 => ?_)
                refine JR_iaload (pc := 73) G hq6 dX10_record_73 ?_
                refine JR_goto (pc := 74) (tgt := 83) G dX10_record_74 (by decide) ?_
                exact JR_iret (pc := 83) G hR dX10_record_83 rfl rfl
            · refine JR_aload_n (pc := 54) (k := 0) (i := 0) (o := some this) G rfl rfl dX10_record_54 ?_
              refine JR_gR (pc := 55) (k := 53) G cl_X10 in_X10 (by decide) (by decide) rfl (Or.inl rfl) q1641 hz2 dX10_record_55 ?_
              refine JR_iload_n (pc := 58) (k := 1) (i := 1) G rfl rfl dX10_record_58 ?_
              refine J_bd (fun q8 hq8 => ?_)
              refine JR_iaload (pc := 59) G hq8 dX10_record_59 ?_
              refine JR_goto (pc := 60) (tgt := 83) G dX10_record_60 (by decide) ?_
              exact JR_iret (pc := 83) G hR dX10_record_83 rfl rfl
          · refine JR_aload_n (pc := 40) (k := 0) (i := 0) (o := some this) G rfl rfl dX10_record_40 ?_
            refine JR_gR (pc := 41) (k := 52) G cl_X10 in_X10 (by decide) (by decide) rfl (Or.inl rfl) q1640 hz2 dX10_record_41 ?_
            refine JR_iload_n (pc := 44) (k := 1) (i := 1) G rfl rfl dX10_record_44 ?_
            refine J_bd (fun q10 hq10 => ?_)
            refine JR_iaload (pc := 45) G hq10 dX10_record_45 ?_
            refine JR_goto (pc := 46) (tgt := 83) G dX10_record_46 (by decide) ?_
            exact JR_iret (pc := 83) G hR dX10_record_83 rfl rfl
        · refine JR_iconst (pc := 34) G ci_m1 dX10_record_34 ?_
          exact JR_iret (pc := 35) G hR dX10_record_35 rfl rfl
      · refine JR_bipush (pc := 23) (v := (-2)) G (by decide) dX10_record_23 ?_
        exact JR_iret (pc := 25) G hR dX10_record_25 rfl rfl

def Mo_ledger_b66 (this : Nat) (p1 : Int32) (S : Sp) (k24 : Int32 → Int32 → Dt → Option (Int32 × Dt)) (v3 : Int32) (s0 : Int32) (s1 : Int32) (d : Dt) : Option (Int32 × Dt) :=
  (some (s1 + s0)).bind fun x13 =>
  k24 x13 (v3 + 1) d
def Mo_ledger_b58 (this : Nat) (p1 : Int32) (S : Sp) (k24 : Int32 → Int32 → Dt → Option (Int32 × Dt)) (v3 : Int32) (s0 : Int32) (s1 : Int32) (s2 : Int32) (d : Dt) : Option (Int32 × Dt) :=
  Mo_ledger_b66 this p1 S k24 v3 (if ¬ s1 = s0 then 0 else 1) s2 d
def Mo_ledger_b48 (this : Nat) (p1 : Int32) (S : Sp) (k24 : Int32 → Int32 → Dt → Option (Int32 × Dt)) (v3 : Int32) (s0 : Int32) (s1 : Int32) (d : Dt) : Option (Int32 × Dt) :=
  Mo_ledger_b58 this p1 S k24 v3 (if ¬ p1 = 1 then 0 else 1) s0 s1 d
def Mo_ledger_h24 (this : Nat) (p1 : Int32) (S : Sp) : Nat → Int32 → Int32 → Dt → Option (Int32 × Dt)
  | 0, _, _, _ => none
  | f + 1, v2, v3, d =>
    (isK S 9 (some this)).bind fun z7 =>
    if (d.1 z7 56) ≤ v3 then
      some (v2, d)
    else
      (aix S 50 (S.2.1 z7 53) v3).bind fun q8 =>
      Mo_ledger_b48 this p1 S (Mo_ledger_h24 this p1 S f) v3 (if (d.1 q8.1 q8.2) ≤ 5 then 0 else 1) v2 d
def Mo_ledger (this : Nat) (p1 : Int32) (S : Sp) (d : Dt) : Option (Int32 × Dt) :=
  (Mo_in (Int32.toInt64 p1) 0 1 S d).bind fun r1 =>
  if r1 = 0 then
    some ((-2), d)
  else
    (isK S 9 (some this)).bind fun z2 =>
    bind2 (Mo_asks this S d) fun r3 d4 =>
    if ¬ r3 = 0 then
      Mo_ledger_h24 this p1 S FU 0 0 d4
    else
      some ((-2), d4)
set_option maxHeartbeats 4000000 in
theorem Mo_ledger_fn (this : Nat) (p1 : Int32) (S : Sp) (d : Dt) : Fn yX10_ledger (ws_ yX10_ledger cX10_ledger 4 (some .int)) 11 251 [va_rf (some this), .int p1] S d rvI Λw (Mo_ledger this p1 S d) := by
  refine Fn.ofJ (own := RX10) (lv := [(0, va_rf (some this)), (1, .int p1)]) (by decide +kernel) rfl (by simp [cat_i, cat_l, cat_f, cat_d, rf_cat]) (by simp [lv_args, cat_i, cat_l, cat_f, cat_d, rf_cat]) ?_
  intro X F G hRm hR hI
  have hMo_ledger_b66 : ∀ (k24 : Int32 → Int32 → Dt → Option (Int32 × Dt)) (hk24 : ∀ (v2 : Int32) (v3 : Int32) (d : Dt), J X F Λw S d 24 [(0, va_rf (some this)), (1, .int p1), (2, .int v2), (3, .int v3)] [] (k24 v2 v3 d)) (v3 : Int32) (s0 : Int32) (s1 : Int32) (d : Dt), J X F Λw S d 66 [(0, va_rf (some this)), (1, .int p1), (3, .int v3)] [.int s0, .int s1] (Mo_ledger_b66 this p1 S k24 v3 s0 s1 d) := by
    intro k24 hk24 v3 s0 s1 d
    unfold Mo_ledger_b66
    refine JR_iadd (pc := 66) G dX10_ledger_66 ?_
    refine J_nm (fun x13 hx13 => ?_)
    refine JR_istore_n (pc := 67) (k := 2) (i := 2) (lv' := [(2, .int x13), (0, va_rf (some this)), (1, .int p1), (3, .int v3)]) G rfl (by decide) rfl dX10_ledger_67 ?_
    refine JR_iinc (pc := 68) (i := 3) (v := v3 + 1) (lv' := [(3, .int (v3 + 1)), (2, .int x13), (0, va_rf (some this)), (1, .int p1)]) G rfl (congrArg (fun z => v3 + z) (by decide)) (by decide) rfl dX10_ledger_68 ?_
    refine JR_goto (pc := 71) (tgt := 24) G dX10_ledger_71 (by decide) ?_
    refine J_sub [2, 3, 1, 0] rfl ?_
    exact hk24 x13 (v3 + 1) d
  have hMo_ledger_b58 : ∀ (k24 : Int32 → Int32 → Dt → Option (Int32 × Dt)) (hk24 : ∀ (v2 : Int32) (v3 : Int32) (d : Dt), J X F Λw S d 24 [(0, va_rf (some this)), (1, .int p1), (2, .int v2), (3, .int v3)] [] (k24 v2 v3 d)) (v3 : Int32) (s0 : Int32) (s1 : Int32) (s2 : Int32) (d : Dt), J X F Λw S d 58 [(0, va_rf (some this)), (1, .int p1), (3, .int v3)] [.int s0, .int s1, .int s2] (Mo_ledger_b58 this p1 S k24 v3 s0 s1 s2 d) := by
    intro k24 hk24 v3 s0 s1 s2 d
    unfold Mo_ledger_b58
    refine J_eq (r' := if ¬ s1 = s0 then Mo_ledger_b66 this p1 S k24 v3 0 s2 d else Mo_ledger_b66 this p1 S k24 v3 1 s2 d) (by split <;> rfl) ?_
    refine JR_icmp_ne (pc := 58) (tgt := 65) G dX10_ledger_58 (by decide) (fun c12 => ?_) (fun c12 => ?_)
    · refine JR_iconst (pc := 65) G ci_0 dX10_ledger_65 ?_
      exact hMo_ledger_b66 k24 hk24 v3 0 s2 d
    · refine JR_iconst (pc := 61) G ci_1 dX10_ledger_61 ?_
      refine JR_goto (pc := 62) (tgt := 66) G dX10_ledger_62 (by decide) ?_
      exact hMo_ledger_b66 k24 hk24 v3 1 s2 d
  have hMo_ledger_b48 : ∀ (k24 : Int32 → Int32 → Dt → Option (Int32 × Dt)) (hk24 : ∀ (v2 : Int32) (v3 : Int32) (d : Dt), J X F Λw S d 24 [(0, va_rf (some this)), (1, .int p1), (2, .int v2), (3, .int v3)] [] (k24 v2 v3 d)) (v3 : Int32) (s0 : Int32) (s1 : Int32) (d : Dt), J X F Λw S d 48 [(0, va_rf (some this)), (1, .int p1), (3, .int v3)] [.int s0, .int s1] (Mo_ledger_b48 this p1 S k24 v3 s0 s1 d) := by
    intro k24 hk24 v3 s0 s1 d
    unfold Mo_ledger_b48
    refine JR_iload_n (pc := 48) (k := 1) (i := 1) G rfl rfl dX10_ledger_48 ?_
    refine JR_iconst (pc := 49) G ci_1 dX10_ledger_49 ?_
    refine J_eq (r' := if ¬ p1 = 1 then Mo_ledger_b58 this p1 S k24 v3 0 s0 s1 d else Mo_ledger_b58 this p1 S k24 v3 1 s0 s1 d) (by split <;> rfl) ?_
    refine JR_icmp_ne (pc := 50) (tgt := 57) G dX10_ledger_50 (by decide) (fun c11 => ?_) (fun c11 => ?_)
    · refine JR_iconst (pc := 57) G ci_0 dX10_ledger_57 ?_
      exact hMo_ledger_b58 k24 hk24 v3 0 s0 s1 d
    · refine JR_iconst (pc := 53) G ci_1 dX10_ledger_53 ?_
      refine JR_goto (pc := 54) (tgt := 58) G dX10_ledger_54 (by decide) ?_
      exact hMo_ledger_b58 k24 hk24 v3 1 s0 s1 d
  have hMo_ledger_h24 : ∀ (f : Nat) (v2 : Int32) (v3 : Int32) (d : Dt), J X F Λw S d 24 [(0, va_rf (some this)), (1, .int p1), (2, .int v2), (3, .int v3)] [] (Mo_ledger_h24 this p1 S f v2 v3 d) := by
    intro  f
    induction f with
    | zero => intro v2 v3 d; exact J_no
    | succ f ih =>
      intro v2 v3 d
      unfold Mo_ledger_h24
      refine JR_iload_n (pc := 24) (k := 3) (i := 3) G rfl rfl dX10_ledger_24 ?_
      refine JR_aload_n (pc := 25) (k := 0) (i := 0) (o := some this) G rfl rfl dX10_ledger_25 ?_
      refine J_bd (fun z7 hz7 => ?_)
      refine JR_gI (pc := 26) (k := 56) G cl_X10 in_X10 (by decide) (by decide) rfl (Or.inl rfl) q1644 hz7 dX10_ledger_26 ?_
      refine JR_icmp_ge (pc := 29) (tgt := 74) G dX10_ledger_29 (by decide) (fun c10 => ?_) (fun c10 => ?_)
      · refine JR_iload_n (pc := 74) (k := 2) (i := 2) G rfl rfl dX10_ledger_74 ?_
        exact JR_iret (pc := 75) G hR dX10_ledger_75 rfl rfl
      · refine JR_iload_n (pc := 32) (k := 2) (i := 2) G rfl rfl dX10_ledger_32 ?_
        refine JR_aload_n (pc := 33) (k := 0) (i := 0) (o := some this) G rfl rfl dX10_ledger_33 ?_
        refine JR_gR (pc := 34) (k := 53) G cl_X10 in_X10 (by decide) (by decide) rfl (Or.inl rfl) q1641 hz7 dX10_ledger_34 ?_
        refine JR_iload_n (pc := 37) (k := 3) (i := 3) G rfl rfl dX10_ledger_37 ?_
        refine J_bd (fun q8 hq8 => ?_)
        refine JR_iaload (pc := 38) G hq8 dX10_ledger_38 ?_
        refine JR_iconst (pc := 39) G ci_5 dX10_ledger_39 ?_
        refine J_eq (r' := if (d.1 q8.1 q8.2) ≤ 5 then Mo_ledger_b48 this p1 S (Mo_ledger_h24 this p1 S f) v3 0 v2 d else Mo_ledger_b48 this p1 S (Mo_ledger_h24 this p1 S f) v3 1 v2 d) (by split <;> rfl) ?_
        refine JR_icmp_le (pc := 40) (tgt := 47) G dX10_ledger_40 (by decide) (fun c9 => ?_) (fun c9 => ?_)
        · refine JR_iconst (pc := 47) G ci_0 dX10_ledger_47 ?_
          refine J_sub [0, 1, 3] rfl ?_
          exact hMo_ledger_b48 (Mo_ledger_h24 this p1 S f) ih v3 0 v2 d
        · refine JR_iconst (pc := 43) G ci_1 dX10_ledger_43 ?_
          refine JR_goto (pc := 44) (tgt := 48) G dX10_ledger_44 (by decide) ?_
          refine J_sub [0, 1, 3] rfl ?_
          exact hMo_ledger_b48 (Mo_ledger_h24 this p1 S f) ih v3 1 v2 d
  unfold Mo_ledger
  refine JR_iload_n (pc := 0) (k := 1) (i := 1) G rfl rfl dX10_ledger_0 ?_
  refine JR_i2l (pc := 1) G dX10_ledger_1 ?_
  refine JR_lconst (pc := 2) G cl_0 dX10_ledger_2 ?_
  refine JR_lconst (pc := 3) G cl_1 dX10_ledger_3 ?_
  refine JPS_I (pc := 4) (as := [.long (Int32.toInt64 p1), .long 0, .long 1]) (st' := []) G (Mo_in_fn (Int32.toInt64 p1) 0 1 S d) (JC_S (n := 3) G hRm q1782 q1783 q152 q1784 dd_X10_in ⟨by decide, by decide⟩ dX10_ledger_4 rfl (Nat.le_of_ble_eq_true rfl)) rfl (fun r1 hr1 => ?_)
  refine JR_if_eq (pc := 7) (tgt := 17) G dX10_ledger_7 (by decide) (fun c6 => ?_) (fun c6 => ?_)
  · refine JR_bipush (pc := 17) (v := (-2)) G (by decide) dX10_ledger_17 ?_
    exact JR_iret (pc := 19) G hR dX10_ledger_19 rfl rfl
  · refine JR_aload_n (pc := 10) (k := 0) (i := 0) (o := some this) G rfl rfl dX10_ledger_10 ?_
    refine J_bd (fun z2 hz2 => ?_)
    refine JQV_I (pc := 11) (as := []) (st' := []) (o := some this) G (Mo_asks_fn this S d) (JC_V (n := 0) G hRm cl_X10 q2078 q2080 qs100 q152 q2081 ⟨rfl, dd_X10_asks⟩ ⟨by decide, by decide⟩ dX10_ledger_11 hz2 rfl (Nat.le_of_ble_eq_true rfl)) rfl (fun _ _ => rfl) (fun r3 d4 hd4 => ?_)
    refine JR_if_ne (pc := 14) (tgt := 20) G dX10_ledger_14 (by decide) (fun c5 => ?_) (fun c5 => ?_)
    · refine JR_iconst (pc := 20) G ci_0 dX10_ledger_20 ?_
      refine JR_istore_n (pc := 21) (k := 2) (i := 2) (lv' := [(2, .int 0), (0, va_rf (some this)), (1, .int p1)]) G rfl (by decide) rfl dX10_ledger_21 ?_
      refine JR_iconst (pc := 22) G ci_0 dX10_ledger_22 ?_
      refine JR_istore_n (pc := 23) (k := 3) (i := 3) (lv' := [(3, .int 0), (2, .int 0), (0, va_rf (some this)), (1, .int p1)]) G rfl (by decide) rfl dX10_ledger_23 ?_
      refine J_sub [2, 3, 1, 0] rfl ?_
      exact hMo_ledger_h24 FU 0 0 d4
    · refine JR_bipush (pc := 17) (v := (-2)) G (by decide) dX10_ledger_17 ?_
      exact JR_iret (pc := 19) G hR dX10_ledger_19 rfl rfl

def Mo_kinds_b50 (this : Nat) (p1 : Int32) (S : Sp) (k26 : Int32 → Int32 → Dt → Option (Int32 × Dt)) (v3 : Int32) (s0 : Int32) (s1 : Int32) (d : Dt) : Option (Int32 × Dt) :=
  (some (s1 + s0)).bind fun x11 =>
  k26 x11 (v3 + 1) d
def Mo_kinds_h26 (this : Nat) (p1 : Int32) (S : Sp) : Nat → Int32 → Int32 → Dt → Option (Int32 × Dt)
  | 0, _, _, _ => none
  | f + 1, v2, v3, d =>
    (isK S 9 (some this)).bind fun z7 =>
    if (d.1 z7 56) ≤ v3 then
      some (v2, d)
    else
      (aix S 50 (S.2.1 z7 53) v3).bind fun q8 =>
      Mo_kinds_b50 this p1 S (Mo_kinds_h26 this p1 S f) v3 (if ¬ (d.1 q8.1 q8.2) = p1 then 0 else 1) v2 d
def Mo_kinds (this : Nat) (p1 : Int32) (S : Sp) (d : Dt) : Option (Int32 × Dt) :=
  (Mo_in (Int32.toInt64 p1) 1 7 S d).bind fun r1 =>
  if r1 = 0 then
    some ((-2), d)
  else
    (isK S 9 (some this)).bind fun z2 =>
    bind2 (Mo_asks this S d) fun r3 d4 =>
    if ¬ r3 = 0 then
      Mo_kinds_h26 this p1 S FU 0 0 d4
    else
      some ((-2), d4)
set_option maxHeartbeats 4000000 in
theorem Mo_kinds_fn (this : Nat) (p1 : Int32) (S : Sp) (d : Dt) : Fn yX10_kinds (ws_ yX10_kinds cX10_kinds 4 (some .int)) 11 251 [va_rf (some this), .int p1] S d rvI Λw (Mo_kinds this p1 S d) := by
  refine Fn.ofJ (own := RX10) (lv := [(0, va_rf (some this)), (1, .int p1)]) (by decide +kernel) rfl (by simp [cat_i, cat_l, cat_f, cat_d, rf_cat]) (by simp [lv_args, cat_i, cat_l, cat_f, cat_d, rf_cat]) ?_
  intro X F G hRm hR hI
  have hMo_kinds_b50 : ∀ (k26 : Int32 → Int32 → Dt → Option (Int32 × Dt)) (hk26 : ∀ (v2 : Int32) (v3 : Int32) (d : Dt), J X F Λw S d 26 [(0, va_rf (some this)), (1, .int p1), (2, .int v2), (3, .int v3)] [] (k26 v2 v3 d)) (v3 : Int32) (s0 : Int32) (s1 : Int32) (d : Dt), J X F Λw S d 50 [(0, va_rf (some this)), (1, .int p1), (3, .int v3)] [.int s0, .int s1] (Mo_kinds_b50 this p1 S k26 v3 s0 s1 d) := by
    intro k26 hk26 v3 s0 s1 d
    unfold Mo_kinds_b50
    refine JR_iadd (pc := 50) G dX10_kinds_50 ?_
    refine J_nm (fun x11 hx11 => ?_)
    refine JR_istore_n (pc := 51) (k := 2) (i := 2) (lv' := [(2, .int x11), (0, va_rf (some this)), (1, .int p1), (3, .int v3)]) G rfl (by decide) rfl dX10_kinds_51 ?_
    refine JR_iinc (pc := 52) (i := 3) (v := v3 + 1) (lv' := [(3, .int (v3 + 1)), (2, .int x11), (0, va_rf (some this)), (1, .int p1)]) G rfl (congrArg (fun z => v3 + z) (by decide)) (by decide) rfl dX10_kinds_52 ?_
    refine JR_goto (pc := 55) (tgt := 26) G dX10_kinds_55 (by decide) ?_
    refine J_sub [2, 3, 1, 0] rfl ?_
    exact hk26 x11 (v3 + 1) d
  have hMo_kinds_h26 : ∀ (f : Nat) (v2 : Int32) (v3 : Int32) (d : Dt), J X F Λw S d 26 [(0, va_rf (some this)), (1, .int p1), (2, .int v2), (3, .int v3)] [] (Mo_kinds_h26 this p1 S f v2 v3 d) := by
    intro  f
    induction f with
    | zero => intro v2 v3 d; exact J_no
    | succ f ih =>
      intro v2 v3 d
      unfold Mo_kinds_h26
      refine JR_iload_n (pc := 26) (k := 3) (i := 3) G rfl rfl dX10_kinds_26 ?_
      refine JR_aload_n (pc := 27) (k := 0) (i := 0) (o := some this) G rfl rfl dX10_kinds_27 ?_
      refine J_bd (fun z7 hz7 => ?_)
      refine JR_gI (pc := 28) (k := 56) G cl_X10 in_X10 (by decide) (by decide) rfl (Or.inl rfl) q1644 hz7 dX10_kinds_28 ?_
      refine JR_icmp_ge (pc := 31) (tgt := 58) G dX10_kinds_31 (by decide) (fun c10 => ?_) (fun c10 => ?_)
      · refine JR_iload_n (pc := 58) (k := 2) (i := 2) G rfl rfl dX10_kinds_58 ?_
        exact JR_iret (pc := 59) G hR dX10_kinds_59 rfl rfl
      · refine JR_iload_n (pc := 34) (k := 2) (i := 2) G rfl rfl dX10_kinds_34 ?_
        refine JR_aload_n (pc := 35) (k := 0) (i := 0) (o := some this) G rfl rfl dX10_kinds_35 ?_
        refine JR_gR (pc := 36) (k := 53) G cl_X10 in_X10 (by decide) (by decide) rfl (Or.inl rfl) q1641 hz7 dX10_kinds_36 ?_
        refine JR_iload_n (pc := 39) (k := 3) (i := 3) G rfl rfl dX10_kinds_39 ?_
        refine J_bd (fun q8 hq8 => ?_)
        refine JR_iaload (pc := 40) G hq8 dX10_kinds_40 ?_
        refine JR_iload_n (pc := 41) (k := 1) (i := 1) G rfl rfl dX10_kinds_41 ?_
        refine J_eq (r' := if ¬ (d.1 q8.1 q8.2) = p1 then Mo_kinds_b50 this p1 S (Mo_kinds_h26 this p1 S f) v3 0 v2 d else Mo_kinds_b50 this p1 S (Mo_kinds_h26 this p1 S f) v3 1 v2 d) (by split <;> rfl) ?_
        refine JR_icmp_ne (pc := 42) (tgt := 49) G dX10_kinds_42 (by decide) (fun c9 => ?_) (fun c9 => ?_)
        · refine JR_iconst (pc := 49) G ci_0 dX10_kinds_49 ?_
          refine J_sub [0, 1, 3] rfl ?_
          exact hMo_kinds_b50 (Mo_kinds_h26 this p1 S f) ih v3 0 v2 d
        · refine JR_iconst (pc := 45) G ci_1 dX10_kinds_45 ?_
          refine JR_goto (pc := 46) (tgt := 50) G dX10_kinds_46 (by decide) ?_
          refine J_sub [0, 1, 3] rfl ?_
          exact hMo_kinds_b50 (Mo_kinds_h26 this p1 S f) ih v3 1 v2 d
  unfold Mo_kinds
  refine JR_iload_n (pc := 0) (k := 1) (i := 1) G rfl rfl dX10_kinds_0 ?_
  refine JR_i2l (pc := 1) G dX10_kinds_1 ?_
  refine JR_lconst (pc := 2) G cl_1 dX10_kinds_2 ?_
  refine JR_ldc2 (pc := 3) G q2267 dX10_kinds_3 ?_
  refine JPS_I (pc := 6) (as := [.long (Int32.toInt64 p1), .long 1, .long 7]) (st' := []) G (Mo_in_fn (Int32.toInt64 p1) 1 7 S d) (JC_S (n := 3) G hRm q1782 q1783 q152 q1784 dd_X10_in ⟨by decide, by decide⟩ dX10_kinds_6 rfl (Nat.le_of_ble_eq_true rfl)) rfl (fun r1 hr1 => ?_)
  refine JR_if_eq (pc := 9) (tgt := 19) G dX10_kinds_9 (by decide) (fun c6 => ?_) (fun c6 => ?_)
  · refine JR_bipush (pc := 19) (v := (-2)) G (by decide) dX10_kinds_19 ?_
    exact JR_iret (pc := 21) G hR dX10_kinds_21 rfl rfl
  · refine JR_aload_n (pc := 12) (k := 0) (i := 0) (o := some this) G rfl rfl dX10_kinds_12 ?_
    refine J_bd (fun z2 hz2 => ?_)
    refine JQV_I (pc := 13) (as := []) (st' := []) (o := some this) G (Mo_asks_fn this S d) (JC_V (n := 0) G hRm cl_X10 q2078 q2080 qs100 q152 q2081 ⟨rfl, dd_X10_asks⟩ ⟨by decide, by decide⟩ dX10_kinds_13 hz2 rfl (Nat.le_of_ble_eq_true rfl)) rfl (fun _ _ => rfl) (fun r3 d4 hd4 => ?_)
    refine JR_if_ne (pc := 16) (tgt := 22) G dX10_kinds_16 (by decide) (fun c5 => ?_) (fun c5 => ?_)
    · refine JR_iconst (pc := 22) G ci_0 dX10_kinds_22 ?_
      refine JR_istore_n (pc := 23) (k := 2) (i := 2) (lv' := [(2, .int 0), (0, va_rf (some this)), (1, .int p1)]) G rfl (by decide) rfl dX10_kinds_23 ?_
      refine JR_iconst (pc := 24) G ci_0 dX10_kinds_24 ?_
      refine JR_istore_n (pc := 25) (k := 3) (i := 3) (lv' := [(3, .int 0), (2, .int 0), (0, va_rf (some this)), (1, .int p1)]) G rfl (by decide) rfl dX10_kinds_25 ?_
      refine J_sub [2, 3, 1, 0] rfl ?_
      exact hMo_kinds_h26 FU 0 0 d4
    · refine JR_bipush (pc := 19) (v := (-2)) G (by decide) dX10_kinds_19 ?_
      exact JR_iret (pc := 21) G hR dX10_kinds_21 rfl rfl

def Mo_levels_b54 (this : Nat) (p1 : Int32) (p2 : Int32) (S : Sp) (k28 : Int32 → Int32 → Dt → Option (Int32 × Dt)) (v4 : Int32) (s0 : Int32) (s1 : Int32) (d : Dt) : Option (Int32 × Dt) :=
  (some (s1 + s0)).bind fun x11 =>
  k28 x11 (v4 + 1) d
def Mo_levels_h28 (this : Nat) (p1 : Int32) (p2 : Int32) (S : Sp) : Nat → Int32 → Int32 → Dt → Option (Int32 × Dt)
  | 0, _, _, _ => none
  | f + 1, v3, v4, d =>
    (isK S 9 (some this)).bind fun z7 =>
    if (d.1 z7 56) ≤ v4 then
      some (v3, d)
    else
      (aix S 50 (S.2.1 z7 55) v4).bind fun q8 =>
      Mo_levels_b54 this p1 p2 S (Mo_levels_h28 this p1 p2 S f) v4 (if ¬ (d.1 q8.1 q8.2) = p1 then 0 else 1) v3 d
def Mo_levels (this : Nat) (p1 : Int32) (p2 : Int32) (S : Sp) (d : Dt) : Option (Int32 × Dt) :=
  (Mo_in (Int32.toInt64 p1) 0 3 S d).bind fun r1 =>
  if r1 = 0 then
    some ((-2), d)
  else
    (isK S 9 (some this)).bind fun z2 =>
    bind2 (Mo_asksAt this p2 S d) fun r3 d4 =>
    if ¬ r3 = 0 then
      Mo_levels_h28 this p1 p2 S FU 0 0 d4
    else
      some ((-2), d4)
set_option maxHeartbeats 4000000 in
theorem Mo_levels_fn (this : Nat) (p1 : Int32) (p2 : Int32) (S : Sp) (d : Dt) : Fn yX10_levels (ws_ yX10_levels cX10_levels 5 (some .int)) 11 252 [va_rf (some this), .int p1, .int p2] S d rvI Λw (Mo_levels this p1 p2 S d) := by
  refine Fn.ofJ (own := RX10) (lv := [(0, va_rf (some this)), (1, .int p1), (2, .int p2)]) (by decide +kernel) rfl (by simp [cat_i, cat_l, cat_f, cat_d, rf_cat]) (by simp [lv_args, cat_i, cat_l, cat_f, cat_d, rf_cat]) ?_
  intro X F G hRm hR hI
  have hMo_levels_b54 : ∀ (k28 : Int32 → Int32 → Dt → Option (Int32 × Dt)) (hk28 : ∀ (v3 : Int32) (v4 : Int32) (d : Dt), J X F Λw S d 28 [(0, va_rf (some this)), (1, .int p1), (2, .int p2), (3, .int v3), (4, .int v4)] [] (k28 v3 v4 d)) (v4 : Int32) (s0 : Int32) (s1 : Int32) (d : Dt), J X F Λw S d 54 [(0, va_rf (some this)), (1, .int p1), (2, .int p2), (4, .int v4)] [.int s0, .int s1] (Mo_levels_b54 this p1 p2 S k28 v4 s0 s1 d) := by
    intro k28 hk28 v4 s0 s1 d
    unfold Mo_levels_b54
    refine JR_iadd (pc := 54) G dX10_levels_54 ?_
    refine J_nm (fun x11 hx11 => ?_)
    refine JR_istore_n (pc := 55) (k := 3) (i := 3) (lv' := [(3, .int x11), (0, va_rf (some this)), (1, .int p1), (2, .int p2), (4, .int v4)]) G rfl (by decide) rfl dX10_levels_55 ?_
    refine JR_iinc (pc := 56) (i := 4) (v := v4 + 1) (lv' := [(4, .int (v4 + 1)), (3, .int x11), (0, va_rf (some this)), (1, .int p1), (2, .int p2)]) G rfl (congrArg (fun z => v4 + z) (by decide)) (by decide) rfl dX10_levels_56 ?_
    refine JR_goto (pc := 59) (tgt := 28) G dX10_levels_59 (by decide) ?_
    refine J_sub [2, 3, 4, 1, 0] rfl ?_
    exact hk28 x11 (v4 + 1) d
  have hMo_levels_h28 : ∀ (f : Nat) (v3 : Int32) (v4 : Int32) (d : Dt), J X F Λw S d 28 [(0, va_rf (some this)), (1, .int p1), (2, .int p2), (3, .int v3), (4, .int v4)] [] (Mo_levels_h28 this p1 p2 S f v3 v4 d) := by
    intro  f
    induction f with
    | zero => intro v3 v4 d; exact J_no
    | succ f ih =>
      intro v3 v4 d
      unfold Mo_levels_h28
      refine JR_iload (pc := 28) (i := 4) G rfl dX10_levels_28 ?_
      refine JR_aload_n (pc := 30) (k := 0) (i := 0) (o := some this) G rfl rfl dX10_levels_30 ?_
      refine J_bd (fun z7 hz7 => ?_)
      refine JR_gI (pc := 31) (k := 56) G cl_X10 in_X10 (by decide) (by decide) rfl (Or.inl rfl) q1644 hz7 dX10_levels_31 ?_
      refine JR_icmp_ge (pc := 34) (tgt := 62) G dX10_levels_34 (by decide) (fun c10 => ?_) (fun c10 => ?_)
      · refine JR_iload_n (pc := 62) (k := 3) (i := 3) G rfl rfl dX10_levels_62 ?_
        exact JR_iret (pc := 63) G hR dX10_levels_63 rfl rfl
      · refine JR_iload_n (pc := 37) (k := 3) (i := 3) G rfl rfl dX10_levels_37 ?_
        refine JR_aload_n (pc := 38) (k := 0) (i := 0) (o := some this) G rfl rfl dX10_levels_38 ?_
        refine JR_gR (pc := 39) (k := 55) G cl_X10 in_X10 (by decide) (by decide) rfl (Or.inl rfl) q1643 hz7 dX10_levels_39 ?_
        refine JR_iload (pc := 42) (i := 4) G rfl dX10_levels_42 ?_
        refine J_bd (fun q8 hq8 => ?_)
        refine JR_iaload (pc := 44) G hq8 dX10_levels_44 ?_
        refine JR_iload_n (pc := 45) (k := 1) (i := 1) G rfl rfl dX10_levels_45 ?_
        refine J_eq (r' := if ¬ (d.1 q8.1 q8.2) = p1 then Mo_levels_b54 this p1 p2 S (Mo_levels_h28 this p1 p2 S f) v4 0 v3 d else Mo_levels_b54 this p1 p2 S (Mo_levels_h28 this p1 p2 S f) v4 1 v3 d) (by split <;> rfl) ?_
        refine JR_icmp_ne (pc := 46) (tgt := 53) G dX10_levels_46 (by decide) (fun c9 => ?_) (fun c9 => ?_)
        · refine JR_iconst (pc := 53) G ci_0 dX10_levels_53 ?_
          refine J_sub [0, 1, 2, 4] rfl ?_
          exact hMo_levels_b54 (Mo_levels_h28 this p1 p2 S f) ih v4 0 v3 d
        · refine JR_iconst (pc := 49) G ci_1 dX10_levels_49 ?_
          refine JR_goto (pc := 50) (tgt := 54) G dX10_levels_50 (by decide) ?_
          refine J_sub [0, 1, 2, 4] rfl ?_
          exact hMo_levels_b54 (Mo_levels_h28 this p1 p2 S f) ih v4 1 v3 d
  unfold Mo_levels
  refine JR_iload_n (pc := 0) (k := 1) (i := 1) G rfl rfl dX10_levels_0 ?_
  refine JR_i2l (pc := 1) G dX10_levels_1 ?_
  refine JR_lconst (pc := 2) G cl_0 dX10_levels_2 ?_
  refine JR_ldc2 (pc := 3) G q2003 dX10_levels_3 ?_
  refine JPS_I (pc := 6) (as := [.long (Int32.toInt64 p1), .long 0, .long 3]) (st' := []) G (Mo_in_fn (Int32.toInt64 p1) 0 3 S d) (JC_S (n := 3) G hRm q1782 q1783 q152 q1784 dd_X10_in ⟨by decide, by decide⟩ dX10_levels_6 rfl (Nat.le_of_ble_eq_true rfl)) rfl (fun r1 hr1 => ?_)
  refine JR_if_eq (pc := 9) (tgt := 20) G dX10_levels_9 (by decide) (fun c6 => ?_) (fun c6 => ?_)
  · refine JR_bipush (pc := 20) (v := (-2)) G (by decide) dX10_levels_20 ?_
    exact JR_iret (pc := 22) G hR dX10_levels_22 rfl rfl
  · refine JR_aload_n (pc := 12) (k := 0) (i := 0) (o := some this) G rfl rfl dX10_levels_12 ?_
    refine JR_iload_n (pc := 13) (k := 2) (i := 2) G rfl rfl dX10_levels_13 ?_
    refine J_bd (fun z2 hz2 => ?_)
    refine JQV_I (pc := 14) (as := [.int p2]) (st' := []) (o := some this) G (Mo_asksAt_fn this p2 S d) (JC_V (n := 1) G hRm cl_X10 q2188 q2190 qs126 q152 q2191 ⟨rfl, dd_X10_asksAt⟩ ⟨by decide, by decide⟩ dX10_levels_14 hz2 rfl (Nat.le_of_ble_eq_true rfl)) rfl (fun _ _ => rfl) (fun r3 d4 hd4 => ?_)
    refine JR_if_ne (pc := 17) (tgt := 23) G dX10_levels_17 (by decide) (fun c5 => ?_) (fun c5 => ?_)
    · refine JR_iconst (pc := 23) G ci_0 dX10_levels_23 ?_
      refine JR_istore_n (pc := 24) (k := 3) (i := 3) (lv' := [(3, .int 0), (0, va_rf (some this)), (1, .int p1), (2, .int p2)]) G rfl (by decide) rfl dX10_levels_24 ?_
      refine JR_iconst (pc := 25) G ci_0 dX10_levels_25 ?_
      refine JR_istore (pc := 26) (i := 4) (lv' := [(4, .int 0), (3, .int 0), (0, va_rf (some this)), (1, .int p1), (2, .int p2)]) G (by decide) rfl dX10_levels_26 ?_
      refine J_sub [2, 3, 4, 1, 0] rfl ?_
      exact hMo_levels_h28 FU 0 0 d4
    · refine JR_bipush (pc := 20) (v := (-2)) G (by decide) dX10_levels_20 ?_
      exact JR_iret (pc := 22) G hR dX10_levels_22 rfl rfl

def Mo_halts (this : Nat) (S : Sp) (d : Dt) : Option (Int32 × Dt) :=
  (isK S 9 (some this)).bind fun z1 =>
  bind2 (Mo_asks this S d) fun r2 d3 =>
  if r2 = 0 then
    some ((-2), d3)
  else
    some (d3.1 z1 59, d3)
set_option maxHeartbeats 4000000 in
theorem Mo_halts_fn (this : Nat) (S : Sp) (d : Dt) : Fn yX10_halts (ws_ yX10_halts cX10_halts 1 (some .int)) 11 251 [va_rf (some this)] S d rvI Λw (Mo_halts this S d) := by
  refine Fn.ofJ (own := RX10) (lv := [(0, va_rf (some this))]) (by decide +kernel) rfl (by simp [cat_i, cat_l, cat_f, cat_d, rf_cat]) (by simp [lv_args, cat_i, cat_l, cat_f, cat_d, rf_cat]) ?_
  intro X F G hRm hR hI
  unfold Mo_halts
  refine JR_aload_n (pc := 0) (k := 0) (i := 0) (o := some this) G rfl rfl dX10_halts_0 ?_
  refine J_bd (fun z1 hz1 => ?_)
  refine JQV_I (pc := 1) (as := []) (st' := []) (o := some this) G (Mo_asks_fn this S d) (JC_V (n := 0) G hRm cl_X10 q2078 q2080 qs100 q152 q2081 ⟨rfl, dd_X10_asks⟩ ⟨by decide, by decide⟩ dX10_halts_1 hz1 rfl (Nat.le_of_ble_eq_true rfl)) rfl (fun _ _ => rfl) (fun r2 d3 hd3 => ?_)
  refine JR_if_eq (pc := 4) (tgt := 14) G dX10_halts_4 (by decide) (fun c4 => ?_) (fun c4 => ?_)
  · refine JR_bipush (pc := 14) (v := (-2)) G (by decide) dX10_halts_14 ?_
    exact JR_iret (pc := 16) G hR dX10_halts_16 rfl rfl
  · refine JR_aload_n (pc := 7) (k := 0) (i := 0) (o := some this) G rfl rfl dX10_halts_7 ?_
    refine JR_gI (pc := 8) (k := 59) G cl_X10 in_X10 (by decide) (by decide) rfl (Or.inl rfl) q1647 hz1 dX10_halts_8 ?_
    refine JR_goto (pc := 11) (tgt := 16) G dX10_halts_11 (by decide) ?_
    exact JR_iret (pc := 16) G hR dX10_halts_16 rfl rfl

def Mo_sleeps (this : Nat) (p1 : Int32) (p2 : Int32) (S : Sp) (d : Dt) : Option (Int32 × Dt) :=
  (isK S 9 (some this)).bind fun z1 =>
  (Mo_isWatcher this p1 S d).bind fun r2 =>
  if r2 = 0 then
    some ((-2), d)
  else
    bind2 (Mo_asksAt this p2 S d) fun r3 d4 =>
    if ¬ r3 = 0 then
      (Mo_isAsleep this p1 p2 S d4).bind fun r5 =>
      if r5 = 0 then
        some (0, d4)
      else
        some (1, d4)
    else
      some ((-2), d4)
set_option maxHeartbeats 4000000 in
theorem Mo_sleeps_fn (this : Nat) (p1 : Int32) (p2 : Int32) (S : Sp) (d : Dt) : Fn yX10_sleeps (ws_ yX10_sleeps cX10_sleeps 3 (some .int)) 11 252 [va_rf (some this), .int p1, .int p2] S d rvI Λw (Mo_sleeps this p1 p2 S d) := by
  refine Fn.ofJ (own := RX10) (lv := [(0, va_rf (some this)), (1, .int p1), (2, .int p2)]) (by decide +kernel) rfl (by simp [cat_i, cat_l, cat_f, cat_d, rf_cat]) (by simp [lv_args, cat_i, cat_l, cat_f, cat_d, rf_cat]) ?_
  intro X F G hRm hR hI
  unfold Mo_sleeps
  refine JR_aload_n (pc := 0) (k := 0) (i := 0) (o := some this) G rfl rfl dX10_sleeps_0 ?_
  refine JR_iload_n (pc := 1) (k := 1) (i := 1) G rfl rfl dX10_sleeps_1 ?_
  refine J_bd (fun z1 hz1 => ?_)
  refine JPV_I (pc := 2) (as := [.int p1]) (st' := []) (o := some this) G (Mo_isWatcher_fn this p1 S d) (JC_V (n := 1) G hRm cl_X10 q1949 q1951 qs84 q152 q1952 ⟨rfl, dd_X10_isWatcher⟩ ⟨by decide, by decide⟩ dX10_sleeps_2 hz1 rfl (Nat.le_of_ble_eq_true rfl)) rfl (fun r2 hr2 => ?_)
  refine JR_if_eq (pc := 5) (tgt := 16) G dX10_sleeps_5 (by decide) (fun c8 => ?_) (fun c8 => ?_)
  · refine JR_bipush (pc := 16) (v := (-2)) G (by decide) dX10_sleeps_16 ?_
    exact JR_iret (pc := 18) G hR dX10_sleeps_18 rfl rfl
  · refine JR_aload_n (pc := 8) (k := 0) (i := 0) (o := some this) G rfl rfl dX10_sleeps_8 ?_
    refine JR_iload_n (pc := 9) (k := 2) (i := 2) G rfl rfl dX10_sleeps_9 ?_
    refine JQV_I (pc := 10) (as := [.int p2]) (st' := []) (o := some this) G (Mo_asksAt_fn this p2 S d) (JC_V (n := 1) G hRm cl_X10 q2188 q2190 qs126 q152 q2191 ⟨rfl, dd_X10_asksAt⟩ ⟨by decide, by decide⟩ dX10_sleeps_10 hz1 rfl (Nat.le_of_ble_eq_true rfl)) rfl (fun _ _ => rfl) (fun r3 d4 hd4 => ?_)
    refine JR_if_ne (pc := 13) (tgt := 19) G dX10_sleeps_13 (by decide) (fun c7 => ?_) (fun c7 => ?_)
    · refine JR_aload_n (pc := 19) (k := 0) (i := 0) (o := some this) G rfl rfl dX10_sleeps_19 ?_
      refine JR_iload_n (pc := 20) (k := 1) (i := 1) G rfl rfl dX10_sleeps_20 ?_
      refine JR_iload_n (pc := 21) (k := 2) (i := 2) G rfl rfl dX10_sleeps_21 ?_
      refine JPV_I (pc := 22) (as := [.int p1, .int p2]) (st' := []) (o := some this) G (Mo_isAsleep_fn this p1 p2 S d4) (JC_V (n := 2) G hRm cl_X10 q2172 q2174 qs123 q152 q2175 ⟨rfl, dd_X10_isAsleep⟩ ⟨by decide, by decide⟩ dX10_sleeps_22 hz1 rfl (Nat.le_of_ble_eq_true rfl)) rfl (fun r5 hr5 => ?_)
      refine JR_if_eq (pc := 25) (tgt := 32) G dX10_sleeps_25 (by decide) (fun c6 => ?_) (fun c6 => ?_)
      · refine JR_iconst (pc := 32) G ci_0 dX10_sleeps_32 ?_
        exact JR_iret (pc := 33) G hR dX10_sleeps_33 rfl rfl
      · refine JR_iconst (pc := 28) G ci_1 dX10_sleeps_28 ?_
        refine JR_goto (pc := 29) (tgt := 33) G dX10_sleeps_29 (by decide) ?_
        exact JR_iret (pc := 33) G hR dX10_sleeps_33 rfl rfl
    · refine JR_bipush (pc := 16) (v := (-2)) G (by decide) dX10_sleeps_16 ?_
      exact JR_iret (pc := 18) G hR dX10_sleeps_18 rfl rfl

def Mo_isInjection (this : Nat) (p1 : Int32) (S : Sp) (d : Dt) : Option Int32 :=
  (isK S 9 (some this)).bind fun z1 =>
  (Mo_many this S d).bind fun r2 =>
  (Mo_in (Int32.toInt64 p1) 0 (Int32.toInt64 (r2 - 1)) S d).bind fun r3 =>
  (gb r3).bind fun b4 =>
  some b4
set_option maxHeartbeats 4000000 in
theorem Mo_isInjection_fn (this : Nat) (p1 : Int32) (S : Sp) (d : Dt) : Fn yX10_isInjection (ws_ yX10_isInjection cX10_isInjection 2 (some .boolean)) 1 25 [va_rf (some this), .int p1] S d rvI Λp (Mo_isInjection this p1 S d) := by
  refine Fn.ofJ (own := RX10) (lv := [(0, va_rf (some this)), (1, .int p1)]) (by decide +kernel) rfl (by simp [cat_i, cat_l, cat_f, cat_d, rf_cat]) (by simp [lv_args, cat_i, cat_l, cat_f, cat_d, rf_cat]) ?_
  intro X F G hRm hR hI
  unfold Mo_isInjection
  refine JR_iload_n (pc := 0) (k := 1) (i := 1) G rfl rfl dX10_isInjection_0 ?_
  refine JR_i2l (pc := 1) G dX10_isInjection_1 ?_
  refine JR_lconst (pc := 2) G cl_0 dX10_isInjection_2 ?_
  refine JR_aload_n (pc := 3) (k := 0) (i := 0) (o := some this) G rfl rfl dX10_isInjection_3 ?_
  refine J_bd (fun z1 hz1 => ?_)
  refine JPV_I (pc := 4) (as := []) (st' := [.long 0, .long (Int32.toInt64 p1)]) (o := some this) G (Mo_many_fn this S d) (JC_V (n := 0) G hRm cl_X10 q1957 q1959 qs85 q152 q1960 ⟨rfl, dd_X10_many⟩ ⟨by decide, by decide⟩ dX10_isInjection_4 hz1 rfl (Nat.le_of_ble_eq_true rfl)) rfl (fun r2 hr2 => ?_)
  refine JR_iconst (pc := 7) G ci_1 dX10_isInjection_7 ?_
  refine JR_isub (pc := 8) G dX10_isInjection_8 ?_
  refine JR_i2l (pc := 9) G dX10_isInjection_9 ?_
  refine JPS_I (pc := 10) (as := [.long (Int32.toInt64 p1), .long 0, .long (Int32.toInt64 (r2 - 1))]) (st' := []) G (Mo_in_fn (Int32.toInt64 p1) 0 (Int32.toInt64 (r2 - 1)) S d) (JC_S (n := 3) G hRm q1782 q1783 q152 q1784 dd_X10_in ⟨by decide, by decide⟩ dX10_isInjection_10 rfl (Nat.le_of_ble_eq_true rfl)) rfl (fun r3 hr3 => ?_)
  refine J_bd (fun b4 hb4 => ?_)
  refine J_stk (st' := [.int b4]) (by rw [(gb_at hb4).1]) ?_
  exact JR_zret (pc := 13) G hR dX10_isInjection_13 (by have h9 := gb_at hb4; rw [h9.1]; exact h9.2) rfl rfl

def Mo_caughtIn_b153 (this : Nat) (p1 : Int32) (S : Sp) (d : Dt) (k65 : Int32 → Int32 → Int32 → Int32 → Option (Int32)) (v2 : Int32) (v3 : Int32) (v4 : Int32) (v5 : Int32) (s0 : Int32) : Option Int32 :=
  if s0 = 0 then
    k65 v2 v3 v4 (v5 + 1)
  else
    (isK S 9 (some this)).bind fun z23 =>
    (aix S 50 (S.2.1 z23 52) v5).bind fun q24 =>
    if (d.1 q24.1 q24.2) < v4 then
      k65 v2 v3 v4 (v5 + 1)
    else
      some ((d.1 q24.1 q24.2) - v4)
def Mo_caughtIn_b117 (this : Nat) (p1 : Int32) (S : Sp) (d : Dt) (k65 : Int32 → Int32 → Int32 → Int32 → Option (Int32)) (v2 : Int32) (v3 : Int32) (v4 : Int32) (v5 : Int32) : Option Int32 :=
  Mo_caughtIn_b153 this p1 S d k65 v2 v3 v4 v5 1
def Mo_caughtIn_b121 (this : Nat) (p1 : Int32) (S : Sp) (d : Dt) (k65 : Int32 → Int32 → Int32 → Int32 → Option (Int32)) (v2 : Int32) (v3 : Int32) (v4 : Int32) (v5 : Int32) : Option Int32 :=
  Mo_caughtIn_b153 this p1 S d k65 v2 v3 v4 v5 0
def Mo_caughtIn_b101 (this : Nat) (p1 : Int32) (S : Sp) (d : Dt) (k65 : Int32 → Int32 → Int32 → Int32 → Option (Int32)) (v2 : Int32) (v3 : Int32) (v4 : Int32) (v5 : Int32) : Option Int32 :=
  (isK S 9 (some this)).bind fun z27 =>
  (aix S 50 (S.2.1 z27 53) v5).bind fun q28 =>
  if ¬ (d.1 q28.1 q28.2) = 7 then
    Mo_caughtIn_b121 this p1 S d k65 v2 v3 v4 v5
  else
    if ¬ v2 = 0 then
      Mo_caughtIn_b121 this p1 S d k65 v2 v3 v4 v5
    else
      Mo_caughtIn_b117 this p1 S d k65 v2 v3 v4 v5
def Mo_caughtIn_b152 (this : Nat) (p1 : Int32) (S : Sp) (d : Dt) (k65 : Int32 → Int32 → Int32 → Int32 → Option (Int32)) (v2 : Int32) (v3 : Int32) (v4 : Int32) (v5 : Int32) : Option Int32 :=
  Mo_caughtIn_b153 this p1 S d k65 v2 v3 v4 v5 0
def Mo_caughtIn_h65 (this : Nat) (p1 : Int32) (S : Sp) (d : Dt) : Nat → Int32 → Int32 → Int32 → Int32 → Option Int32
  | 0, _, _, _, _ => none
  | f + 1, v2, v3, v4, v5 =>
    (isK S 9 (some this)).bind fun z12 =>
    if (d.1 z12 56) ≤ v5 then
      some ((-1))
    else
      if v3 = 0 then
        (aix S 50 (S.2.1 z12 53) v5).bind fun q13 =>
        if 6 ≤ (d.1 q13.1 q13.2) then
          Mo_caughtIn_b152 this p1 S d (Mo_caughtIn_h65 this p1 S d f) v2 v3 v4 v5
        else
          (aix S 50 (S.2.1 z12 54) v5).bind fun q14 =>
          if ¬ (d.1 q14.1 q14.2) = v2 then
            Mo_caughtIn_b152 this p1 S d (Mo_caughtIn_h65 this p1 S d f) v2 v3 v4 v5
          else
            Mo_caughtIn_b153 this p1 S d (Mo_caughtIn_h65 this p1 S d f) v2 v3 v4 v5 1
      else
        (aix S 50 (S.2.1 z12 53) v5).bind fun q17 =>
        if ¬ (d.1 q17.1 q17.2) = 6 then
          Mo_caughtIn_b101 this p1 S d (Mo_caughtIn_h65 this p1 S d f) v2 v3 v4 v5
        else
          (aix S 50 (S.2.1 z12 54) v5).bind fun q18 =>
          if (d.1 q18.1 q18.2) = v2 then
            Mo_caughtIn_b117 this p1 S d (Mo_caughtIn_h65 this p1 S d f) v2 v3 v4 v5
          else
            Mo_caughtIn_b101 this p1 S d (Mo_caughtIn_h65 this p1 S d f) v2 v3 v4 v5
def Mo_caughtIn_b52 (this : Nat) (p1 : Int32) (S : Sp) (d : Dt) (v2 : Int32) (v3 : Int32) (s0 : Int32) : Option Int32 :=
  if ¬ s0 = ((-1)) then
    Mo_caughtIn_h65 this p1 S d FU v2 v3 s0 0
  else
    some ((-1))
def Mo_caughtIn_b22 (this : Nat) (p1 : Int32) (S : Sp) (d : Dt) (v2 : Int32) (s0 : Int32) : Option Int32 :=
  if s0 = 0 then
    (isK S 9 (some this)).bind fun z5 =>
    (Mo_of this p1 2 S d).bind fun r6 =>
    (aix S 50 (S.2.1 z5 47) ((51 * v2) + r6)).bind fun q7 =>
    Mo_caughtIn_b52 this p1 S d v2 s0 (d.1 q7.1 q7.2)
  else
    (isK S 9 (some this)).bind fun z8 =>
    (Mo_of this p1 2 S d).bind fun r9 =>
    Mo_caughtIn_b52 this p1 S d v2 s0 r9
def Mo_caughtIn (this : Nat) (p1 : Int32) (S : Sp) (d : Dt) : Option Int32 :=
  (isK S 9 (some this)).bind fun z1 =>
  (Mo_of this p1 1 S d).bind fun r2 =>
  (Mo_of this p1 0 S d).bind fun r3 =>
  Mo_caughtIn_b22 this p1 S d r2 (if ¬ r3 = 5 then 0 else 1)
set_option maxHeartbeats 4000000 in
theorem Mo_caughtIn_fn (this : Nat) (p1 : Int32) (S : Sp) (d : Dt) : Fn yX10_caughtIn (ws_ yX10_caughtIn cX10_caughtIn 7 (some .int)) 1 22 [va_rf (some this), .int p1] S d rvI Λp (Mo_caughtIn this p1 S d) := by
  refine Fn.ofJ (own := RX10) (lv := [(0, va_rf (some this)), (1, .int p1)]) (by decide +kernel) rfl (by simp [cat_i, cat_l, cat_f, cat_d, rf_cat]) (by simp [lv_args, cat_i, cat_l, cat_f, cat_d, rf_cat]) ?_
  intro X F G hRm hR hI
  have hMo_caughtIn_b153 : ∀ (k65 : Int32 → Int32 → Int32 → Int32 → Option (Int32)) (hk65 : ∀ (v2 : Int32) (v3 : Int32) (v4 : Int32) (v5 : Int32), J X F Λp S d 65 [(0, va_rf (some this)), (1, .int p1), (2, .int v2), (3, .int v3), (4, .int v4), (5, .int v5)] [] (k65 v2 v3 v4 v5)) (v2 : Int32) (v3 : Int32) (v4 : Int32) (v5 : Int32) (s0 : Int32), J X F Λp S d 153 [(0, va_rf (some this)), (1, .int p1), (2, .int v2), (3, .int v3), (4, .int v4), (5, .int v5)] [.int s0] (Mo_caughtIn_b153 this p1 S d k65 v2 v3 v4 v5 s0) := by
    intro k65 hk65 v2 v3 v4 v5 s0
    unfold Mo_caughtIn_b153
    refine JR_istore (pc := 153) (i := 6) (lv' := [(6, .int s0), (0, va_rf (some this)), (1, .int p1), (2, .int v2), (3, .int v3), (4, .int v4), (5, .int v5)]) G (by decide) rfl dX10_caughtIn_153 ?_
    refine JR_iload (pc := 155) (i := 6) G rfl dX10_caughtIn_155 ?_
    refine JR_if_eq (pc := 157) (tgt := 183) G dX10_caughtIn_157 (by decide) (fun c26 => ?_) (fun c26 => ?_)
    · refine JR_iinc (pc := 183) (i := 5) (v := v5 + 1) (lv' := [(5, .int (v5 + 1)), (6, .int s0), (0, va_rf (some this)), (1, .int p1), (2, .int v2), (3, .int v3), (4, .int v4)]) G rfl (congrArg (fun z => v5 + z) (by decide)) (by decide) rfl dX10_caughtIn_183 ?_
      refine JR_goto (pc := 186) (tgt := 65) G dX10_caughtIn_186 (by decide) ?_
      refine J_sub [2, 3, 4, 5, 6, 0] rfl ?_
      exact hk65 v2 v3 v4 (v5 + 1)
    · refine JR_aload_n (pc := 160) (k := 0) (i := 0) (o := some this) G rfl rfl dX10_caughtIn_160 ?_
      refine J_bd (fun z23 hz23 => ?_)
      refine JR_gR (pc := 161) (k := 52) G cl_X10 in_X10 (by decide) (by decide) rfl (Or.inl rfl) q1640 hz23 dX10_caughtIn_161 ?_
      refine JR_iload (pc := 164) (i := 5) G rfl dX10_caughtIn_164 ?_
      refine J_bd (fun q24 hq24 => ?_)
      refine JR_iaload (pc := 166) G hq24 dX10_caughtIn_166 ?_
      refine JR_iload (pc := 167) (i := 4) G rfl dX10_caughtIn_167 ?_
      refine JR_icmp_lt (pc := 169) (tgt := 183) G dX10_caughtIn_169 (by decide) (fun c25 => ?_) (fun c25 => ?_)
      · refine JR_iinc (pc := 183) (i := 5) (v := v5 + 1) (lv' := [(5, .int (v5 + 1)), (6, .int s0), (0, va_rf (some this)), (1, .int p1), (2, .int v2), (3, .int v3), (4, .int v4)]) G rfl (congrArg (fun z => v5 + z) (by decide)) (by decide) rfl dX10_caughtIn_183 ?_
        refine JR_goto (pc := 186) (tgt := 65) G dX10_caughtIn_186 (by decide) ?_
        refine J_sub [2, 3, 4, 5, 6, 0] rfl ?_
        exact hk65 v2 v3 v4 (v5 + 1)
      · refine JR_aload_n (pc := 172) (k := 0) (i := 0) (o := some this) G rfl rfl dX10_caughtIn_172 ?_
        refine JR_gR (pc := 173) (k := 52) G cl_X10 in_X10 (by decide) (by decide) rfl (Or.inl rfl) q1640 hz23 dX10_caughtIn_173 ?_
        refine JR_iload (pc := 176) (i := 5) G rfl dX10_caughtIn_176 ?_
        refine JR_iaload (pc := 178) G hq24 dX10_caughtIn_178 ?_
        refine JR_iload (pc := 179) (i := 4) G rfl dX10_caughtIn_179 ?_
        refine JR_isub (pc := 181) G dX10_caughtIn_181 ?_
        exact JR_iret (pc := 182) G hR dX10_caughtIn_182 rfl rfl
  have hMo_caughtIn_b117 : ∀ (k65 : Int32 → Int32 → Int32 → Int32 → Option (Int32)) (hk65 : ∀ (v2 : Int32) (v3 : Int32) (v4 : Int32) (v5 : Int32), J X F Λp S d 65 [(0, va_rf (some this)), (1, .int p1), (2, .int v2), (3, .int v3), (4, .int v4), (5, .int v5)] [] (k65 v2 v3 v4 v5)) (v2 : Int32) (v3 : Int32) (v4 : Int32) (v5 : Int32), J X F Λp S d 117 [(0, va_rf (some this)), (1, .int p1), (2, .int v2), (3, .int v3), (4, .int v4), (5, .int v5)] [] (Mo_caughtIn_b117 this p1 S d k65 v2 v3 v4 v5) := by
    intro k65 hk65 v2 v3 v4 v5
    unfold Mo_caughtIn_b117
    refine JR_iconst (pc := 117) G ci_1 dX10_caughtIn_117 ?_
    refine JR_goto (pc := 118) (tgt := 153) G dX10_caughtIn_118 (by decide) ?_
    exact hMo_caughtIn_b153 k65 hk65 v2 v3 v4 v5 1
  have hMo_caughtIn_b121 : ∀ (k65 : Int32 → Int32 → Int32 → Int32 → Option (Int32)) (hk65 : ∀ (v2 : Int32) (v3 : Int32) (v4 : Int32) (v5 : Int32), J X F Λp S d 65 [(0, va_rf (some this)), (1, .int p1), (2, .int v2), (3, .int v3), (4, .int v4), (5, .int v5)] [] (k65 v2 v3 v4 v5)) (v2 : Int32) (v3 : Int32) (v4 : Int32) (v5 : Int32), J X F Λp S d 121 [(0, va_rf (some this)), (1, .int p1), (2, .int v2), (3, .int v3), (4, .int v4), (5, .int v5)] [] (Mo_caughtIn_b121 this p1 S d k65 v2 v3 v4 v5) := by
    intro k65 hk65 v2 v3 v4 v5
    unfold Mo_caughtIn_b121
    refine JR_iconst (pc := 121) G ci_0 dX10_caughtIn_121 ?_
    refine JR_goto (pc := 122) (tgt := 153) G dX10_caughtIn_122 (by decide) ?_
    exact hMo_caughtIn_b153 k65 hk65 v2 v3 v4 v5 0
  have hMo_caughtIn_b101 : ∀ (k65 : Int32 → Int32 → Int32 → Int32 → Option (Int32)) (hk65 : ∀ (v2 : Int32) (v3 : Int32) (v4 : Int32) (v5 : Int32), J X F Λp S d 65 [(0, va_rf (some this)), (1, .int p1), (2, .int v2), (3, .int v3), (4, .int v4), (5, .int v5)] [] (k65 v2 v3 v4 v5)) (v2 : Int32) (v3 : Int32) (v4 : Int32) (v5 : Int32), J X F Λp S d 101 [(0, va_rf (some this)), (1, .int p1), (2, .int v2), (3, .int v3), (4, .int v4), (5, .int v5)] [] (Mo_caughtIn_b101 this p1 S d k65 v2 v3 v4 v5) := by
    intro k65 hk65 v2 v3 v4 v5
    unfold Mo_caughtIn_b101
    refine JR_aload_n (pc := 101) (k := 0) (i := 0) (o := some this) G rfl rfl dX10_caughtIn_101 ?_
    refine J_bd (fun z27 hz27 => ?_)
    refine JR_gR (pc := 102) (k := 53) G cl_X10 in_X10 (by decide) (by decide) rfl (Or.inl rfl) q1641 hz27 dX10_caughtIn_102 ?_
    refine JR_iload (pc := 105) (i := 5) G rfl dX10_caughtIn_105 ?_
    refine J_bd (fun q28 hq28 => ?_)
    refine JR_iaload (pc := 107) G hq28 dX10_caughtIn_107 ?_
    refine JR_bipush (pc := 108) (v := 7) G (by decide) dX10_caughtIn_108 ?_
    refine JR_icmp_ne (pc := 110) (tgt := 121) G dX10_caughtIn_110 (by decide) (fun c30 => ?_) (fun c30 => ?_)
    · exact hMo_caughtIn_b121 k65 hk65 v2 v3 v4 v5
    · refine JR_iload_n (pc := 113) (k := 2) (i := 2) G rfl rfl dX10_caughtIn_113 ?_
      refine JR_if_ne (pc := 114) (tgt := 121) G dX10_caughtIn_114 (by decide) (fun c29 => ?_) (fun c29 => ?_)
      · exact hMo_caughtIn_b121 k65 hk65 v2 v3 v4 v5
      · exact hMo_caughtIn_b117 k65 hk65 v2 v3 v4 v5
  have hMo_caughtIn_b152 : ∀ (k65 : Int32 → Int32 → Int32 → Int32 → Option (Int32)) (hk65 : ∀ (v2 : Int32) (v3 : Int32) (v4 : Int32) (v5 : Int32), J X F Λp S d 65 [(0, va_rf (some this)), (1, .int p1), (2, .int v2), (3, .int v3), (4, .int v4), (5, .int v5)] [] (k65 v2 v3 v4 v5)) (v2 : Int32) (v3 : Int32) (v4 : Int32) (v5 : Int32), J X F Λp S d 152 [(0, va_rf (some this)), (1, .int p1), (2, .int v2), (3, .int v3), (4, .int v4), (5, .int v5)] [] (Mo_caughtIn_b152 this p1 S d k65 v2 v3 v4 v5) := by
    intro k65 hk65 v2 v3 v4 v5
    unfold Mo_caughtIn_b152
    refine JR_iconst (pc := 152) G ci_0 dX10_caughtIn_152 ?_
    exact hMo_caughtIn_b153 k65 hk65 v2 v3 v4 v5 0
  have hMo_caughtIn_h65 : ∀ (f : Nat) (v2 : Int32) (v3 : Int32) (v4 : Int32) (v5 : Int32), J X F Λp S d 65 [(0, va_rf (some this)), (1, .int p1), (2, .int v2), (3, .int v3), (4, .int v4), (5, .int v5)] [] (Mo_caughtIn_h65 this p1 S d f v2 v3 v4 v5) := by
    intro  f
    induction f with
    | zero => intro v2 v3 v4 v5; exact J_no
    | succ f ih =>
      intro v2 v3 v4 v5
      unfold Mo_caughtIn_h65
      refine JR_iload (pc := 65) (i := 5) G rfl dX10_caughtIn_65 ?_
      refine JR_aload_n (pc := 67) (k := 0) (i := 0) (o := some this) G rfl rfl dX10_caughtIn_67 ?_
      refine J_bd (fun z12 hz12 => ?_)
      refine JR_gI (pc := 68) (k := 56) G cl_X10 in_X10 (by decide) (by decide) rfl (Or.inl rfl) q1644 hz12 dX10_caughtIn_68 ?_
      refine JR_icmp_ge (pc := 71) (tgt := 189) G dX10_caughtIn_71 (by decide) (fun c22 => ?_) (fun c22 => ?_)
      · refine JR_iconst (pc := 189) G ci_m1 dX10_caughtIn_189 ?_
        exact JR_iret (pc := 190) G hR dX10_caughtIn_190 rfl rfl
      · refine JR_iload_n (pc := 74) (k := 3) (i := 3) G rfl rfl dX10_caughtIn_74 ?_
        refine JR_if_eq (pc := 75) (tgt := 125) G dX10_caughtIn_75 (by decide) (fun c21 => ?_) (fun c21 => ?_)
        · refine JR_aload_n (pc := 125) (k := 0) (i := 0) (o := some this) G rfl rfl dX10_caughtIn_125 ?_
          refine JR_gR (pc := 126) (k := 53) G cl_X10 in_X10 (by decide) (by decide) rfl (Or.inl rfl) q1641 hz12 dX10_caughtIn_126 ?_
          refine JR_iload (pc := 129) (i := 5) G rfl dX10_caughtIn_129 ?_
          refine J_bd (fun q13 hq13 => ?_)
          refine JR_iaload (pc := 131) G hq13 dX10_caughtIn_131 ?_
          refine JR_bipush (pc := 132) (v := 6) G (by decide) dX10_caughtIn_132 ?_
          refine JR_icmp_ge (pc := 134) (tgt := 152) G dX10_caughtIn_134 (by decide) (fun c16 => ?_) (fun c16 => ?_)
          · exact hMo_caughtIn_b152 (Mo_caughtIn_h65 this p1 S d f) ih v2 v3 v4 v5
          · refine JR_aload_n (pc := 137) (k := 0) (i := 0) (o := some this) G rfl rfl dX10_caughtIn_137 ?_
            refine JR_gR (pc := 138) (k := 54) G cl_X10 in_X10 (by decide) (by decide) rfl (Or.inl rfl) q1642 hz12 dX10_caughtIn_138 ?_
            refine JR_iload (pc := 141) (i := 5) G rfl dX10_caughtIn_141 ?_
            refine J_bd (fun q14 hq14 => ?_)
            refine JR_iaload (pc := 143) G hq14 dX10_caughtIn_143 ?_
            refine JR_iload_n (pc := 144) (k := 2) (i := 2) G rfl rfl dX10_caughtIn_144 ?_
            refine JR_icmp_ne (pc := 145) (tgt := 152) G dX10_caughtIn_145 (by decide) (fun c15 => ?_) (fun c15 => ?_)
            · exact hMo_caughtIn_b152 (Mo_caughtIn_h65 this p1 S d f) ih v2 v3 v4 v5
            · refine JR_iconst (pc := 148) G ci_1 dX10_caughtIn_148 ?_
              refine JR_goto (pc := 149) (tgt := 153) G dX10_caughtIn_149 (by decide) ?_
              exact hMo_caughtIn_b153 (Mo_caughtIn_h65 this p1 S d f) ih v2 v3 v4 v5 1
        · refine JR_aload_n (pc := 78) (k := 0) (i := 0) (o := some this) G rfl rfl dX10_caughtIn_78 ?_
          refine JR_gR (pc := 79) (k := 53) G cl_X10 in_X10 (by decide) (by decide) rfl (Or.inl rfl) q1641 hz12 dX10_caughtIn_79 ?_
          refine JR_iload (pc := 82) (i := 5) G rfl dX10_caughtIn_82 ?_
          refine J_bd (fun q17 hq17 => ?_)
          refine JR_iaload (pc := 84) G hq17 dX10_caughtIn_84 ?_
          refine JR_bipush (pc := 85) (v := 6) G (by decide) dX10_caughtIn_85 ?_
          refine JR_icmp_ne (pc := 87) (tgt := 101) G dX10_caughtIn_87 (by decide) (fun c20 => ?_) (fun c20 => ?_)
          · exact hMo_caughtIn_b101 (Mo_caughtIn_h65 this p1 S d f) ih v2 v3 v4 v5
          · refine JR_aload_n (pc := 90) (k := 0) (i := 0) (o := some this) G rfl rfl dX10_caughtIn_90 ?_
            refine JR_gR (pc := 91) (k := 54) G cl_X10 in_X10 (by decide) (by decide) rfl (Or.inl rfl) q1642 hz12 dX10_caughtIn_91 ?_
            refine JR_iload (pc := 94) (i := 5) G rfl dX10_caughtIn_94 ?_
            refine J_bd (fun q18 hq18 => ?_)
            refine JR_iaload (pc := 96) G hq18 dX10_caughtIn_96 ?_
            refine JR_iload_n (pc := 97) (k := 2) (i := 2) G rfl rfl dX10_caughtIn_97 ?_
            refine JR_icmp_eq (pc := 98) (tgt := 117) G dX10_caughtIn_98 (by decide) (fun c19 => ?_) (fun c19 => ?_)
            · exact hMo_caughtIn_b117 (Mo_caughtIn_h65 this p1 S d f) ih v2 v3 v4 v5
            · exact hMo_caughtIn_b101 (Mo_caughtIn_h65 this p1 S d f) ih v2 v3 v4 v5
  have hMo_caughtIn_b52 : ∀ (v2 : Int32) (v3 : Int32) (s0 : Int32), J X F Λp S d 52 [(0, va_rf (some this)), (1, .int p1), (2, .int v2), (3, .int v3)] [.int s0] (Mo_caughtIn_b52 this p1 S d v2 v3 s0) := by
    intro v2 v3 s0
    unfold Mo_caughtIn_b52
    refine JR_istore (pc := 52) (i := 4) (lv' := [(4, .int s0), (0, va_rf (some this)), (1, .int p1), (2, .int v2), (3, .int v3)]) G (by decide) rfl dX10_caughtIn_52 ?_
    refine JR_iload (pc := 54) (i := 4) G rfl dX10_caughtIn_54 ?_
    refine JR_iconst (pc := 56) G ci_m1 dX10_caughtIn_56 ?_
    refine JR_icmp_ne (pc := 57) (tgt := 62) G dX10_caughtIn_57 (by decide) (fun c11 => ?_) (fun c11 => ?_)
    · refine JR_iconst (pc := 62) G ci_0 dX10_caughtIn_62 ?_
      refine JR_istore (pc := 63) (i := 5) (lv' := [(5, .int 0), (4, .int s0), (0, va_rf (some this)), (1, .int p1), (2, .int v2), (3, .int v3)]) G (by decide) rfl dX10_caughtIn_63 ?_
      refine J_sub [2, 3, 4, 5, 1, 0] rfl ?_
      exact hMo_caughtIn_h65 FU v2 v3 s0 0
    · refine JR_iconst (pc := 60) G ci_m1 dX10_caughtIn_60 ?_
      exact JR_iret (pc := 61) G hR dX10_caughtIn_61 rfl rfl
  have hMo_caughtIn_b22 : ∀ (v2 : Int32) (s0 : Int32), J X F Λp S d 22 [(0, va_rf (some this)), (1, .int p1), (2, .int v2)] [.int s0] (Mo_caughtIn_b22 this p1 S d v2 s0) := by
    intro v2 s0
    unfold Mo_caughtIn_b22
    refine JR_istore_n (pc := 22) (k := 3) (i := 3) (lv' := [(3, .int s0), (0, va_rf (some this)), (1, .int p1), (2, .int v2)]) G rfl (by decide) rfl dX10_caughtIn_22 ?_
    refine JR_iload_n (pc := 23) (k := 3) (i := 3) G rfl rfl dX10_caughtIn_23 ?_
    refine JR_if_eq (pc := 24) (tgt := 36) G dX10_caughtIn_24 (by decide) (fun c10 => ?_) (fun c10 => ?_)
    · refine JR_aload_n (pc := 36) (k := 0) (i := 0) (o := some this) G rfl rfl dX10_caughtIn_36 ?_
      refine J_bd (fun z5 hz5 => ?_)
      refine JR_gR (pc := 37) (k := 47) G cl_X10 in_X10 (by decide) (by decide) rfl (Or.inl rfl) q1635 hz5 dX10_caughtIn_37 ?_
      refine JR_bipush (pc := 40) (v := 51) G (by decide) dX10_caughtIn_40 ?_
      refine JR_iload_n (pc := 42) (k := 2) (i := 2) G rfl rfl dX10_caughtIn_42 ?_
      refine JR_imul (pc := 43) G dX10_caughtIn_43 ?_
      refine JR_aload_n (pc := 44) (k := 0) (i := 0) (o := some this) G rfl rfl dX10_caughtIn_44 ?_
      refine JR_iload_n (pc := 45) (k := 1) (i := 1) G rfl rfl dX10_caughtIn_45 ?_
      refine JR_iconst (pc := 46) G ci_2 dX10_caughtIn_46 ?_
      refine JPV_I (pc := 47) (as := [.int p1, .int 2]) (st' := [.int (51 * v2), va_rf (S.2.1 z5 47)]) (o := some this) G (Mo_of_fn this p1 2 S d) (JC_V (n := 2) G hRm cl_X10 q1962 q1964 qs86 q152 q1965 ⟨rfl, dd_X10_of⟩ ⟨by decide, by decide⟩ dX10_caughtIn_47 hz5 rfl (Nat.le_of_ble_eq_true rfl)) rfl (fun r6 hr6 => ?_)
      refine JR_iadd (pc := 50) G dX10_caughtIn_50 ?_
      refine J_bd (fun q7 hq7 => ?_)
      refine JR_iaload (pc := 51) G hq7 dX10_caughtIn_51 ?_
      refine J_sub [1, 2, 3, 0] rfl ?_
      exact hMo_caughtIn_b52 v2 s0 (d.1 q7.1 q7.2)
    · refine JR_aload_n (pc := 27) (k := 0) (i := 0) (o := some this) G rfl rfl dX10_caughtIn_27 ?_
      refine JR_iload_n (pc := 28) (k := 1) (i := 1) G rfl rfl dX10_caughtIn_28 ?_
      refine JR_iconst (pc := 29) G ci_2 dX10_caughtIn_29 ?_
      refine J_bd (fun z8 hz8 => ?_)
      refine JPV_I (pc := 30) (as := [.int p1, .int 2]) (st' := []) (o := some this) G (Mo_of_fn this p1 2 S d) (JC_V (n := 2) G hRm cl_X10 q1962 q1964 qs86 q152 q1965 ⟨rfl, dd_X10_of⟩ ⟨by decide, by decide⟩ dX10_caughtIn_30 hz8 rfl (Nat.le_of_ble_eq_true rfl)) rfl (fun r9 hr9 => ?_)
      refine JR_goto (pc := 33) (tgt := 52) G dX10_caughtIn_33 (by decide) ?_
      refine J_sub [1, 2, 3, 0] rfl ?_
      exact hMo_caughtIn_b52 v2 s0 r9
  unfold Mo_caughtIn
  refine JR_aload_n (pc := 0) (k := 0) (i := 0) (o := some this) G rfl rfl dX10_caughtIn_0 ?_
  refine JR_iload_n (pc := 1) (k := 1) (i := 1) G rfl rfl dX10_caughtIn_1 ?_
  refine JR_iconst (pc := 2) G ci_1 dX10_caughtIn_2 ?_
  refine J_bd (fun z1 hz1 => ?_)
  refine JPV_I (pc := 3) (as := [.int p1, .int 1]) (st' := []) (o := some this) G (Mo_of_fn this p1 1 S d) (JC_V (n := 2) G hRm cl_X10 q1962 q1964 qs86 q152 q1965 ⟨rfl, dd_X10_of⟩ ⟨by decide, by decide⟩ dX10_caughtIn_3 hz1 rfl (Nat.le_of_ble_eq_true rfl)) rfl (fun r2 hr2 => ?_)
  refine JR_istore_n (pc := 6) (k := 2) (i := 2) (lv' := [(2, .int r2), (0, va_rf (some this)), (1, .int p1)]) G rfl (by decide) rfl dX10_caughtIn_6 ?_
  refine JR_aload_n (pc := 7) (k := 0) (i := 0) (o := some this) G rfl rfl dX10_caughtIn_7 ?_
  refine JR_iload_n (pc := 8) (k := 1) (i := 1) G rfl rfl dX10_caughtIn_8 ?_
  refine JR_iconst (pc := 9) G ci_0 dX10_caughtIn_9 ?_
  refine JPV_I (pc := 10) (as := [.int p1, .int 0]) (st' := []) (o := some this) G (Mo_of_fn this p1 0 S d) (JC_V (n := 2) G hRm cl_X10 q1962 q1964 qs86 q152 q1965 ⟨rfl, dd_X10_of⟩ ⟨by decide, by decide⟩ dX10_caughtIn_10 hz1 rfl (Nat.le_of_ble_eq_true rfl)) rfl (fun r3 hr3 => ?_)
  refine JR_iconst (pc := 13) G ci_5 dX10_caughtIn_13 ?_
  refine J_eq (r' := if ¬ r3 = 5 then Mo_caughtIn_b22 this p1 S d r2 0 else Mo_caughtIn_b22 this p1 S d r2 1) (by split <;> rfl) ?_
  refine JR_icmp_ne (pc := 14) (tgt := 21) G dX10_caughtIn_14 (by decide) (fun c4 => ?_) (fun c4 => ?_)
  · refine JR_iconst (pc := 21) G ci_0 dX10_caughtIn_21 ?_
    refine J_sub [1, 2, 0] rfl ?_
    exact hMo_caughtIn_b22 r2 0
  · refine JR_iconst (pc := 17) G ci_1 dX10_caughtIn_17 ?_
    refine JR_goto (pc := 18) (tgt := 22) G dX10_caughtIn_18 (by decide) ?_
    refine J_sub [1, 2, 0] rfl ?_
    exact hMo_caughtIn_b22 r2 1

def Mo_caught (this : Nat) (p1 : Int32) (S : Sp) (d : Dt) : Option (Int32 × Dt) :=
  (isK S 9 (some this)).bind fun z1 =>
  (Mo_isInjection this p1 S d).bind fun r2 =>
  if r2 = 0 then
    some ((-2), d)
  else
    bind2 (Mo_asks this S d) fun r3 d4 =>
    if r3 = 0 then
      some ((-2), d4)
    else
      (Mo_caughtIn this p1 S d4).bind fun r5 =>
      some (r5, d4)
set_option maxHeartbeats 4000000 in
theorem Mo_caught_fn (this : Nat) (p1 : Int32) (S : Sp) (d : Dt) : Fn yX10_caught (ws_ yX10_caught cX10_caught 2 (some .int)) 11 251 [va_rf (some this), .int p1] S d rvI Λw (Mo_caught this p1 S d) := by
  refine Fn.ofJ (own := RX10) (lv := [(0, va_rf (some this)), (1, .int p1)]) (by decide +kernel) rfl (by simp [cat_i, cat_l, cat_f, cat_d, rf_cat]) (by simp [lv_args, cat_i, cat_l, cat_f, cat_d, rf_cat]) ?_
  intro X F G hRm hR hI
  unfold Mo_caught
  refine JR_aload_n (pc := 0) (k := 0) (i := 0) (o := some this) G rfl rfl dX10_caught_0 ?_
  refine JR_iload_n (pc := 1) (k := 1) (i := 1) G rfl rfl dX10_caught_1 ?_
  refine J_bd (fun z1 hz1 => ?_)
  refine JPV_I (pc := 2) (as := [.int p1]) (st' := []) (o := some this) G (Mo_isInjection_fn this p1 S d) (JC_V (n := 1) G hRm cl_X10 q2284 q2286 qs129 q152 q2287 ⟨rfl, dd_X10_isInjection⟩ ⟨by decide, by decide⟩ dX10_caught_2 hz1 rfl (Nat.le_of_ble_eq_true rfl)) rfl (fun r2 hr2 => ?_)
  refine JR_if_eq (pc := 5) (tgt := 23) G dX10_caught_5 (by decide) (fun c7 => ?_) (fun c7 => ?_)
  · refine JR_bipush (pc := 23) (v := (-2)) G (by decide) dX10_caught_23 ?_
    exact JR_iret (pc := 25) G hR dX10_caught_25 rfl rfl
  · refine JR_aload_n (pc := 8) (k := 0) (i := 0) (o := some this) G rfl rfl dX10_caught_8 ?_
    refine JQV_I (pc := 9) (as := []) (st' := []) (o := some this) G (Mo_asks_fn this S d) (JC_V (n := 0) G hRm cl_X10 q2078 q2080 qs100 q152 q2081 ⟨rfl, dd_X10_asks⟩ ⟨by decide, by decide⟩ dX10_caught_9 hz1 rfl (Nat.le_of_ble_eq_true rfl)) rfl (fun _ _ => rfl) (fun r3 d4 hd4 => ?_)
    refine JR_if_eq (pc := 12) (tgt := 23) G dX10_caught_12 (by decide) (fun c6 => ?_) (fun c6 => ?_)
    · refine JR_bipush (pc := 23) (v := (-2)) G (by decide) dX10_caught_23 ?_
      exact JR_iret (pc := 25) G hR dX10_caught_25 rfl rfl
    · refine JR_aload_n (pc := 15) (k := 0) (i := 0) (o := some this) G rfl rfl dX10_caught_15 ?_
      refine JR_iload_n (pc := 16) (k := 1) (i := 1) G rfl rfl dX10_caught_16 ?_
      refine JPV_I (pc := 17) (as := [.int p1]) (st' := []) (o := some this) G (Mo_caughtIn_fn this p1 S d4) (JC_V (n := 1) G hRm cl_X10 q2288 q2290 qs130 q152 q2291 ⟨rfl, dd_X10_caughtIn⟩ ⟨by decide, by decide⟩ dX10_caught_17 hz1 rfl (Nat.le_of_ble_eq_true rfl)) rfl (fun r5 hr5 => ?_)
      refine JR_goto (pc := 20) (tgt := 25) G dX10_caught_20 (by decide) ?_
      exact JR_iret (pc := 25) G hR dX10_caught_25 rfl rfl

def Mo_recordsWithout (this : Nat) (p1 : Int32) (S : Sp) (d : Dt) : Option (Int32 × Dt) :=
  (isK S 9 (some this)).bind fun z1 =>
  bind2 (Mo_asTold this S d) fun _ d2 =>
  (some (dI d2 z1 23 p1)).bind fun d3 =>
  (aix S 50 (S.2.1 z1 1) 0).bind fun q4 =>
  bind2 (Mo_runs this (d3.1 q4.1 q4.2) S d3) fun _ d5 =>
  some (d5.1 z1 56, d5)
set_option maxHeartbeats 4000000 in
theorem Mo_recordsWithout_fn (this : Nat) (p1 : Int32) (S : Sp) (d : Dt) : Fn yX10_recordsWithout (ws_ yX10_recordsWithout cX10_recordsWithout 2 (some .int)) 10 231 [va_rf (some this), .int p1] S d rvI Λw (Mo_recordsWithout this p1 S d) := by
  refine Fn.ofJ (own := RX10) (lv := [(0, va_rf (some this)), (1, .int p1)]) (by decide +kernel) rfl (by simp [cat_i, cat_l, cat_f, cat_d, rf_cat]) (by simp [lv_args, cat_i, cat_l, cat_f, cat_d, rf_cat]) ?_
  intro X F G hRm hR hI
  unfold Mo_recordsWithout
  refine JR_aload_n (pc := 0) (k := 0) (i := 0) (o := some this) G rfl rfl dX10_recordsWithout_0 ?_
  refine J_bd (fun z1 hz1 => ?_)
  refine JQV_U (pc := 1) (as := []) (st' := []) (o := some this) G (Mo_asTold_fn this S d) (JC_V (n := 0) G hRm cl_X10 q2082 q2084 qs101 q152 q2085 ⟨rfl, dd_X10_asTold⟩ ⟨by decide, by decide⟩ dX10_recordsWithout_1 hz1 rfl (Nat.le_of_ble_eq_true rfl)) rfl (fun _ _ => rfl) (fun _ d2 hd2 => ?_)
  refine JR_aload_n (pc := 4) (k := 0) (i := 0) (o := some this) G rfl rfl dX10_recordsWithout_4 ?_
  refine JR_iload_n (pc := 5) (k := 1) (i := 1) G rfl rfl dX10_recordsWithout_5 ?_
  refine JW_pI (pc := 6) (k := 23) G cl_X10 in_X10 tyX10_ok nmX10 (by decide) (by decide) rfl (Or.inl rfl) rfl q1611 rfl rfl hz1 (fun _ => rfl) dX10_recordsWithout_6 ?_
  refine J_nmD (fun d3 hd3 => ?_)
  refine JR_aload_n (pc := 9) (k := 0) (i := 0) (o := some this) G rfl rfl dX10_recordsWithout_9 ?_
  refine JR_aload_n (pc := 10) (k := 0) (i := 0) (o := some this) G rfl rfl dX10_recordsWithout_10 ?_
  refine JR_gR (pc := 11) (k := 1) G cl_X10 in_X10 (by decide) (by decide) rfl (Or.inl rfl) q1589 hz1 dX10_recordsWithout_11 ?_
  refine JR_iconst (pc := 14) G ci_0 dX10_recordsWithout_14 ?_
  refine J_bd (fun q4 hq4 => ?_)
  refine JR_iaload (pc := 15) G hq4 dX10_recordsWithout_15 ?_
  refine JQV_U (pc := 16) (as := [.int (d3.1 q4.1 q4.2)]) (st' := []) (o := some this) G (Mo_runs_fn this (d3.1 q4.1 q4.2) S d3) (JC_V (n := 1) G hRm cl_X10 q2086 q2088 qs102 q152 q2089 ⟨rfl, dd_X10_runs⟩ ⟨by decide, by decide⟩ dX10_recordsWithout_16 hz1 rfl (Nat.le_of_ble_eq_true rfl)) rfl (fun _ _ => rfl) (fun _ d5 hd5 => ?_)
  refine JR_aload_n (pc := 19) (k := 0) (i := 0) (o := some this) G rfl rfl dX10_recordsWithout_19 ?_
  refine JR_gI (pc := 20) (k := 56) G cl_X10 in_X10 (by decide) (by decide) rfl (Or.inl rfl) q1644 hz1 dX10_recordsWithout_20 ?_
  exact JR_iret (pc := 23) G hR dX10_recordsWithout_23 rfl rfl

def Mo_without (this : Nat) (p1 : Int32) (S : Sp) (d : Dt) : Option (Int32 × Dt) :=
  (isK S 9 (some this)).bind fun z1 =>
  (Mo_isInjection this p1 S d).bind fun r2 =>
  if r2 = 0 then
    some ((-2), d)
  else
    bind2 (Mo_recordsWithout this p1 S d) fun r3 d4 =>
    some (r3, d4)
set_option maxHeartbeats 4000000 in
theorem Mo_without_fn (this : Nat) (p1 : Int32) (S : Sp) (d : Dt) : Fn yX10_without (ws_ yX10_without cX10_without 2 (some .int)) 11 252 [va_rf (some this), .int p1] S d rvI Λw (Mo_without this p1 S d) := by
  refine Fn.ofJ (own := RX10) (lv := [(0, va_rf (some this)), (1, .int p1)]) (by decide +kernel) rfl (by simp [cat_i, cat_l, cat_f, cat_d, rf_cat]) (by simp [lv_args, cat_i, cat_l, cat_f, cat_d, rf_cat]) ?_
  intro X F G hRm hR hI
  unfold Mo_without
  refine JR_aload_n (pc := 0) (k := 0) (i := 0) (o := some this) G rfl rfl dX10_without_0 ?_
  refine JR_iload_n (pc := 1) (k := 1) (i := 1) G rfl rfl dX10_without_1 ?_
  refine J_bd (fun z1 hz1 => ?_)
  refine JPV_I (pc := 2) (as := [.int p1]) (st' := []) (o := some this) G (Mo_isInjection_fn this p1 S d) (JC_V (n := 1) G hRm cl_X10 q2284 q2286 qs129 q152 q2287 ⟨rfl, dd_X10_isInjection⟩ ⟨by decide, by decide⟩ dX10_without_2 hz1 rfl (Nat.le_of_ble_eq_true rfl)) rfl (fun r2 hr2 => ?_)
  refine JR_if_eq (pc := 5) (tgt := 16) G dX10_without_5 (by decide) (fun c5 => ?_) (fun c5 => ?_)
  · refine JR_bipush (pc := 16) (v := (-2)) G (by decide) dX10_without_16 ?_
    exact JR_iret (pc := 18) G hR dX10_without_18 rfl rfl
  · refine JR_aload_n (pc := 8) (k := 0) (i := 0) (o := some this) G rfl rfl dX10_without_8 ?_
    refine JR_iload_n (pc := 9) (k := 1) (i := 1) G rfl rfl dX10_without_9 ?_
    refine JQV_I (pc := 10) (as := [.int p1]) (st' := []) (o := some this) G (Mo_recordsWithout_fn this p1 S d) (JC_V (n := 1) G hRm cl_X10 q2296 q2298 qs131 q152 q2299 ⟨rfl, dd_X10_recordsWithout⟩ ⟨by decide, by decide⟩ dX10_without_10 hz1 rfl (Nat.le_of_ble_eq_true rfl)) rfl (fun _ _ => rfl) (fun r3 d4 hd4 => ?_)
    refine JR_goto (pc := 13) (tgt := 18) G dX10_without_13 (by decide) ?_
    exact JR_iret (pc := 18) G hR dX10_without_18 rfl rfl

def Mo_blame_h19 (this : Nat) (S : Sp) : Nat → Int32 → Int32 → Int32 → Dt → Option (Int32 × Dt)
  | 0, _, _, _, _ => none
  | f + 1, v1, v2, v3, d =>
    (isK S 9 (some this)).bind fun z6 =>
    (Mo_many this S d).bind fun r7 =>
    if r7 ≤ v3 then
      some (v1, d)
    else
      bind2 (Mo_recordsWithout this v3 S d) fun r8 d9 =>
      Mo_blame_h19 this S f (if r8 < v2 then v3 else v1) (if r8 < v2 then r8 else v2) (v3 + 1) d9
def Mo_blame (this : Nat) (S : Sp) (d : Dt) : Option (Int32 × Dt) :=
  (isK S 9 (some this)).bind fun z1 =>
  bind2 (Mo_asks this S d) fun r2 d3 =>
  if ¬ r2 = 0 then
    (some (d3.1 z1 56)).bind fun x4 =>
    Mo_blame_h19 this S FU ((-1)) x4 0 d3
  else
    some ((-2), d3)
set_option maxHeartbeats 4000000 in
theorem Mo_blame_fn (this : Nat) (S : Sp) (d : Dt) : Fn yX10_blame (ws_ yX10_blame cX10_blame 5 (some .int)) 11 252 [va_rf (some this)] S d rvI Λw (Mo_blame this S d) := by
  refine Fn.ofJ (own := RX10) (lv := [(0, va_rf (some this))]) (by decide +kernel) rfl (by simp [cat_i, cat_l, cat_f, cat_d, rf_cat]) (by simp [lv_args, cat_i, cat_l, cat_f, cat_d, rf_cat]) ?_
  intro X F G hRm hR hI
  have hMo_blame_h19 : ∀ (f : Nat) (v1 : Int32) (v2 : Int32) (v3 : Int32) (d : Dt), J X F Λw S d 19 [(0, va_rf (some this)), (1, .int v1), (2, .int v2), (3, .int v3)] [] (Mo_blame_h19 this S f v1 v2 v3 d) := by
    intro  f
    induction f with
    | zero => intro v1 v2 v3 d; exact J_no
    | succ f ih =>
      intro v1 v2 v3 d
      unfold Mo_blame_h19
      refine JR_iload_n (pc := 19) (k := 3) (i := 3) G rfl rfl dX10_blame_19 ?_
      refine JR_aload_n (pc := 20) (k := 0) (i := 0) (o := some this) G rfl rfl dX10_blame_20 ?_
      refine J_bd (fun z6 hz6 => ?_)
      refine JPV_I (pc := 21) (as := []) (st' := [.int v3]) (o := some this) G (Mo_many_fn this S d) (JC_V (n := 0) G hRm cl_X10 q1957 q1959 qs85 q152 q1960 ⟨rfl, dd_X10_many⟩ ⟨by decide, by decide⟩ dX10_blame_21 hz6 rfl (Nat.le_of_ble_eq_true rfl)) rfl (fun r7 hr7 => ?_)
      refine JR_icmp_ge (pc := 24) (tgt := 54) G dX10_blame_24 (by decide) (fun c11 => ?_) (fun c11 => ?_)
      · refine JR_iload_n (pc := 54) (k := 1) (i := 1) G rfl rfl dX10_blame_54 ?_
        exact JR_iret (pc := 55) G hR dX10_blame_55 rfl rfl
      · refine JR_aload_n (pc := 27) (k := 0) (i := 0) (o := some this) G rfl rfl dX10_blame_27 ?_
        refine JR_iload_n (pc := 28) (k := 3) (i := 3) G rfl rfl dX10_blame_28 ?_
        refine JQV_I (pc := 29) (as := [.int v3]) (st' := []) (o := some this) G (Mo_recordsWithout_fn this v3 S d) (JC_V (n := 1) G hRm cl_X10 q2296 q2298 qs131 q152 q2299 ⟨rfl, dd_X10_recordsWithout⟩ ⟨by decide, by decide⟩ dX10_blame_29 hz6 rfl (Nat.le_of_ble_eq_true rfl)) rfl (fun _ _ => rfl) (fun r8 d9 hd9 => ?_)
        refine JR_istore (pc := 32) (i := 4) (lv' := [(4, .int r8), (0, va_rf (some this)), (1, .int v1), (2, .int v2), (3, .int v3)]) G (by decide) rfl dX10_blame_32 ?_
        refine JR_iload (pc := 34) (i := 4) G rfl dX10_blame_34 ?_
        refine JR_iload_n (pc := 36) (k := 2) (i := 2) G rfl rfl dX10_blame_36 ?_
        refine J_eq (r' := if r8 < v2 then Mo_blame_h19 this S f v3 r8 (v3 + 1) d9 else Mo_blame_h19 this S f v1 v2 (v3 + 1) d9) (by split <;> rfl) ?_
        refine JR_icmp_lt (pc := 37) (tgt := 43) G dX10_blame_37 (by decide) (fun c10 => ?_) (fun c10 => ?_)
        · refine JR_iload (pc := 43) (i := 4) G rfl dX10_blame_43 ?_
          refine JR_istore_n (pc := 45) (k := 2) (i := 2) (lv' := [(2, .int r8), (4, .int r8), (0, va_rf (some this)), (1, .int v1), (3, .int v3)]) G rfl (by decide) rfl dX10_blame_45 ?_
          refine JR_iload_n (pc := 46) (k := 3) (i := 3) G rfl rfl dX10_blame_46 ?_
          refine JR_istore_n (pc := 47) (k := 1) (i := 1) (lv' := [(1, .int v3), (2, .int r8), (4, .int r8), (0, va_rf (some this)), (3, .int v3)]) G rfl (by decide) rfl dX10_blame_47 ?_
          refine JR_iinc (pc := 48) (i := 3) (v := v3 + 1) (lv' := [(3, .int (v3 + 1)), (1, .int v3), (2, .int r8), (4, .int r8), (0, va_rf (some this))]) G rfl (congrArg (fun z => v3 + z) (by decide)) (by decide) rfl dX10_blame_48 ?_
          refine JR_goto (pc := 51) (tgt := 19) G dX10_blame_51 (by decide) ?_
          refine J_sub [4, 1, 2, 0] rfl ?_
          exact ih v3 r8 (v3 + 1) d9
        · refine JR_goto (pc := 40) (tgt := 48) G dX10_blame_40 (by decide) ?_
          refine JR_iinc (pc := 48) (i := 3) (v := v3 + 1) (lv' := [(3, .int (v3 + 1)), (4, .int r8), (0, va_rf (some this)), (1, .int v1), (2, .int v2)]) G rfl (congrArg (fun z => v3 + z) (by decide)) (by decide) rfl dX10_blame_48 ?_
          refine JR_goto (pc := 51) (tgt := 19) G dX10_blame_51 (by decide) ?_
          refine J_sub [2, 3, 4, 0] rfl ?_
          exact ih v1 v2 (v3 + 1) d9
  unfold Mo_blame
  refine JR_aload_n (pc := 0) (k := 0) (i := 0) (o := some this) G rfl rfl dX10_blame_0 ?_
  refine J_bd (fun z1 hz1 => ?_)
  refine JQV_I (pc := 1) (as := []) (st' := []) (o := some this) G (Mo_asks_fn this S d) (JC_V (n := 0) G hRm cl_X10 q2078 q2080 qs100 q152 q2081 ⟨rfl, dd_X10_asks⟩ ⟨by decide, by decide⟩ dX10_blame_1 hz1 rfl (Nat.le_of_ble_eq_true rfl)) rfl (fun _ _ => rfl) (fun r2 d3 hd3 => ?_)
  refine JR_if_ne (pc := 4) (tgt := 10) G dX10_blame_4 (by decide) (fun c5 => ?_) (fun c5 => ?_)
  · refine JR_iconst (pc := 10) G ci_m1 dX10_blame_10 ?_
    refine JR_istore_n (pc := 11) (k := 1) (i := 1) (lv' := [(1, .int ((-1))), (0, va_rf (some this))]) G rfl (by decide) rfl dX10_blame_11 ?_
    refine JR_aload_n (pc := 12) (k := 0) (i := 0) (o := some this) G rfl rfl dX10_blame_12 ?_
    refine JR_gI (pc := 13) (k := 56) G cl_X10 in_X10 (by decide) (by decide) rfl (Or.inl rfl) q1644 hz1 dX10_blame_13 ?_
    refine J_nm (fun x4 hx4 => ?_)
    refine JR_istore_n (pc := 16) (k := 2) (i := 2) (lv' := [(2, .int x4), (1, .int ((-1))), (0, va_rf (some this))]) G rfl (by decide) rfl dX10_blame_16 ?_
    refine JR_iconst (pc := 17) G ci_0 dX10_blame_17 ?_
    refine JR_istore_n (pc := 18) (k := 3) (i := 3) (lv' := [(3, .int 0), (2, .int x4), (1, .int ((-1))), (0, va_rf (some this))]) G rfl (by decide) rfl dX10_blame_18 ?_
    refine J_sub [3, 2, 1, 0] rfl ?_
    exact hMo_blame_h19 FU ((-1)) x4 0 d3
  · refine JR_bipush (pc := 7) (v := (-2)) G (by decide) dX10_blame_7 ?_
    exact JR_iret (pc := 9) G hR dX10_blame_9 rfl rfl

def Mo_recordsWith (this : Nat) (p1 : Int32) (p2 : Int32) (p3 : Int32) (S : Sp) (d : Dt) : Option (Int32 × Dt) :=
  (isK S 9 (some this)).bind fun z1 =>
  bind2 (Mo_asTold this S d) fun _ d2 =>
  (some (dI d2 z1 24 p1)).bind fun d3 =>
  (some (dI d3 z1 25 p2)).bind fun d4 =>
  (some (dI d4 z1 26 p3)).bind fun d5 =>
  (aix S 50 (S.2.1 z1 1) 0).bind fun q6 =>
  bind2 (Mo_runs this (d5.1 q6.1 q6.2) S d5) fun _ d7 =>
  some (d7.1 z1 56, d7)
set_option maxHeartbeats 4000000 in
theorem Mo_recordsWith_fn (this : Nat) (p1 : Int32) (p2 : Int32) (p3 : Int32) (S : Sp) (d : Dt) : Fn yX10_recordsWith (ws_ yX10_recordsWith cX10_recordsWith 4 (some .int)) 10 231 [va_rf (some this), .int p1, .int p2, .int p3] S d rvI Λw (Mo_recordsWith this p1 p2 p3 S d) := by
  refine Fn.ofJ (own := RX10) (lv := [(0, va_rf (some this)), (1, .int p1), (2, .int p2), (3, .int p3)]) (by decide +kernel) rfl (by simp [cat_i, cat_l, cat_f, cat_d, rf_cat]) (by simp [lv_args, cat_i, cat_l, cat_f, cat_d, rf_cat]) ?_
  intro X F G hRm hR hI
  unfold Mo_recordsWith
  refine JR_aload_n (pc := 0) (k := 0) (i := 0) (o := some this) G rfl rfl dX10_recordsWith_0 ?_
  refine J_bd (fun z1 hz1 => ?_)
  refine JQV_U (pc := 1) (as := []) (st' := []) (o := some this) G (Mo_asTold_fn this S d) (JC_V (n := 0) G hRm cl_X10 q2082 q2084 qs101 q152 q2085 ⟨rfl, dd_X10_asTold⟩ ⟨by decide, by decide⟩ dX10_recordsWith_1 hz1 rfl (Nat.le_of_ble_eq_true rfl)) rfl (fun _ _ => rfl) (fun _ d2 hd2 => ?_)
  refine JR_aload_n (pc := 4) (k := 0) (i := 0) (o := some this) G rfl rfl dX10_recordsWith_4 ?_
  refine JR_iload_n (pc := 5) (k := 1) (i := 1) G rfl rfl dX10_recordsWith_5 ?_
  refine JW_pI (pc := 6) (k := 24) G cl_X10 in_X10 tyX10_ok nmX10 (by decide) (by decide) rfl (Or.inl rfl) rfl q1612 rfl rfl hz1 (fun _ => rfl) dX10_recordsWith_6 ?_
  refine J_nmD (fun d3 hd3 => ?_)
  refine JR_aload_n (pc := 9) (k := 0) (i := 0) (o := some this) G rfl rfl dX10_recordsWith_9 ?_
  refine JR_iload_n (pc := 10) (k := 2) (i := 2) G rfl rfl dX10_recordsWith_10 ?_
  refine JW_pI (pc := 11) (k := 25) G cl_X10 in_X10 tyX10_ok nmX10 (by decide) (by decide) rfl (Or.inl rfl) rfl q1613 rfl rfl hz1 (fun _ => rfl) dX10_recordsWith_11 ?_
  refine J_nmD (fun d4 hd4 => ?_)
  refine JR_aload_n (pc := 14) (k := 0) (i := 0) (o := some this) G rfl rfl dX10_recordsWith_14 ?_
  refine JR_iload_n (pc := 15) (k := 3) (i := 3) G rfl rfl dX10_recordsWith_15 ?_
  refine JW_pI (pc := 16) (k := 26) G cl_X10 in_X10 tyX10_ok nmX10 (by decide) (by decide) rfl (Or.inl rfl) rfl q1614 rfl rfl hz1 (fun _ => rfl) dX10_recordsWith_16 ?_
  refine J_nmD (fun d5 hd5 => ?_)
  refine JR_aload_n (pc := 19) (k := 0) (i := 0) (o := some this) G rfl rfl dX10_recordsWith_19 ?_
  refine JR_aload_n (pc := 20) (k := 0) (i := 0) (o := some this) G rfl rfl dX10_recordsWith_20 ?_
  refine JR_gR (pc := 21) (k := 1) G cl_X10 in_X10 (by decide) (by decide) rfl (Or.inl rfl) q1589 hz1 dX10_recordsWith_21 ?_
  refine JR_iconst (pc := 24) G ci_0 dX10_recordsWith_24 ?_
  refine J_bd (fun q6 hq6 => ?_)
  refine JR_iaload (pc := 25) G hq6 dX10_recordsWith_25 ?_
  refine JQV_U (pc := 26) (as := [.int (d5.1 q6.1 q6.2)]) (st' := []) (o := some this) G (Mo_runs_fn this (d5.1 q6.1 q6.2) S d5) (JC_V (n := 1) G hRm cl_X10 q2086 q2088 qs102 q152 q2089 ⟨rfl, dd_X10_runs⟩ ⟨by decide, by decide⟩ dX10_recordsWith_26 hz1 rfl (Nat.le_of_ble_eq_true rfl)) rfl (fun _ _ => rfl) (fun _ d7 hd7 => ?_)
  refine JR_aload_n (pc := 29) (k := 0) (i := 0) (o := some this) G rfl rfl dX10_recordsWith_29 ?_
  refine JR_gI (pc := 30) (k := 56) G cl_X10 in_X10 (by decide) (by decide) rfl (Or.inl rfl) q1644 hz1 dX10_recordsWith_30 ?_
  exact JR_iret (pc := 33) G hR dX10_recordsWith_33 rfl rfl

def Mo_with (this : Nat) (p1 : Int32) (p2 : Int32) (p3 : Int32) (S : Sp) (d : Dt) : Option (Int32 × Dt) :=
  (isK S 9 (some this)).bind fun z1 =>
  (Mo_isTask this p1 S d).bind fun r2 =>
  if r2 = 0 then
    some ((-2), d)
  else
    (Mo_in (Int32.toInt64 p2) 0 99 S d).bind fun r3 =>
    if r3 = 0 then
      some ((-2), d)
    else
      (Mo_in (Int32.toInt64 p3) (Int32.toInt64 (p2 + 1)) 120 S d).bind fun r4 =>
      if r4 = 0 then
        some ((-2), d)
      else
        bind2 (Mo_recordsWith this p1 p2 p3 S d) fun r5 d6 =>
        some (r5, d6)
set_option maxHeartbeats 4000000 in
theorem Mo_with_fn (this : Nat) (p1 : Int32) (p2 : Int32) (p3 : Int32) (S : Sp) (d : Dt) : Fn yX10_with (ws_ yX10_with cX10_with 4 (some .int)) 11 254 [va_rf (some this), .int p1, .int p2, .int p3] S d rvI Λw (Mo_with this p1 p2 p3 S d) := by
  refine Fn.ofJ (own := RX10) (lv := [(0, va_rf (some this)), (1, .int p1), (2, .int p2), (3, .int p3)]) (by decide +kernel) rfl (by simp [cat_i, cat_l, cat_f, cat_d, rf_cat]) (by simp [lv_args, cat_i, cat_l, cat_f, cat_d, rf_cat]) ?_
  intro X F G hRm hR hI
  unfold Mo_with
  refine JR_aload_n (pc := 0) (k := 0) (i := 0) (o := some this) G rfl rfl dX10_with_0 ?_
  refine JR_iload_n (pc := 1) (k := 1) (i := 1) G rfl rfl dX10_with_1 ?_
  refine J_bd (fun z1 hz1 => ?_)
  refine JPV_I (pc := 2) (as := [.int p1]) (st' := []) (o := some this) G (Mo_isTask_fn this p1 S d) (JC_V (n := 1) G hRm cl_X10 q1916 q1918 qs78 q152 q1919 ⟨rfl, dd_X10_isTask⟩ ⟨by decide, by decide⟩ dX10_with_2 hz1 rfl (Nat.le_of_ble_eq_true rfl)) rfl (fun r2 hr2 => ?_)
  refine JR_if_eq (pc := 5) (tgt := 45) G dX10_with_5 (by decide) (fun c9 => ?_) (fun c9 => ?_)
  · refine JR_bipush (pc := 45) (v := (-2)) G (by decide) dX10_with_45 ?_
    exact JR_iret (pc := 47) G hR dX10_with_47 rfl rfl
  · refine JR_iload_n (pc := 8) (k := 2) (i := 2) G rfl rfl dX10_with_8 ?_
    refine JR_i2l (pc := 9) G dX10_with_9 ?_
    refine JR_lconst (pc := 10) G cl_0 dX10_with_10 ?_
    refine JR_ldc2 (pc := 11) G q2308 dX10_with_11 ?_
    refine JPS_I (pc := 14) (as := [.long (Int32.toInt64 p2), .long 0, .long 99]) (st' := []) G (Mo_in_fn (Int32.toInt64 p2) 0 99 S d) (JC_S (n := 3) G hRm q1782 q1783 q152 q1784 dd_X10_in ⟨by decide, by decide⟩ dX10_with_14 rfl (Nat.le_of_ble_eq_true rfl)) rfl (fun r3 hr3 => ?_)
    refine JR_if_eq (pc := 17) (tgt := 45) G dX10_with_17 (by decide) (fun c8 => ?_) (fun c8 => ?_)
    · refine JR_bipush (pc := 45) (v := (-2)) G (by decide) dX10_with_45 ?_
      exact JR_iret (pc := 47) G hR dX10_with_47 rfl rfl
    · refine JR_iload_n (pc := 20) (k := 3) (i := 3) G rfl rfl dX10_with_20 ?_
      refine JR_i2l (pc := 21) G dX10_with_21 ?_
      refine JR_iload_n (pc := 22) (k := 2) (i := 2) G rfl rfl dX10_with_22 ?_
      refine JR_iconst (pc := 23) G ci_1 dX10_with_23 ?_
      refine JR_iadd (pc := 24) G dX10_with_24 ?_
      refine JR_i2l (pc := 25) G dX10_with_25 ?_
      refine JR_ldc2 (pc := 26) G q2309 dX10_with_26 ?_
      refine JPS_I (pc := 29) (as := [.long (Int32.toInt64 p3), .long (Int32.toInt64 (p2 + 1)), .long 120]) (st' := []) G (Mo_in_fn (Int32.toInt64 p3) (Int32.toInt64 (p2 + 1)) 120 S d) (JC_S (n := 3) G hRm q1782 q1783 q152 q1784 dd_X10_in ⟨by decide, by decide⟩ dX10_with_29 rfl (Nat.le_of_ble_eq_true rfl)) rfl (fun r4 hr4 => ?_)
      refine JR_if_eq (pc := 32) (tgt := 45) G dX10_with_32 (by decide) (fun c7 => ?_) (fun c7 => ?_)
      · refine JR_bipush (pc := 45) (v := (-2)) G (by decide) dX10_with_45 ?_
        exact JR_iret (pc := 47) G hR dX10_with_47 rfl rfl
      · refine JR_aload_n (pc := 35) (k := 0) (i := 0) (o := some this) G rfl rfl dX10_with_35 ?_
        refine JR_iload_n (pc := 36) (k := 1) (i := 1) G rfl rfl dX10_with_36 ?_
        refine JR_iload_n (pc := 37) (k := 2) (i := 2) G rfl rfl dX10_with_37 ?_
        refine JR_iload_n (pc := 38) (k := 3) (i := 3) G rfl rfl dX10_with_38 ?_
        refine JQV_I (pc := 39) (as := [.int p1, .int p2, .int p3]) (st' := []) (o := some this) G (Mo_recordsWith_fn this p1 p2 p3 S d) (JC_V (n := 3) G hRm cl_X10 q2310 q2312 qs132 q152 q2313 ⟨rfl, dd_X10_recordsWith⟩ ⟨by decide, by decide⟩ dX10_with_39 hz1 rfl (Nat.le_of_ble_eq_true rfl)) rfl (fun _ _ => rfl) (fun r5 d6 hd6 => ?_)
        refine JR_goto (pc := 42) (tgt := 47) G dX10_with_42 (by decide) ?_
        exact JR_iret (pc := 47) G hR dX10_with_47 rfl rfl

def Mo_tight_h32 (this : Nat) (p1 : Int32) (S : Sp) : Nat → Int32 → Int32 → Dt → Option (Int32 × Dt)
  | 0, _, _, _ => none
  | f + 1, v2, v3, d =>
    (isK S 9 (some this)).bind fun z10 =>
    (Mo_toldOf this p1 2 S d).bind fun r11 =>
    bind2 (Mo_recordsWith this p1 r11 v3 S d) fun r12 d13 =>
    if r12 ≤ v2 then
      some (v3, d13)
    else
      Mo_tight_h32 this p1 S f v2 (v3 + 1) d13
def Mo_tight (this : Nat) (p1 : Int32) (S : Sp) (d : Dt) : Option (Int32 × Dt) :=
  (isK S 9 (some this)).bind fun z1 =>
  (Mo_isTask this p1 S d).bind fun r2 =>
  if r2 = 0 then
    some ((-2), d)
  else
    bind2 (Mo_asks this S d) fun r3 d4 =>
    if ¬ r3 = 0 then
      (some (d4.1 z1 56)).bind fun x5 =>
      (Mo_toldOf this p1 2 S d4).bind fun r6 =>
      (some (r6 + 1)).bind fun x7 =>
      Mo_tight_h32 this p1 S FU x5 x7 d4
    else
      some ((-2), d4)
set_option maxHeartbeats 4000000 in
theorem Mo_tight_fn (this : Nat) (p1 : Int32) (S : Sp) (d : Dt) : Fn yX10_tight (ws_ yX10_tight cX10_tight 4 (some .int)) 11 254 [va_rf (some this), .int p1] S d rvI Λw (Mo_tight this p1 S d) := by
  refine Fn.ofJ (own := RX10) (lv := [(0, va_rf (some this)), (1, .int p1)]) (by decide +kernel) rfl (by simp [cat_i, cat_l, cat_f, cat_d, rf_cat]) (by simp [lv_args, cat_i, cat_l, cat_f, cat_d, rf_cat]) ?_
  intro X F G hRm hR hI
  have hMo_tight_h32 : ∀ (f : Nat) (v2 : Int32) (v3 : Int32) (d : Dt), J X F Λw S d 32 [(0, va_rf (some this)), (1, .int p1), (2, .int v2), (3, .int v3)] [] (Mo_tight_h32 this p1 S f v2 v3 d) := by
    intro  f
    induction f with
    | zero => intro v2 v3 d; exact J_no
    | succ f ih =>
      intro v2 v3 d
      unfold Mo_tight_h32
      refine JR_aload_n (pc := 32) (k := 0) (i := 0) (o := some this) G rfl rfl dX10_tight_32 ?_
      refine JR_iload_n (pc := 33) (k := 1) (i := 1) G rfl rfl dX10_tight_33 ?_
      refine JR_aload_n (pc := 34) (k := 0) (i := 0) (o := some this) G rfl rfl dX10_tight_34 ?_
      refine JR_iload_n (pc := 35) (k := 1) (i := 1) G rfl rfl dX10_tight_35 ?_
      refine JR_iconst (pc := 36) G ci_2 dX10_tight_36 ?_
      refine J_bd (fun z10 hz10 => ?_)
      refine JPV_I (pc := 37) (as := [.int p1, .int 2]) (st' := [.int p1, va_rf (some this)]) (o := some this) G (Mo_toldOf_fn this p1 2 S d) (JC_V (n := 2) G hRm cl_X10 q1921 q1923 qs79 q152 q1924 ⟨rfl, dd_X10_toldOf⟩ ⟨by decide, by decide⟩ dX10_tight_37 hz10 rfl (Nat.le_of_ble_eq_true rfl)) rfl (fun r11 hr11 => ?_)
      refine JR_iload_n (pc := 40) (k := 3) (i := 3) G rfl rfl dX10_tight_40 ?_
      refine JQV_I (pc := 41) (as := [.int p1, .int r11, .int v3]) (st' := []) (o := some this) G (Mo_recordsWith_fn this p1 r11 v3 S d) (JC_V (n := 3) G hRm cl_X10 q2310 q2312 qs132 q152 q2313 ⟨rfl, dd_X10_recordsWith⟩ ⟨by decide, by decide⟩ dX10_tight_41 hz10 rfl (Nat.le_of_ble_eq_true rfl)) rfl (fun _ _ => rfl) (fun r12 d13 hd13 => ?_)
      refine JR_iload_n (pc := 44) (k := 2) (i := 2) G rfl rfl dX10_tight_44 ?_
      refine JR_icmp_le (pc := 45) (tgt := 54) G dX10_tight_45 (by decide) (fun c14 => ?_) (fun c14 => ?_)
      · refine JR_iload_n (pc := 54) (k := 3) (i := 3) G rfl rfl dX10_tight_54 ?_
        exact JR_iret (pc := 55) G hR dX10_tight_55 rfl rfl
      · refine JR_iinc (pc := 48) (i := 3) (v := v3 + 1) (lv' := [(3, .int (v3 + 1)), (0, va_rf (some this)), (1, .int p1), (2, .int v2)]) G rfl (congrArg (fun z => v3 + z) (by decide)) (by decide) rfl dX10_tight_48 ?_
        refine JR_goto (pc := 51) (tgt := 32) G dX10_tight_51 (by decide) ?_
        refine J_sub [1, 2, 3, 0] rfl ?_
        exact ih v2 (v3 + 1) d13
  unfold Mo_tight
  refine JR_aload_n (pc := 0) (k := 0) (i := 0) (o := some this) G rfl rfl dX10_tight_0 ?_
  refine JR_iload_n (pc := 1) (k := 1) (i := 1) G rfl rfl dX10_tight_1 ?_
  refine J_bd (fun z1 hz1 => ?_)
  refine JPV_I (pc := 2) (as := [.int p1]) (st' := []) (o := some this) G (Mo_isTask_fn this p1 S d) (JC_V (n := 1) G hRm cl_X10 q1916 q1918 qs78 q152 q1919 ⟨rfl, dd_X10_isTask⟩ ⟨by decide, by decide⟩ dX10_tight_2 hz1 rfl (Nat.le_of_ble_eq_true rfl)) rfl (fun r2 hr2 => ?_)
  refine JR_if_eq (pc := 5) (tgt := 15) G dX10_tight_5 (by decide) (fun c9 => ?_) (fun c9 => ?_)
  · refine JR_bipush (pc := 15) (v := (-2)) G (by decide) dX10_tight_15 ?_
    exact JR_iret (pc := 17) G hR dX10_tight_17 rfl rfl
  · refine JR_aload_n (pc := 8) (k := 0) (i := 0) (o := some this) G rfl rfl dX10_tight_8 ?_
    refine JQV_I (pc := 9) (as := []) (st' := []) (o := some this) G (Mo_asks_fn this S d) (JC_V (n := 0) G hRm cl_X10 q2078 q2080 qs100 q152 q2081 ⟨rfl, dd_X10_asks⟩ ⟨by decide, by decide⟩ dX10_tight_9 hz1 rfl (Nat.le_of_ble_eq_true rfl)) rfl (fun _ _ => rfl) (fun r3 d4 hd4 => ?_)
    refine JR_if_ne (pc := 12) (tgt := 18) G dX10_tight_12 (by decide) (fun c8 => ?_) (fun c8 => ?_)
    · refine JR_aload_n (pc := 18) (k := 0) (i := 0) (o := some this) G rfl rfl dX10_tight_18 ?_
      refine JR_gI (pc := 19) (k := 56) G cl_X10 in_X10 (by decide) (by decide) rfl (Or.inl rfl) q1644 hz1 dX10_tight_19 ?_
      refine J_nm (fun x5 hx5 => ?_)
      refine JR_istore_n (pc := 22) (k := 2) (i := 2) (lv' := [(2, .int x5), (0, va_rf (some this)), (1, .int p1)]) G rfl (by decide) rfl dX10_tight_22 ?_
      refine JR_aload_n (pc := 23) (k := 0) (i := 0) (o := some this) G rfl rfl dX10_tight_23 ?_
      refine JR_iload_n (pc := 24) (k := 1) (i := 1) G rfl rfl dX10_tight_24 ?_
      refine JR_iconst (pc := 25) G ci_2 dX10_tight_25 ?_
      refine JPV_I (pc := 26) (as := [.int p1, .int 2]) (st' := []) (o := some this) G (Mo_toldOf_fn this p1 2 S d4) (JC_V (n := 2) G hRm cl_X10 q1921 q1923 qs79 q152 q1924 ⟨rfl, dd_X10_toldOf⟩ ⟨by decide, by decide⟩ dX10_tight_26 hz1 rfl (Nat.le_of_ble_eq_true rfl)) rfl (fun r6 hr6 => ?_)
      refine JR_iconst (pc := 29) G ci_1 dX10_tight_29 ?_
      refine JR_iadd (pc := 30) G dX10_tight_30 ?_
      refine J_nm (fun x7 hx7 => ?_)
      refine JR_istore_n (pc := 31) (k := 3) (i := 3) (lv' := [(3, .int x7), (2, .int x5), (0, va_rf (some this)), (1, .int p1)]) G rfl (by decide) rfl dX10_tight_31 ?_
      refine J_sub [2, 3, 1, 0] rfl ?_
      exact hMo_tight_h32 FU x5 x7 d4
    · refine JR_bipush (pc := 15) (v := (-2)) G (by decide) dX10_tight_15 ?_
      exact JR_iret (pc := 17) G hR dX10_tight_17 rfl rfl

def Mo_loose_h37 (this : Nat) (p1 : Int32) (S : Sp) : Nat → Int32 → Int32 → Dt → Option (Int32 × Dt)
  | 0, _, _, _ => none
  | f + 1, v2, v3, d =>
    (isK S 9 (some this)).bind fun z10 =>
    (Mo_toldOf this p1 3 S d).bind fun r11 =>
    bind2 (Mo_recordsWith this p1 v3 r11 S d) fun r12 d13 =>
    if r12 ≤ v2 then
      some (v3, d13)
    else
      Mo_loose_h37 this p1 S f v2 (v3 + (-1)) d13
def Mo_loose (this : Nat) (p1 : Int32) (S : Sp) (d : Dt) : Option (Int32 × Dt) :=
  (isK S 9 (some this)).bind fun z1 =>
  (Mo_isTask this p1 S d).bind fun r2 =>
  if r2 = 0 then
    some ((-2), d)
  else
    bind2 (Mo_asks this S d) fun r3 d4 =>
    if ¬ r3 = 0 then
      (some (d4.1 z1 56)).bind fun x5 =>
      (Mo_toldOf this p1 3 S d4).bind fun r6 =>
      (some (imin 99 (r6 - 1))).bind fun x7 =>
      Mo_loose_h37 this p1 S FU x5 x7 d4
    else
      some ((-2), d4)
set_option maxHeartbeats 4000000 in
theorem Mo_loose_fn (this : Nat) (p1 : Int32) (S : Sp) (d : Dt) : Fn yX10_loose (ws_ yX10_loose cX10_loose 4 (some .int)) 11 254 [va_rf (some this), .int p1] S d rvI Λw (Mo_loose this p1 S d) := by
  refine Fn.ofJ (own := RX10) (lv := [(0, va_rf (some this)), (1, .int p1)]) (by decide +kernel) rfl (by simp [cat_i, cat_l, cat_f, cat_d, rf_cat]) (by simp [lv_args, cat_i, cat_l, cat_f, cat_d, rf_cat]) ?_
  intro X F G hRm hR hI
  have hMo_loose_h37 : ∀ (f : Nat) (v2 : Int32) (v3 : Int32) (d : Dt), J X F Λw S d 37 [(0, va_rf (some this)), (1, .int p1), (2, .int v2), (3, .int v3)] [] (Mo_loose_h37 this p1 S f v2 v3 d) := by
    intro  f
    induction f with
    | zero => intro v2 v3 d; exact J_no
    | succ f ih =>
      intro v2 v3 d
      unfold Mo_loose_h37
      refine JR_aload_n (pc := 37) (k := 0) (i := 0) (o := some this) G rfl rfl dX10_loose_37 ?_
      refine JR_iload_n (pc := 38) (k := 1) (i := 1) G rfl rfl dX10_loose_38 ?_
      refine JR_iload_n (pc := 39) (k := 3) (i := 3) G rfl rfl dX10_loose_39 ?_
      refine JR_aload_n (pc := 40) (k := 0) (i := 0) (o := some this) G rfl rfl dX10_loose_40 ?_
      refine JR_iload_n (pc := 41) (k := 1) (i := 1) G rfl rfl dX10_loose_41 ?_
      refine JR_iconst (pc := 42) G ci_3 dX10_loose_42 ?_
      refine J_bd (fun z10 hz10 => ?_)
      refine JPV_I (pc := 43) (as := [.int p1, .int 3]) (st' := [.int v3, .int p1, va_rf (some this)]) (o := some this) G (Mo_toldOf_fn this p1 3 S d) (JC_V (n := 2) G hRm cl_X10 q1921 q1923 qs79 q152 q1924 ⟨rfl, dd_X10_toldOf⟩ ⟨by decide, by decide⟩ dX10_loose_43 hz10 rfl (Nat.le_of_ble_eq_true rfl)) rfl (fun r11 hr11 => ?_)
      refine JQV_I (pc := 46) (as := [.int p1, .int v3, .int r11]) (st' := []) (o := some this) G (Mo_recordsWith_fn this p1 v3 r11 S d) (JC_V (n := 3) G hRm cl_X10 q2310 q2312 qs132 q152 q2313 ⟨rfl, dd_X10_recordsWith⟩ ⟨by decide, by decide⟩ dX10_loose_46 hz10 rfl (Nat.le_of_ble_eq_true rfl)) rfl (fun _ _ => rfl) (fun r12 d13 hd13 => ?_)
      refine JR_iload_n (pc := 49) (k := 2) (i := 2) G rfl rfl dX10_loose_49 ?_
      refine JR_icmp_le (pc := 50) (tgt := 59) G dX10_loose_50 (by decide) (fun c14 => ?_) (fun c14 => ?_)
      · refine JR_iload_n (pc := 59) (k := 3) (i := 3) G rfl rfl dX10_loose_59 ?_
        exact JR_iret (pc := 60) G hR dX10_loose_60 rfl rfl
      · refine JR_iinc (pc := 53) (i := 3) (v := v3 + (-1)) (lv' := [(3, .int (v3 + (-1))), (0, va_rf (some this)), (1, .int p1), (2, .int v2)]) G rfl (congrArg (fun z => v3 + z) (by decide)) (by decide) rfl dX10_loose_53 ?_
        refine JR_goto (pc := 56) (tgt := 37) G dX10_loose_56 (by decide) ?_
        refine J_sub [1, 2, 3, 0] rfl ?_
        exact ih v2 (v3 + (-1)) d13
  unfold Mo_loose
  refine JR_aload_n (pc := 0) (k := 0) (i := 0) (o := some this) G rfl rfl dX10_loose_0 ?_
  refine JR_iload_n (pc := 1) (k := 1) (i := 1) G rfl rfl dX10_loose_1 ?_
  refine J_bd (fun z1 hz1 => ?_)
  refine JPV_I (pc := 2) (as := [.int p1]) (st' := []) (o := some this) G (Mo_isTask_fn this p1 S d) (JC_V (n := 1) G hRm cl_X10 q1916 q1918 qs78 q152 q1919 ⟨rfl, dd_X10_isTask⟩ ⟨by decide, by decide⟩ dX10_loose_2 hz1 rfl (Nat.le_of_ble_eq_true rfl)) rfl (fun r2 hr2 => ?_)
  refine JR_if_eq (pc := 5) (tgt := 15) G dX10_loose_5 (by decide) (fun c9 => ?_) (fun c9 => ?_)
  · refine JR_bipush (pc := 15) (v := (-2)) G (by decide) dX10_loose_15 ?_
    exact JR_iret (pc := 17) G hR dX10_loose_17 rfl rfl
  · refine JR_aload_n (pc := 8) (k := 0) (i := 0) (o := some this) G rfl rfl dX10_loose_8 ?_
    refine JQV_I (pc := 9) (as := []) (st' := []) (o := some this) G (Mo_asks_fn this S d) (JC_V (n := 0) G hRm cl_X10 q2078 q2080 qs100 q152 q2081 ⟨rfl, dd_X10_asks⟩ ⟨by decide, by decide⟩ dX10_loose_9 hz1 rfl (Nat.le_of_ble_eq_true rfl)) rfl (fun _ _ => rfl) (fun r3 d4 hd4 => ?_)
    refine JR_if_ne (pc := 12) (tgt := 18) G dX10_loose_12 (by decide) (fun c8 => ?_) (fun c8 => ?_)
    · refine JR_aload_n (pc := 18) (k := 0) (i := 0) (o := some this) G rfl rfl dX10_loose_18 ?_
      refine JR_gI (pc := 19) (k := 56) G cl_X10 in_X10 (by decide) (by decide) rfl (Or.inl rfl) q1644 hz1 dX10_loose_19 ?_
      refine J_nm (fun x5 hx5 => ?_)
      refine JR_istore_n (pc := 22) (k := 2) (i := 2) (lv' := [(2, .int x5), (0, va_rf (some this)), (1, .int p1)]) G rfl (by decide) rfl dX10_loose_22 ?_
      refine JR_bipush (pc := 23) (v := 99) G (by decide) dX10_loose_23 ?_
      refine JR_aload_n (pc := 25) (k := 0) (i := 0) (o := some this) G rfl rfl dX10_loose_25 ?_
      refine JR_iload_n (pc := 26) (k := 1) (i := 1) G rfl rfl dX10_loose_26 ?_
      refine JR_iconst (pc := 27) G ci_3 dX10_loose_27 ?_
      refine JPV_I (pc := 28) (as := [.int p1, .int 3]) (st' := [.int 99]) (o := some this) G (Mo_toldOf_fn this p1 3 S d4) (JC_V (n := 2) G hRm cl_X10 q1921 q1923 qs79 q152 q1924 ⟨rfl, dd_X10_toldOf⟩ ⟨by decide, by decide⟩ dX10_loose_28 hz1 rfl (Nat.le_of_ble_eq_true rfl)) rfl (fun r6 hr6 => ?_)
      refine JR_iconst (pc := 31) G ci_1 dX10_loose_31 ?_
      refine JR_isub (pc := 32) G dX10_loose_32 ?_
      refine JR_min (pc := 33) G hRm q1818 q610 q154 q611 ⟨by decide, by decide⟩ (Nat.le_of_ble_eq_true rfl) dX10_loose_33 ?_
      refine J_nm (fun x7 hx7 => ?_)
      refine JR_istore_n (pc := 36) (k := 3) (i := 3) (lv' := [(3, .int x7), (2, .int x5), (0, va_rf (some this)), (1, .int p1)]) G rfl (by decide) rfl dX10_loose_36 ?_
      refine J_sub [2, 3, 1, 0] rfl ?_
      exact hMo_loose_h37 FU x5 x7 d4
    · refine JR_bipush (pc := 15) (v := (-2)) G (by decide) dX10_loose_15 ?_
      exact JR_iret (pc := 17) G hR dX10_loose_17 rfl rfl

def Mo_extra_b123 (this : Nat) (p1 : Int32) (p2 : Int32) (p3 : Int32) (p4 : Int32) (S : Sp) (s0 : Int32) (s1 : Int32) (s2 : Option Nat) (d : Dt) : Option (Unit × Dt) :=
  (isK S 9 s2).bind fun z23 =>
  (some (dI d z23 61 (s1 + s0))).bind fun d24 =>
  some ((), d24)
def Mo_extra (this : Nat) (p1 : Int32) (p2 : Int32) (p3 : Int32) (p4 : Int32) (S : Sp) (d : Dt) : Option (Unit × Dt) :=
  (isK S 9 (some this)).bind fun z1 =>
  (Mo_many this S d).bind fun r2 =>
  (some (106 + (5 * r2))).bind fun x3 =>
  bind2 (Mo_asTold this S d) fun _ d4 =>
  (some (dI d4 z1 27 1)).bind fun d5 =>
  (aix S 50 (S.2.1 z1 1) x3).bind fun q6 =>
  (some (dI d5 q6.1 q6.2 p1)).bind fun d7 =>
  (aix S 50 (S.2.1 z1 1) (x3 + 1)).bind fun q8 =>
  (some (dI d7 q8.1 q8.2 p2)).bind fun d9 =>
  (aix S 50 (S.2.1 z1 1) (x3 + 2)).bind fun q10 =>
  (some (dI d9 q10.1 q10.2 p3)).bind fun d11 =>
  (aix S 50 (S.2.1 z1 1) (x3 + 3)).bind fun q12 =>
  (some (dI d11 q12.1 q12.2 p4)).bind fun d13 =>
  (aix S 50 (S.2.1 z1 1) (x3 + 4)).bind fun q14 =>
  (some (dI d13 q14.1 q14.2 1)).bind fun d15 =>
  (aix S 50 (S.2.1 z1 1) 0).bind fun q16 =>
  bind2 (Mo_runs this (d15.1 q16.1 q16.2) S d15) fun _ d17 =>
  (Mo_many this S d17).bind fun r18 =>
  (Mo_caughtIn this r18 S d17).bind fun r19 =>
  (some (dI d17 z1 27 0)).bind fun d20 =>
  (some (dI d20 z1 60 (imax (d20.1 z1 60) r19))).bind fun d21 =>
  Mo_extra_b123 this p1 p2 p3 p4 S (if ¬ r19 = ((-1)) then 0 else 1) (d21.1 z1 61) (some this) d21
set_option maxHeartbeats 4000000 in
theorem Mo_extra_fn (this : Nat) (p1 : Int32) (p2 : Int32) (p3 : Int32) (p4 : Int32) (S : Sp) (d : Dt) : Fn yX10_extra (ws_ yX10_extra cX10_extra 7 none) 10 231 [va_rf (some this), .int p1, .int p2, .int p3, .int p4] S d rvU Λw (Mo_extra this p1 p2 p3 p4 S d) := by
  refine Fn.ofJ (own := RX10) (lv := [(0, va_rf (some this)), (1, .int p1), (2, .int p2), (3, .int p3), (4, .int p4)]) (by decide +kernel) rfl (by simp [cat_i, cat_l, cat_f, cat_d, rf_cat]) (by simp [lv_args, cat_i, cat_l, cat_f, cat_d, rf_cat]) ?_
  intro X F G hRm hR hI
  have hMo_extra_b123 : ∀ (s0 : Int32) (s1 : Int32) (s2 : Option Nat) (d : Dt), J X F Λw S d 123 [(0, va_rf (some this)), (1, .int p1), (2, .int p2), (3, .int p3), (4, .int p4)] [.int s0, .int s1, va_rf s2] (Mo_extra_b123 this p1 p2 p3 p4 S s0 s1 s2 d) := by
    intro s0 s1 s2 d
    unfold Mo_extra_b123
    refine JR_iadd (pc := 123) G dX10_extra_123 ?_
    refine J_bd (fun z23 hz23 => ?_)
    refine JW_pI (pc := 124) (k := 61) G cl_X10 in_X10 tyX10_ok nmX10 (by decide) (by decide) rfl (Or.inl rfl) rfl q1649 rfl rfl hz23 (fun _ => rfl) dX10_extra_124 ?_
    refine J_nmD (fun d24 hd24 => ?_)
    exact JR_vret (pc := 127) G hR dX10_extra_127 rfl rfl
  unfold Mo_extra
  refine JR_bipush (pc := 0) (v := 106) G (by decide) dX10_extra_0 ?_
  refine JR_iconst (pc := 2) G ci_5 dX10_extra_2 ?_
  refine JR_aload_n (pc := 3) (k := 0) (i := 0) (o := some this) G rfl rfl dX10_extra_3 ?_
  refine J_bd (fun z1 hz1 => ?_)
  refine JPV_I (pc := 4) (as := []) (st' := [.int 5, .int 106]) (o := some this) G (Mo_many_fn this S d) (JC_V (n := 0) G hRm cl_X10 q1957 q1959 qs85 q152 q1960 ⟨rfl, dd_X10_many⟩ ⟨by decide, by decide⟩ dX10_extra_4 hz1 rfl (Nat.le_of_ble_eq_true rfl)) rfl (fun r2 hr2 => ?_)
  refine JR_imul (pc := 7) G dX10_extra_7 ?_
  refine JR_iadd (pc := 8) G dX10_extra_8 ?_
  refine J_nm (fun x3 hx3 => ?_)
  refine JR_istore (pc := 9) (i := 5) (lv' := [(5, .int x3), (0, va_rf (some this)), (1, .int p1), (2, .int p2), (3, .int p3), (4, .int p4)]) G (by decide) rfl dX10_extra_9 ?_
  refine JR_aload_n (pc := 11) (k := 0) (i := 0) (o := some this) G rfl rfl dX10_extra_11 ?_
  refine JQV_U (pc := 12) (as := []) (st' := []) (o := some this) G (Mo_asTold_fn this S d) (JC_V (n := 0) G hRm cl_X10 q2082 q2084 qs101 q152 q2085 ⟨rfl, dd_X10_asTold⟩ ⟨by decide, by decide⟩ dX10_extra_12 hz1 rfl (Nat.le_of_ble_eq_true rfl)) rfl (fun _ _ => rfl) (fun _ d4 hd4 => ?_)
  refine JR_aload_n (pc := 15) (k := 0) (i := 0) (o := some this) G rfl rfl dX10_extra_15 ?_
  refine JR_iconst (pc := 16) G ci_1 dX10_extra_16 ?_
  refine JW_pI (pc := 17) (k := 27) G cl_X10 in_X10 tyX10_ok nmX10 (by decide) (by decide) rfl (Or.inl rfl) rfl q1615 rfl rfl hz1 (fun _ => rfl) dX10_extra_17 ?_
  refine J_nmD (fun d5 hd5 => ?_)
  refine JR_aload_n (pc := 20) (k := 0) (i := 0) (o := some this) G rfl rfl dX10_extra_20 ?_
  refine JR_gR (pc := 21) (k := 1) G cl_X10 in_X10 (by decide) (by decide) rfl (Or.inl rfl) q1589 hz1 dX10_extra_21 ?_
  refine JR_iload (pc := 24) (i := 5) G rfl dX10_extra_24 ?_
  refine JR_iload_n (pc := 26) (k := 1) (i := 1) G rfl rfl dX10_extra_26 ?_
  refine J_bd (fun q6 hq6 => ?_)
  refine JW_iastore (pc := 27) G hq6 (fun _ => rfl) dX10_extra_27 ?_
  refine J_nmD (fun d7 hd7 => ?_)
  refine JR_aload_n (pc := 28) (k := 0) (i := 0) (o := some this) G rfl rfl dX10_extra_28 ?_
  refine JR_gR (pc := 29) (k := 1) G cl_X10 in_X10 (by decide) (by decide) rfl (Or.inl rfl) q1589 hz1 dX10_extra_29 ?_
  refine JR_iload (pc := 32) (i := 5) G rfl dX10_extra_32 ?_
  refine JR_iconst (pc := 34) G ci_1 dX10_extra_34 ?_
  refine JR_iadd (pc := 35) G dX10_extra_35 ?_
  refine JR_iload_n (pc := 36) (k := 2) (i := 2) G rfl rfl dX10_extra_36 ?_
  refine J_bd (fun q8 hq8 => ?_)
  refine JW_iastore (pc := 37) G hq8 (fun _ => rfl) dX10_extra_37 ?_
  refine J_nmD (fun d9 hd9 => ?_)
  refine JR_aload_n (pc := 38) (k := 0) (i := 0) (o := some this) G rfl rfl dX10_extra_38 ?_
  refine JR_gR (pc := 39) (k := 1) G cl_X10 in_X10 (by decide) (by decide) rfl (Or.inl rfl) q1589 hz1 dX10_extra_39 ?_
  refine JR_iload (pc := 42) (i := 5) G rfl dX10_extra_42 ?_
  refine JR_iconst (pc := 44) G ci_2 dX10_extra_44 ?_
  refine JR_iadd (pc := 45) G dX10_extra_45 ?_
  refine JR_iload_n (pc := 46) (k := 3) (i := 3) G rfl rfl dX10_extra_46 ?_
  refine J_bd (fun q10 hq10 => ?_)
  refine JW_iastore (pc := 47) G hq10 (fun _ => rfl) dX10_extra_47 ?_
  refine J_nmD (fun d11 hd11 => ?_)
  refine JR_aload_n (pc := 48) (k := 0) (i := 0) (o := some this) G rfl rfl dX10_extra_48 ?_
  refine JR_gR (pc := 49) (k := 1) G cl_X10 in_X10 (by decide) (by decide) rfl (Or.inl rfl) q1589 hz1 dX10_extra_49 ?_
  refine JR_iload (pc := 52) (i := 5) G rfl dX10_extra_52 ?_
  refine JR_iconst (pc := 54) G ci_3 dX10_extra_54 ?_
  refine JR_iadd (pc := 55) G dX10_extra_55 ?_
  refine JR_iload (pc := 56) (i := 4) G rfl dX10_extra_56 ?_
  refine J_bd (fun q12 hq12 => ?_)
  refine JW_iastore (pc := 58) G hq12 (fun _ => rfl) dX10_extra_58 ?_
  refine J_nmD (fun d13 hd13 => ?_)
  refine JR_aload_n (pc := 59) (k := 0) (i := 0) (o := some this) G rfl rfl dX10_extra_59 ?_
  refine JR_gR (pc := 60) (k := 1) G cl_X10 in_X10 (by decide) (by decide) rfl (Or.inl rfl) q1589 hz1 dX10_extra_60 ?_
  refine JR_iload (pc := 63) (i := 5) G rfl dX10_extra_63 ?_
  refine JR_iconst (pc := 65) G ci_4 dX10_extra_65 ?_
  refine JR_iadd (pc := 66) G dX10_extra_66 ?_
  refine JR_iconst (pc := 67) G ci_1 dX10_extra_67 ?_
  refine J_bd (fun q14 hq14 => ?_)
  refine JW_iastore (pc := 68) G hq14 (fun _ => rfl) dX10_extra_68 ?_
  refine J_nmD (fun d15 hd15 => ?_)
  refine JR_aload_n (pc := 69) (k := 0) (i := 0) (o := some this) G rfl rfl dX10_extra_69 ?_
  refine JR_aload_n (pc := 70) (k := 0) (i := 0) (o := some this) G rfl rfl dX10_extra_70 ?_
  refine JR_gR (pc := 71) (k := 1) G cl_X10 in_X10 (by decide) (by decide) rfl (Or.inl rfl) q1589 hz1 dX10_extra_71 ?_
  refine JR_iconst (pc := 74) G ci_0 dX10_extra_74 ?_
  refine J_bd (fun q16 hq16 => ?_)
  refine JR_iaload (pc := 75) G hq16 dX10_extra_75 ?_
  refine JQV_U (pc := 76) (as := [.int (d15.1 q16.1 q16.2)]) (st' := []) (o := some this) G (Mo_runs_fn this (d15.1 q16.1 q16.2) S d15) (JC_V (n := 1) G hRm cl_X10 q2086 q2088 qs102 q152 q2089 ⟨rfl, dd_X10_runs⟩ ⟨by decide, by decide⟩ dX10_extra_76 hz1 rfl (Nat.le_of_ble_eq_true rfl)) rfl (fun _ _ => rfl) (fun _ d17 hd17 => ?_)
  refine JR_aload_n (pc := 79) (k := 0) (i := 0) (o := some this) G rfl rfl dX10_extra_79 ?_
  refine JR_aload_n (pc := 80) (k := 0) (i := 0) (o := some this) G rfl rfl dX10_extra_80 ?_
  refine JPV_I (pc := 81) (as := []) (st' := [va_rf (some this)]) (o := some this) G (Mo_many_fn this S d17) (JC_V (n := 0) G hRm cl_X10 q1957 q1959 qs85 q152 q1960 ⟨rfl, dd_X10_many⟩ ⟨by decide, by decide⟩ dX10_extra_81 hz1 rfl (Nat.le_of_ble_eq_true rfl)) rfl (fun r18 hr18 => ?_)
  refine JPV_I (pc := 84) (as := [.int r18]) (st' := []) (o := some this) G (Mo_caughtIn_fn this r18 S d17) (JC_V (n := 1) G hRm cl_X10 q2288 q2290 qs130 q152 q2291 ⟨rfl, dd_X10_caughtIn⟩ ⟨by decide, by decide⟩ dX10_extra_84 hz1 rfl (Nat.le_of_ble_eq_true rfl)) rfl (fun r19 hr19 => ?_)
  refine JR_istore (pc := 87) (i := 6) (lv' := [(6, .int r19), (5, .int x3), (0, va_rf (some this)), (1, .int p1), (2, .int p2), (3, .int p3), (4, .int p4)]) G (by decide) rfl dX10_extra_87 ?_
  refine JR_aload_n (pc := 89) (k := 0) (i := 0) (o := some this) G rfl rfl dX10_extra_89 ?_
  refine JR_iconst (pc := 90) G ci_0 dX10_extra_90 ?_
  refine JW_pI (pc := 91) (k := 27) G cl_X10 in_X10 tyX10_ok nmX10 (by decide) (by decide) rfl (Or.inl rfl) rfl q1615 rfl rfl hz1 (fun _ => rfl) dX10_extra_91 ?_
  refine J_nmD (fun d20 hd20 => ?_)
  refine JR_aload_n (pc := 94) (k := 0) (i := 0) (o := some this) G rfl rfl dX10_extra_94 ?_
  refine JR_aload_n (pc := 95) (k := 0) (i := 0) (o := some this) G rfl rfl dX10_extra_95 ?_
  refine JR_gI (pc := 96) (k := 60) G cl_X10 in_X10 (by decide) (by decide) rfl (Or.inl rfl) q1648 hz1 dX10_extra_96 ?_
  refine JR_iload (pc := 99) (i := 6) G rfl dX10_extra_99 ?_
  refine JR_max (pc := 101) G hRm q1978 q879 q154 q880 ⟨by decide, by decide⟩ (Nat.le_of_ble_eq_true rfl) dX10_extra_101 ?_
  refine JW_pI (pc := 104) (k := 60) G cl_X10 in_X10 tyX10_ok nmX10 (by decide) (by decide) rfl (Or.inl rfl) rfl q1648 rfl rfl hz1 (fun _ => rfl) dX10_extra_104 ?_
  refine J_nmD (fun d21 hd21 => ?_)
  refine JR_aload_n (pc := 107) (k := 0) (i := 0) (o := some this) G rfl rfl dX10_extra_107 ?_
  refine JR_dup (pc := 108) G (rf_cat _) dX10_extra_108 ?_
  refine JR_gI (pc := 109) (k := 61) G cl_X10 in_X10 (by decide) (by decide) rfl (Or.inl rfl) q1649 hz1 dX10_extra_109 ?_
  refine JR_iload (pc := 112) (i := 6) G rfl dX10_extra_112 ?_
  refine JR_iconst (pc := 114) G ci_m1 dX10_extra_114 ?_
  refine J_eq (r' := if ¬ r19 = ((-1)) then Mo_extra_b123 this p1 p2 p3 p4 S 0 (d21.1 z1 61) (some this) d21 else Mo_extra_b123 this p1 p2 p3 p4 S 1 (d21.1 z1 61) (some this) d21) (by split <;> rfl) ?_
  refine JR_icmp_ne (pc := 115) (tgt := 122) G dX10_extra_115 (by decide) (fun c22 => ?_) (fun c22 => ?_)
  · refine JR_iconst (pc := 122) G ci_0 dX10_extra_122 ?_
    refine J_sub [2, 3, 4, 5, 6] rfl ?_
    exact hMo_extra_b123 0 (d21.1 z1 61) (some this) d21
  · refine JR_iconst (pc := 118) G ci_1 dX10_extra_118 ?_
    refine JR_goto (pc := 119) (tgt := 123) G dX10_extra_119 (by decide) ?_
    refine J_sub [2, 3, 4, 5, 6] rfl ?_
    exact hMo_extra_b123 1 (d21.1 z1 61) (some this) d21

def Mo_asksExtras_b98 (this : Nat) (p1 : Int32) (p2 : Int32) (S : Sp) (k54 : Int32 → Int32 → Dt → Option (Int32 × Dt)) (k63 : Int32 → Int32 → Int32 → Dt → Option (Int32 × Dt)) (v3 : Int32) (v4 : Int32) (v5 : Int32) (s0 : Int32) (s1 : Int32) (s2 : Int32) (s3 : Int32) (s4 : Option Nat) (d : Dt) : Option (Int32 × Dt) :=
  (isK S 9 s4).bind fun z19 =>
  bind2 (Mo_extra z19 s3 s2 s1 s0 S d) fun _ d20 =>
  k63 v3 v4 (v5 + 1) d20
def Mo_asksExtras_b79 (this : Nat) (p1 : Int32) (p2 : Int32) (S : Sp) (k54 : Int32 → Int32 → Dt → Option (Int32 × Dt)) (k63 : Int32 → Int32 → Int32 → Dt → Option (Int32 × Dt)) (v3 : Int32) (v4 : Int32) (v5 : Int32) (s0 : Int32) (s1 : Int32) (d : Dt) : Option (Int32 × Dt) :=
  if s0 ≤ s1 then
    k54 v3 (v4 + 1) d
  else
    Mo_asksExtras_b98 this p1 p2 S k54 k63 v3 v4 v5 (if ¬ p2 = 4 then v5 else (-1)) v4 p1 p2 (some this) d
def Mo_asksExtras_h63 (this : Nat) (p1 : Int32) (p2 : Int32) (S : Sp) (k54 : Int32 → Int32 → Dt → Option (Int32 × Dt)) : Nat → Int32 → Int32 → Int32 → Dt → Option (Int32 × Dt)
  | 0, _, _, _, _ => none
  | f + 1, v3, v4, v5, d =>
    if ¬ p2 = 4 then
      (isK S 9 (some this)).bind fun z14 =>
      (Mo_nodesOf this p1 S d).bind fun r15 =>
      Mo_asksExtras_b79 this p1 p2 S k54 (Mo_asksExtras_h63 this p1 p2 S k54 f) v3 v4 v5 r15 v5 d
    else
      Mo_asksExtras_b79 this p1 p2 S k54 (Mo_asksExtras_h63 this p1 p2 S k54 f) v3 v4 v5 1 v5 d
def Mo_asksExtras_h54 (this : Nat) (p1 : Int32) (p2 : Int32) (S : Sp) : Nat → Int32 → Int32 → Dt → Option (Int32 × Dt)
  | 0, _, _, _ => none
  | f + 1, v3, v4, d =>
    if v3 ≤ v4 then
      some (1, d)
    else
      Mo_asksExtras_h63 this p1 p2 S (Mo_asksExtras_h54 this p1 p2 S f) FU v3 v4 0 d
def Mo_asksExtras (this : Nat) (p1 : Int32) (p2 : Int32) (S : Sp) (d : Dt) : Option (Int32 × Dt) :=
  (isK S 9 (some this)).bind fun z1 =>
  (Mo_isTask this p1 S d).bind fun r2 =>
  if r2 = 0 then
    some (0, d)
  else
    (Mo_in (Int32.toInt64 p2) 0 4 S d).bind fun r3 =>
    if r3 = 0 then
      some (0, d)
    else
      bind2 (Mo_asks this S d) fun r4 d5 =>
      if ¬ r4 = 0 then
        (aix S 50 (S.2.1 z1 30) p1).bind fun q6 =>
        (some (imin 51 (d5.1 q6.1 q6.2))).bind fun x7 =>
        (some (dI d5 z1 60 ((-1)))).bind fun d8 =>
        (some (dI d8 z1 61 0)).bind fun d9 =>
        Mo_asksExtras_h54 this p1 p2 S FU x7 0 d9
      else
        some (0, d5)
set_option maxHeartbeats 4000000 in
theorem Mo_asksExtras_fn (this : Nat) (p1 : Int32) (p2 : Int32) (S : Sp) (d : Dt) : Fn yX10_asksExtras (ws_ yX10_asksExtras cX10_asksExtras 6 (some .boolean)) 11 257 [va_rf (some this), .int p1, .int p2] S d rvI Λw (Mo_asksExtras this p1 p2 S d) := by
  refine Fn.ofJ (own := RX10) (lv := [(0, va_rf (some this)), (1, .int p1), (2, .int p2)]) (by decide +kernel) rfl (by simp [cat_i, cat_l, cat_f, cat_d, rf_cat]) (by simp [lv_args, cat_i, cat_l, cat_f, cat_d, rf_cat]) ?_
  intro X F G hRm hR hI
  have hMo_asksExtras_b98 : ∀ (k54 : Int32 → Int32 → Dt → Option (Int32 × Dt)) (hk54 : ∀ (v3 : Int32) (v4 : Int32) (d : Dt), J X F Λw S d 54 [(0, va_rf (some this)), (1, .int p1), (2, .int p2), (3, .int v3), (4, .int v4)] [] (k54 v3 v4 d)) (k63 : Int32 → Int32 → Int32 → Dt → Option (Int32 × Dt)) (hk63 : ∀ (v3 : Int32) (v4 : Int32) (v5 : Int32) (d : Dt), J X F Λw S d 63 [(0, va_rf (some this)), (1, .int p1), (2, .int p2), (3, .int v3), (4, .int v4), (5, .int v5)] [] (k63 v3 v4 v5 d)) (v3 : Int32) (v4 : Int32) (v5 : Int32) (s0 : Int32) (s1 : Int32) (s2 : Int32) (s3 : Int32) (s4 : Option Nat) (d : Dt), J X F Λw S d 98 [(0, va_rf (some this)), (1, .int p1), (2, .int p2), (3, .int v3), (4, .int v4), (5, .int v5)] [.int s0, .int s1, .int s2, .int s3, va_rf s4] (Mo_asksExtras_b98 this p1 p2 S k54 k63 v3 v4 v5 s0 s1 s2 s3 s4 d) := by
    intro k54 hk54 k63 hk63 v3 v4 v5 s0 s1 s2 s3 s4 d
    unfold Mo_asksExtras_b98
    refine J_bd (fun z19 hz19 => ?_)
    refine J_stk (st' := [.int s0, .int s1, .int s2, .int s3, va_rf (some z19)]) (by rw [(isK_at hz19).1]) ?_
    refine JQV_U (pc := 98) (as := [.int s3, .int s2, .int s1, .int s0]) (st' := []) (o := some z19) G (Mo_extra_fn z19 s3 s2 s1 s0 S d) (JC_V (n := 4) G hRm cl_X10 q2330 q2332 qs134 q152 q2333 ⟨rfl, dd_X10_extra⟩ ⟨by decide, by decide⟩ dX10_asksExtras_98 (isK_s hz19) rfl (Nat.le_of_ble_eq_true rfl)) rfl (fun _ _ => rfl) (fun _ d20 hd20 => ?_)
    refine JR_iinc (pc := 101) (i := 5) (v := v5 + 1) (lv' := [(5, .int (v5 + 1)), (0, va_rf (some this)), (1, .int p1), (2, .int p2), (3, .int v3), (4, .int v4)]) G rfl (congrArg (fun z => v5 + z) (by decide)) (by decide) rfl dX10_asksExtras_101 ?_
    refine JR_goto (pc := 104) (tgt := 63) G dX10_asksExtras_104 (by decide) ?_
    refine J_sub [1, 2, 3, 4, 5, 0] rfl ?_
    exact hk63 v3 v4 (v5 + 1) d20
  have hMo_asksExtras_b79 : ∀ (k54 : Int32 → Int32 → Dt → Option (Int32 × Dt)) (hk54 : ∀ (v3 : Int32) (v4 : Int32) (d : Dt), J X F Λw S d 54 [(0, va_rf (some this)), (1, .int p1), (2, .int p2), (3, .int v3), (4, .int v4)] [] (k54 v3 v4 d)) (k63 : Int32 → Int32 → Int32 → Dt → Option (Int32 × Dt)) (hk63 : ∀ (v3 : Int32) (v4 : Int32) (v5 : Int32) (d : Dt), J X F Λw S d 63 [(0, va_rf (some this)), (1, .int p1), (2, .int p2), (3, .int v3), (4, .int v4), (5, .int v5)] [] (k63 v3 v4 v5 d)) (v3 : Int32) (v4 : Int32) (v5 : Int32) (s0 : Int32) (s1 : Int32) (d : Dt), J X F Λw S d 79 [(0, va_rf (some this)), (1, .int p1), (2, .int p2), (3, .int v3), (4, .int v4), (5, .int v5)] [.int s0, .int s1] (Mo_asksExtras_b79 this p1 p2 S k54 k63 v3 v4 v5 s0 s1 d) := by
    intro k54 hk54 k63 hk63 v3 v4 v5 s0 s1 d
    unfold Mo_asksExtras_b79
    refine JR_icmp_ge (pc := 79) (tgt := 107) G dX10_asksExtras_79 (by decide) (fun c18 => ?_) (fun c18 => ?_)
    · refine JR_iinc (pc := 107) (i := 4) (v := v4 + 1) (lv' := [(4, .int (v4 + 1)), (0, va_rf (some this)), (1, .int p1), (2, .int p2), (3, .int v3), (5, .int v5)]) G rfl (congrArg (fun z => v4 + z) (by decide)) (by decide) rfl dX10_asksExtras_107 ?_
      refine JR_goto (pc := 110) (tgt := 54) G dX10_asksExtras_110 (by decide) ?_
      refine J_sub [1, 2, 3, 4, 0] rfl ?_
      exact hk54 v3 (v4 + 1) d
    · refine JR_aload_n (pc := 82) (k := 0) (i := 0) (o := some this) G rfl rfl dX10_asksExtras_82 ?_
      refine JR_iload_n (pc := 83) (k := 2) (i := 2) G rfl rfl dX10_asksExtras_83 ?_
      refine JR_iload_n (pc := 84) (k := 1) (i := 1) G rfl rfl dX10_asksExtras_84 ?_
      refine JR_iload (pc := 85) (i := 4) G rfl dX10_asksExtras_85 ?_
      refine JR_iload_n (pc := 87) (k := 2) (i := 2) G rfl rfl dX10_asksExtras_87 ?_
      refine JR_iconst (pc := 88) G ci_4 dX10_asksExtras_88 ?_
      refine J_eq (r' := if ¬ p2 = 4 then Mo_asksExtras_b98 this p1 p2 S k54 k63 v3 v4 v5 v5 v4 p1 p2 (some this) d else Mo_asksExtras_b98 this p1 p2 S k54 k63 v3 v4 v5 ((-1)) v4 p1 p2 (some this) d) (by split <;> rfl) ?_
      refine JR_icmp_ne (pc := 89) (tgt := 96) G dX10_asksExtras_89 (by decide) (fun c17 => ?_) (fun c17 => ?_)
      · refine JR_iload (pc := 96) (i := 5) G rfl dX10_asksExtras_96 ?_
        exact hMo_asksExtras_b98 k54 hk54 k63 hk63 v3 v4 v5 v5 v4 p1 p2 (some this) d
      · refine JR_iconst (pc := 92) G ci_m1 dX10_asksExtras_92 ?_
        refine JR_goto (pc := 93) (tgt := 98) G dX10_asksExtras_93 (by decide) ?_
        exact hMo_asksExtras_b98 k54 hk54 k63 hk63 v3 v4 v5 ((-1)) v4 p1 p2 (some this) d
  have hMo_asksExtras_h63 : ∀ (k54 : Int32 → Int32 → Dt → Option (Int32 × Dt)) (hk54 : ∀ (v3 : Int32) (v4 : Int32) (d : Dt), J X F Λw S d 54 [(0, va_rf (some this)), (1, .int p1), (2, .int p2), (3, .int v3), (4, .int v4)] [] (k54 v3 v4 d)) (f : Nat) (v3 : Int32) (v4 : Int32) (v5 : Int32) (d : Dt), J X F Λw S d 63 [(0, va_rf (some this)), (1, .int p1), (2, .int p2), (3, .int v3), (4, .int v4), (5, .int v5)] [] (Mo_asksExtras_h63 this p1 p2 S k54 f v3 v4 v5 d) := by
    intro k54 hk54 f
    induction f with
    | zero => intro v3 v4 v5 d; exact J_no
    | succ f ih =>
      intro v3 v4 v5 d
      unfold Mo_asksExtras_h63
      refine JR_iload (pc := 63) (i := 5) G rfl dX10_asksExtras_63 ?_
      refine JR_iload_n (pc := 65) (k := 2) (i := 2) G rfl rfl dX10_asksExtras_65 ?_
      refine JR_iconst (pc := 66) G ci_4 dX10_asksExtras_66 ?_
      refine JR_icmp_ne (pc := 67) (tgt := 74) G dX10_asksExtras_67 (by decide) (fun c16 => ?_) (fun c16 => ?_)
      · refine JR_aload_n (pc := 74) (k := 0) (i := 0) (o := some this) G rfl rfl dX10_asksExtras_74 ?_
        refine JR_iload_n (pc := 75) (k := 1) (i := 1) G rfl rfl dX10_asksExtras_75 ?_
        refine J_bd (fun z14 hz14 => ?_)
        refine JPV_I (pc := 76) (as := [.int p1]) (st' := [.int v5]) (o := some this) G (Mo_nodesOf_fn this p1 S d) (JC_V (n := 1) G hRm cl_X10 q1929 q1931 qs80 q152 q1932 ⟨rfl, dd_X10_nodesOf⟩ ⟨by decide, by decide⟩ dX10_asksExtras_76 hz14 rfl (Nat.le_of_ble_eq_true rfl)) rfl (fun r15 hr15 => ?_)
        exact hMo_asksExtras_b79 k54 hk54 (Mo_asksExtras_h63 this p1 p2 S k54 f) ih v3 v4 v5 r15 v5 d
      · refine JR_iconst (pc := 70) G ci_1 dX10_asksExtras_70 ?_
        refine JR_goto (pc := 71) (tgt := 79) G dX10_asksExtras_71 (by decide) ?_
        exact hMo_asksExtras_b79 k54 hk54 (Mo_asksExtras_h63 this p1 p2 S k54 f) ih v3 v4 v5 1 v5 d
  have hMo_asksExtras_h54 : ∀ (f : Nat) (v3 : Int32) (v4 : Int32) (d : Dt), J X F Λw S d 54 [(0, va_rf (some this)), (1, .int p1), (2, .int p2), (3, .int v3), (4, .int v4)] [] (Mo_asksExtras_h54 this p1 p2 S f v3 v4 d) := by
    intro  f
    induction f with
    | zero => intro v3 v4 d; exact J_no
    | succ f ih =>
      intro v3 v4 d
      unfold Mo_asksExtras_h54
      refine JR_iload (pc := 54) (i := 4) G rfl dX10_asksExtras_54 ?_
      refine JR_iload_n (pc := 56) (k := 3) (i := 3) G rfl rfl dX10_asksExtras_56 ?_
      refine JR_icmp_ge (pc := 57) (tgt := 113) G dX10_asksExtras_57 (by decide) (fun c13 => ?_) (fun c13 => ?_)
      · refine JR_iconst (pc := 113) G ci_1 dX10_asksExtras_113 ?_
        exact JR_zret (pc := 114) G hR dX10_asksExtras_114 (Or.inr rfl) rfl rfl
      · refine JR_iconst (pc := 60) G ci_0 dX10_asksExtras_60 ?_
        refine JR_istore (pc := 61) (i := 5) (lv' := [(5, .int 0), (0, va_rf (some this)), (1, .int p1), (2, .int p2), (3, .int v3), (4, .int v4)]) G (by decide) rfl dX10_asksExtras_61 ?_
        refine J_sub [1, 2, 3, 4, 5, 0] rfl ?_
        exact hMo_asksExtras_h63 (Mo_asksExtras_h54 this p1 p2 S f) ih FU v3 v4 0 d
  unfold Mo_asksExtras
  refine JR_aload_n (pc := 0) (k := 0) (i := 0) (o := some this) G rfl rfl dX10_asksExtras_0 ?_
  refine JR_iload_n (pc := 1) (k := 1) (i := 1) G rfl rfl dX10_asksExtras_1 ?_
  refine J_bd (fun z1 hz1 => ?_)
  refine JPV_I (pc := 2) (as := [.int p1]) (st' := []) (o := some this) G (Mo_isTask_fn this p1 S d) (JC_V (n := 1) G hRm cl_X10 q1916 q1918 qs78 q152 q1919 ⟨rfl, dd_X10_isTask⟩ ⟨by decide, by decide⟩ dX10_asksExtras_2 hz1 rfl (Nat.le_of_ble_eq_true rfl)) rfl (fun r2 hr2 => ?_)
  refine JR_if_eq (pc := 5) (tgt := 27) G dX10_asksExtras_5 (by decide) (fun c12 => ?_) (fun c12 => ?_)
  · refine JR_iconst (pc := 27) G ci_0 dX10_asksExtras_27 ?_
    exact JR_zret (pc := 28) G hR dX10_asksExtras_28 (Or.inl rfl) rfl rfl
  · refine JR_iload_n (pc := 8) (k := 2) (i := 2) G rfl rfl dX10_asksExtras_8 ?_
    refine JR_i2l (pc := 9) G dX10_asksExtras_9 ?_
    refine JR_lconst (pc := 10) G cl_0 dX10_asksExtras_10 ?_
    refine JR_ldc2 (pc := 11) G q1961 dX10_asksExtras_11 ?_
    refine JPS_I (pc := 14) (as := [.long (Int32.toInt64 p2), .long 0, .long 4]) (st' := []) G (Mo_in_fn (Int32.toInt64 p2) 0 4 S d) (JC_S (n := 3) G hRm q1782 q1783 q152 q1784 dd_X10_in ⟨by decide, by decide⟩ dX10_asksExtras_14 rfl (Nat.le_of_ble_eq_true rfl)) rfl (fun r3 hr3 => ?_)
    refine JR_if_eq (pc := 17) (tgt := 27) G dX10_asksExtras_17 (by decide) (fun c11 => ?_) (fun c11 => ?_)
    · refine JR_iconst (pc := 27) G ci_0 dX10_asksExtras_27 ?_
      exact JR_zret (pc := 28) G hR dX10_asksExtras_28 (Or.inl rfl) rfl rfl
    · refine JR_aload_n (pc := 20) (k := 0) (i := 0) (o := some this) G rfl rfl dX10_asksExtras_20 ?_
      refine JQV_I (pc := 21) (as := []) (st' := []) (o := some this) G (Mo_asks_fn this S d) (JC_V (n := 0) G hRm cl_X10 q2078 q2080 qs100 q152 q2081 ⟨rfl, dd_X10_asks⟩ ⟨by decide, by decide⟩ dX10_asksExtras_21 hz1 rfl (Nat.le_of_ble_eq_true rfl)) rfl (fun _ _ => rfl) (fun r4 d5 hd5 => ?_)
      refine JR_if_ne (pc := 24) (tgt := 29) G dX10_asksExtras_24 (by decide) (fun c10 => ?_) (fun c10 => ?_)
      · refine JR_bipush (pc := 29) (v := 51) G (by decide) dX10_asksExtras_29 ?_
        refine JR_aload_n (pc := 31) (k := 0) (i := 0) (o := some this) G rfl rfl dX10_asksExtras_31 ?_
        refine JR_gR (pc := 32) (k := 30) G cl_X10 in_X10 (by decide) (by decide) rfl (Or.inl rfl) q1618 hz1 dX10_asksExtras_32 ?_
        refine JR_iload_n (pc := 35) (k := 1) (i := 1) G rfl rfl dX10_asksExtras_35 ?_
        refine J_bd (fun q6 hq6 => ?_)
        refine JR_iaload (pc := 36) G hq6 dX10_asksExtras_36 ?_
        refine JR_min (pc := 37) G hRm q1818 q610 q154 q611 ⟨by decide, by decide⟩ (Nat.le_of_ble_eq_true rfl) dX10_asksExtras_37 ?_
        refine J_nm (fun x7 hx7 => ?_)
        refine JR_istore_n (pc := 40) (k := 3) (i := 3) (lv' := [(3, .int x7), (0, va_rf (some this)), (1, .int p1), (2, .int p2)]) G rfl (by decide) rfl dX10_asksExtras_40 ?_
        refine JR_aload_n (pc := 41) (k := 0) (i := 0) (o := some this) G rfl rfl dX10_asksExtras_41 ?_
        refine JR_iconst (pc := 42) G ci_m1 dX10_asksExtras_42 ?_
        refine JW_pI (pc := 43) (k := 60) G cl_X10 in_X10 tyX10_ok nmX10 (by decide) (by decide) rfl (Or.inl rfl) rfl q1648 rfl rfl hz1 (fun _ => rfl) dX10_asksExtras_43 ?_
        refine J_nmD (fun d8 hd8 => ?_)
        refine JR_aload_n (pc := 46) (k := 0) (i := 0) (o := some this) G rfl rfl dX10_asksExtras_46 ?_
        refine JR_iconst (pc := 47) G ci_0 dX10_asksExtras_47 ?_
        refine JW_pI (pc := 48) (k := 61) G cl_X10 in_X10 tyX10_ok nmX10 (by decide) (by decide) rfl (Or.inl rfl) rfl q1649 rfl rfl hz1 (fun _ => rfl) dX10_asksExtras_48 ?_
        refine J_nmD (fun d9 hd9 => ?_)
        refine JR_iconst (pc := 51) G ci_0 dX10_asksExtras_51 ?_
        refine JR_istore (pc := 52) (i := 4) (lv' := [(4, .int 0), (3, .int x7), (0, va_rf (some this)), (1, .int p1), (2, .int p2)]) G (by decide) rfl dX10_asksExtras_52 ?_
        refine J_sub [2, 3, 4, 1, 0] rfl ?_
        exact hMo_asksExtras_h54 FU x7 0 d9
      · refine JR_iconst (pc := 27) G ci_0 dX10_asksExtras_27 ?_
        exact JR_zret (pc := 28) G hR dX10_asksExtras_28 (Or.inl rfl) rfl rfl
