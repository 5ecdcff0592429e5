/-! ROWS of Math.max, Math.min, and of the bits of floats and doubles -/
set_option maxRecDepth 100000
def imax (x y : Int32) : Int32 := if x < y then y else x
def imin (x y : Int32) : Int32 := if y < x then y else x
section
variable {α β : Type} {X : CT} {F : α × Sp × Dt} {Λ : β → Sp → Dt → α × Sp × Dt} {S : Sp} {d : Dt} {pc nN fr9 lo9 idx : Nat} {lv : List (Nat × Value)} {st : List Value} {r : Option β} {own : String} {cc : ByteArray}
theorem JR_max (G : Ctx X F own cc nN) (hRm : Rm X fr9 lo9) (h1 : Cond.methodLink own idx Lib.Math.max.name ∈ lw_all) (h2 : Cond.static Lib.Math.max.name ∈ lw_all) (h3 : Cond.initialized "java/lang/Math" ∈ lw_all) (h4 : Cond.code Lib.Math.max.name Lib.Math.max.code 2 (some .int) ∈ lw_all) (hroom : 1 ≤ fr9 ∧ 23 ≤ lo9) (hst9 : st.length ≤ 4) (hd : decode cc pc = .ok (.invokestatic idx, 3)) {x y : Int32} (hk : J X F Λ S d (pc + 3) lv (.int (imax x y) :: st) r) : J X F Λ S d pc lv (.int y :: .int x :: st) r := by
  refine J.chg G (fun _ => rfl) Le.rf (fun hC _ => hC) (fun _ hs => ok_i (ok_t (ok_t hs))) ?_ hk
  obtain _ | ⟨p, l, e, R, s, m, args, below, meth, c, Q, dC, dI, dA, oa, A, nL, c0, s0, ρ0, n0⟩ := X
  · exact trivial
  obtain ⟨hx, hb, hml, hown, hts, hlk, hK, hT, hE, hA, hO, hRc, hRs, hfl, hoa⟩ := G
  obtain ⟨hR1, hR2⟩ := hRm
  intro ρ H locs ls cells slots hC hs9 hn0 hn1 hr1 hr2 hW hL k9
  have hcat := cat_le (st.map (cvV ρ)) (by rw [List.length_map]; exact hst9)
  have h9 := k9 ρ H locs (fun _ _ => rfl) hW.1 hW.2.1 hW.2.2.1
  simp only [Nat.sub_self, Nat.add_zero] at hr1 hr2 h9
  exact va_mmax hx hb (by rw [hml.1, hL.1]) hown (hts _ h1) (hts _ h2) (hts _ h3) (hts _ h4) (by rw [hR1]; exact hroom.1) (by rw [hR2]; have := hroom.2; omega) hr1 hr2 hd h9
theorem JR_min (G : Ctx X F own cc nN) (hRm : Rm X fr9 lo9) (h1 : Cond.methodLink own idx Lib.Math.min.name ∈ lw_all) (h2 : Cond.static Lib.Math.min.name ∈ lw_all) (h3 : Cond.initialized "java/lang/Math" ∈ lw_all) (h4 : Cond.code Lib.Math.min.name Lib.Math.min.code 2 (some .int) ∈ lw_all) (hroom : 1 ≤ fr9 ∧ 23 ≤ lo9) (hst9 : st.length ≤ 4) (hd : decode cc pc = .ok (.invokestatic idx, 3)) {x y : Int32} (hk : J X F Λ S d (pc + 3) lv (.int (imin x y) :: st) r) : J X F Λ S d pc lv (.int y :: .int x :: st) r := by
  refine J.chg G (fun _ => rfl) Le.rf (fun hC _ => hC) (fun _ hs => ok_i (ok_t (ok_t hs))) ?_ hk
  obtain _ | ⟨p, l, e, R, s, m, args, below, meth, c, Q, dC, dI, dA, oa, A, nL, c0, s0, ρ0, n0⟩ := X
  · exact trivial
  obtain ⟨hx, hb, hml, hown, hts, hlk, hK, hT, hE, hA, hO, hRc, hRs, hfl, hoa⟩ := G
  obtain ⟨hR1, hR2⟩ := hRm
  intro ρ H locs ls cells slots hC hs9 hn0 hn1 hr1 hr2 hW hL k9
  have hcat := cat_le (st.map (cvV ρ)) (by rw [List.length_map]; exact hst9)
  have h9 := k9 ρ H locs (fun _ _ => rfl) hW.1 hW.2.1 hW.2.2.1
  simp only [Nat.sub_self, Nat.add_zero] at hr1 hr2 h9
  exact va_mmin hx hb (by rw [hml.1, hL.1]) hown (hts _ h1) (hts _ h2) (hts _ h3) (hts _ h4) (by rw [hR1]; exact hroom.1) (by rw [hR2]; have := hroom.2; omega) hr1 hr2 hd h9
theorem JR_fraw (G : Ctx X F own cc nN) (hRm : Rm X fr9 lo9) (h1 : Cond.methodLink own idx ⟨"java/lang/Float", "floatToRawIntBits", "(F)I"⟩ ∈ lw_all) (h2 : Cond.native ⟨"java/lang/Float", "floatToRawIntBits", "(F)I"⟩ ∈ lw_all) (h3 : Cond.static ⟨"java/lang/Float", "floatToRawIntBits", "(F)I"⟩ ∈ lw_all) (h4 : Cond.initialized "java/lang/Float" ∈ lw_all) (hroom : 1 ≤ fr9 ∧ 23 ≤ lo9) (hst9 : st.length ≤ 4) (hd : decode cc pc = .ok (.invokestatic idx, 3)) {x : UInt32} (hk : J X F Λ S d (pc + 3) lv (.int x.toInt32 :: st) r) : J X F Λ S d pc lv (.float x :: st) r := by
  refine J.lift (fun _ hs _ => ok_i (ok_t hs)) (fun _ h => h) ?_ hk
  obtain _ | ⟨p, l, e, R, s, m, args, below, meth, c, Q, dC, dI, dA, oa, A, nL, c0, s0, ρ0, n0⟩ := X
  · exact trivial
  obtain ⟨hx, hb, hml, hown, hts, hlk, hK, hT, hE, hA, hO, hRc, hRs, hfl, hoa⟩ := G
  obtain ⟨hR1, hR2⟩ := hRm
  intro ρ H locs ls cells slots hW hL k9
  have hcat := cat_le (st.map (cvV ρ)) (by rw [List.length_map]; exact hst9)
  exact vn_f2i hx hb (by rw [hml.1, hL.1]) hown (hts _ h1) (hts _ h2) (hts _ h3) (hts _ h4) (by rw [hR1]; exact hroom.1) (by rw [hR2]; have := hroom.2; omega) hd (k9 ls hL)
theorem JR_draw (G : Ctx X F own cc nN) (hRm : Rm X fr9 lo9) (h1 : Cond.methodLink own idx ⟨"java/lang/Double", "doubleToRawLongBits", "(D)J"⟩ ∈ lw_all) (h2 : Cond.native ⟨"java/lang/Double", "doubleToRawLongBits", "(D)J"⟩ ∈ lw_all) (h3 : Cond.static ⟨"java/lang/Double", "doubleToRawLongBits", "(D)J"⟩ ∈ lw_all) (h4 : Cond.initialized "java/lang/Double" ∈ lw_all) (hroom : 1 ≤ fr9 ∧ 23 ≤ lo9) (hst9 : st.length ≤ 4) (hd : decode cc pc = .ok (.invokestatic idx, 3)) {x : UInt64} (hk : J X F Λ S d (pc + 3) lv (.long x.toInt64 :: st) r) : J X F Λ S d pc lv (.double x :: st) r := by
  refine J.lift (fun _ hs _ => ok_l (ok_t hs)) (fun _ h => h) ?_ hk
  obtain _ | ⟨p, l, e, R, s, m, args, below, meth, c, Q, dC, dI, dA, oa, A, nL, c0, s0, ρ0, n0⟩ := X
  · exact trivial
  obtain ⟨hx, hb, hml, hown, hts, hlk, hK, hT, hE, hA, hO, hRc, hRs, hfl, hoa⟩ := G
  obtain ⟨hR1, hR2⟩ := hRm
  intro ρ H locs ls cells slots hW hL k9
  have hcat := cat_le (st.map (cvV ρ)) (by rw [List.length_map]; exact hst9)
  exact vn_d2l hx hb (by rw [hml.1, hL.1]) hown (hts _ h1) (hts _ h2) (hts _ h3) (hts _ h4) (by rw [hR1]; exact hroom.1) (by rw [hR2]; have := hroom.2; omega) hd (k9 ls hL)
theorem JR_dcmp (G : Ctx X F own cc nN) {x y : UInt64} {op : CmpOp} (hd : decode cc pc = .ok (.dcmp op, 1)) (hk : J X F Λ S d (pc + 1) lv (.int (Op.cmpValue (FP.dcmp x y) op) :: st) r) : J X F Λ S d pc lv (.double y :: .double x :: st) r := by
  refine J.lift (fun _ hs _ => ok_i (ok_t (ok_t hs))) (fun _ h => h) ?_ hk
  obtain _ | ⟨p, l, e, R, s, m, args, below, meth, c, Q, dC, dI, dA, oa, A, nL, c0, s0, ρ0, n0⟩ := X
  · exact trivial
  obtain ⟨hx, hb, hml, hown, hts, hlk, hK, hT, hE, hA, hO, hRc, hRs, hfl, hoa⟩ := G
  intro ρ H locs ls cells slots hW hL k9
  exact lv_dcmp hx hb hd (k9 ls hL)
end
