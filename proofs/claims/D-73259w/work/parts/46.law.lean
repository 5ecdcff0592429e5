/-! THE LAW'S CASES: a call of the component, a call of the model, their answers compared -/
set_option maxRecDepth 100000
section
variable {p : Program} {l : Launch} {e : Env} {s : State} {m : MethodId} {below : List Frame} {meth : Method} {c : Code} {dC : Nat → ClassId} {dI : Nat → Nat → Nat} {dA : Nat → ClassId} {oa : Nat → Nat} {b : Nat} {Q : State → Prop}
/-- the law's place at pc, nothing on the stack -/
def LW (p : Program) (l : Launch) (e : Env) (s : State) (m : MethodId) (below : List Frame) (meth : Method) (c : Code) (Q : State → Prop) (dC : Nat → ClassId) (dI : Nat → Nat → Nat) (dA : Nat → ClassId) (oa : Nat → Nat) (b : Nat) (S1 : Sp) (d1 : Dt) (S2 : Sp) (d2 : Dt) (i : Int32) (pc : Nat) : Prop :=
  ∀ (ρ1 ρ2 : Nat → Nat) (H : Heap) (locs : List Loc) (ls : Array Slot), LM dC dI dA oa s ρ1 S1 d1 H → LM dC dI dA oa s ρ2 S2 d2 H → LX (mmW dA ρ1 S1 d1) (mmW dA ρ2 S2 d2) → va_S (lwA s) s.heap H locs → lv_has ls 4 [(0, .ref b), (1, .ref (ρ1 0)), (2, .ref (ρ2 0)), (3, .int i)] →
    W p l e room_1 s m #[Value.ref b] below meth c H locs (S1.2.2.1 + S2.2.2.1) (S1.2.2.2 + S2.2.2.2) Q (F0 m pc ls [])
theorem lw_ld {L : Nat} {xs : Nat → Int32} (C0 : lw_At p s m meth c b L xs) {k : Int32} {kz : Int} {i : Int32} {pc cells slots : Nat} {H : Heap} {locs : List Loc} {ls : Array Slot} {lv : List (Nat × Value)} {st : List Value} (hS : va_S (lwA s) s.heap H locs) (hl : lv_has ls 4 ((0, .ref b) :: lv)) (h3 : ((0, Value.ref b) :: lv)[3]? = some (3, .int i)) (hk : Int32.ofInt kz = k) (hin : vp_in (i + k) L)
    (d0 : decode code pc = .ok (.aload_n 0, 1)) (d1 : decode code (pc + 1) = .ok (.iload_n 3, 1)) (d2 : decode code (pc + 2) = .ok (.iconst kz, 1)) (d3 : decode code (pc + 3) = .ok (.iadd, 1)) (d4 : decode code (pc + 4) = .ok (.iaload, 1))
    (kk : W p l e room_1 s m #[Value.ref b] below meth c H locs cells slots Q (F0 m (pc + 5) ls (.int (xs (i + k).toNatClampNeg) :: st))) : W p l e room_1 s m #[Value.ref b] below meth c H locs cells slots Q (F0 m pc ls st) := by
  obtain ⟨hx, hb, hr, hml, hown, hts, hX, hbl, hlk, hgv⟩ := C0
  refine lv_aload_n hx hb d0 rfl (lv_at hl 0 rfl) ?_
  refine lv_iload_n hx hb d1 rfl (lv_at hl 3 h3) ?_
  refine lv_iconst (v := k) hx hb d2 hk ?_
  refine lv_iadd hx hb d3 ?_
  exact va_sld hx hb hX hbl (Nat.not_le.mpr hbl) hS hin d4 kk
/-- a call into the second memory -/
theorem lw_call2 {γ δ : Type} {L : Nat} {xs : Nat → Int32} (hfl : l.flags = flags0) (C0 : lw_At p s m meth c b L xs) (hB : LB dC dI dA oa s) {y : MethodName} {ws : List Cond} {fr lo pc : Nat} {av st st' : List Value} {Sa Sb : Sp} {da db : Dt} {ρa ρb : Nat → Nat} {rv : γ → Option Value} {Λ : δ → Sp → Dt → γ × Sp × Dt} {r : Option δ} {β : δ} (hF : Fn y ws fr lo av Sa da rv Λ r) (hr : r = some β)
    (row : JCall (lwX p l e s m below meth c Q dC dI dA oa b) Sa da pc 3 y ws fr lo av st st') (hav : ∀ x ∈ av, okV Sa x) (hst : ∀ x ∈ st', okV Sa x) {H : Heap} {locs : List Loc} {ls : Array Slot} (hMb : LM dC dI dA oa s ρb Sb db H) (hMa : LM dC dI dA oa s ρa Sa da H) (hX9 : LX (mmW dA ρb Sb db) (mmW dA ρa Sa da)) (hS : va_S (lwA s) s.heap H locs) (hls : ls.size = 4)
    (hO : (Λ β Sa da).2.1.1.length ≤ OPQ) (hc1 : Sb.2.2.1 + (Λ β Sa da).2.1.2.2.1 ≤ 1136687) (hc2 : Sb.2.2.2 + (Λ β Sa da).2.1.2.2.2 ≤ 5675420)
    (kk : ∀ (ρ' : Nat → Nat) (H' : Heap) (locs' : List Loc), (∀ x, okR Sa x → ρ' x = ρa x) → LM dC dI dA oa s ρb Sb db H' → LM dC dI dA oa s ρ' (Λ β Sa da).2.1 (Λ β Sa da).2.2 H' → LX (mmW dA ρb Sb db) (mmW dA ρ' (Λ β Sa da).2.1 (Λ β Sa da).2.2) → va_S (lwA s) s.heap H' locs' →
      W p l e room_1 s m #[Value.ref b] below meth c H' locs' (Sb.2.2.1 + (Λ β Sa da).2.1.2.2.1) (Sb.2.2.2 + (Λ β Sa da).2.1.2.2.2) Q (F0 m (pc + 3) ls (((rv (Λ β Sa da).1).map (cvV ρ')).toList ++ st'.map (cvV ρa)))) :
    W p l e room_1 s m #[Value.ref b] below meth c H locs (Sb.2.2.1 + Sa.2.2.1) (Sb.2.2.2 + Sa.2.2.2) Q (F0 m pc ls (st.map (cvV ρa))) := by
  have h := lw_call hfl C0 hB hF hr row hav hst hMa hMb hX9.symm hS hls hO (by omega) (by omega) (fun ρ' H' locs' z0 z1 z2 z3 z4 => by
    have h9 := kk ρ' H' locs' z0 z2 z1 z3.symm z4
    rw [Nat.add_comm, Nat.add_comm Sb.2.2.2] at h9
    exact h9)
  rw [Nat.add_comm, Nat.add_comm Sb.2.2.2]
  exact h
theorem ok_int {S : Sp} {l9 : List Int32} {v : Nat} (hv : okR S v) : ∀ x ∈ va_rf (some v) :: l9.map Value.int, okV S x := by
  intro x hx
  rcases List.mem_cons.mp hx with h | h
  · rw [h]; exact okV_rf.mpr (fun t ht => by cases ht; exact hv)
  · obtain ⟨y, -, rfl⟩ := List.mem_map.mp h
    exact okV_int
theorem lg_cmp_self (x : Int64) : lg_cmp x x = 0 := by
  unfold lg_cmp
  simp
set_option maxHeartbeats 4000000 in
theorem lc_0 {L : Nat} {xs : Nat → Int32} (hfl : l.flags = flags0) (C0 : lw_At p s m meth c b L xs) (hB : LB dC dI dA oa s) {S1 S2 : Sp} {d1 d2 : Dt} {i : Int32} (n1 : vp_in (i + 1) L) (n2 : vp_in (i + 2) L) (n3 : vp_in (i + 3) L) (n4 : vp_in (i + 4) L) (n5 : vp_in (i + 5) L) (z1 : isK S1 0 (some 0) = some 0) (z2 : isK S2 9 (some 0) = some 0) {a1 : Int32} {SS1 : Sp} {dd1 : Dt} {dd2 : Dt} (h1 : Ws_feed 0 (xs (i + 1).toNatClampNeg) (xs (i + 2).toNatClampNeg) (xs (i + 3).toNatClampNeg) (xs (i + 4).toNatClampNeg) (xs (i + 5).toNatClampNeg) S1 d1 = some (a1, SS1, dd1)) (h2 : Mo_feed 0 (xs (i + 1).toNatClampNeg) (xs (i + 2).toNatClampNeg) (xs (i + 3).toNatClampNeg) (xs (i + 4).toNatClampNeg) (xs (i + 5).toNatClampNeg) S2 d2 = some (a1, dd2)) (hO1 : SS1.1.length ≤ OPQ) (hc1 : SS1.2.2.1 + S2.2.2.1 ≤ 1136687) (hc2 : SS1.2.2.2 + S2.2.2.2 ≤ 5675420) (hO2 : S2.1.length ≤ OPQ) (hd1 : SS1.2.2.1 + S2.2.2.1 ≤ 1136687) (hd2 : SS1.2.2.2 + S2.2.2.2 ≤ 5675420) (next : LW p l e s m below meth c Q dC dI dA oa b SS1 dd1 S2 dd2 i 1834) : LW p l e s m below meth c Q dC dI dA oa b S1 d1 S2 d2 i 268 := by
  intro ρ1 ρ2 H locs ls hM1 hM2 hX9 hS hl
  have hx := C0.1
  have hb := C0.2.1
  refine lv_aload_n hx hb dL_law_268 rfl (lv_at hl 1 rfl) ?_
  refine lw_ld (pc := 269) C0 hS hl rfl (show Int32.ofInt 1 = 1 from by decide) n1 dL_law_269 dL_law_270 dL_law_271 dL_law_272 dL_law_273 ?_
  refine lw_ld (pc := 274) C0 hS hl rfl (show Int32.ofInt 2 = 2 from by decide) n2 dL_law_274 dL_law_275 dL_law_276 dL_law_277 dL_law_278 ?_
  refine lw_ld (pc := 279) C0 hS hl rfl (show Int32.ofInt 3 = 3 from by decide) n3 dL_law_279 dL_law_280 dL_law_281 dL_law_282 dL_law_283 ?_
  refine lw_ld (pc := 284) C0 hS hl rfl (show Int32.ofInt 4 = 4 from by decide) n4 dL_law_284 dL_law_285 dL_law_286 dL_law_287 dL_law_288 ?_
  refine lw_ld (pc := 289) C0 hS hl rfl (show Int32.ofInt 5 = 5 from by decide) n5 dL_law_289 dL_law_290 dL_law_291 dL_law_292 dL_law_293 ?_
  refine lw_call (pc := 294) (st := [.int (xs (i + 5).toNatClampNeg), .int (xs (i + 4).toNatClampNeg), .int (xs (i + 3).toNatClampNeg), .int (xs (i + 2).toNatClampNeg), .int (xs (i + 1).toNatClampNeg), va_rf (some 0)]) (st' := []) hfl C0 hB (Ws_feed_fn 0 (xs (i + 1).toNatClampNeg) (xs (i + 2).toNatClampNeg) (xs (i + 3).toNatClampNeg) (xs (i + 4).toNatClampNeg) (xs (i + 5).toNatClampNeg) S1 d1) h1 (JC_V (n := 5) (lw_G hfl C0 hB) lw_Rm cl_X0 q567 q568 q569 q137 q570 ⟨rfl, dd_X0_feed⟩ ⟨by decide, by decide⟩ dL_law_294 z1 rfl (Nat.le_of_ble_eq_true rfl)) (ok_int (l9 := [xs (i + 1).toNatClampNeg, xs (i + 2).toNatClampNeg, xs (i + 3).toNatClampNeg, xs (i + 4).toNatClampNeg, xs (i + 5).toNatClampNeg]) (Or.inl hM1.2.2.2.2)) (fun _ h => nomatch h) hM1 hM2 hX9 hS hl.1 hO1 hc1 hc2 (fun ρ3 H3 locs3 hρ3 hN1 hN2 hX3 hS3 => ?_)
  have hl3 : lv_has ls 4 [(0, .ref b), (1, .ref (ρ3 0)), (2, .ref (ρ2 0)), (3, .int i)] := by rw [hρ3 0 (Or.inl hM1.2.2.2.2)]; exact hl
  refine lv_aload_n hx hb dL_law_297 rfl (lv_at hl3 2 rfl) ?_
  refine lw_ld (pc := 298) C0 hS3 hl3 rfl (show Int32.ofInt 1 = 1 from by decide) n1 dL_law_298 dL_law_299 dL_law_300 dL_law_301 dL_law_302 ?_
  refine lw_ld (pc := 303) C0 hS3 hl3 rfl (show Int32.ofInt 2 = 2 from by decide) n2 dL_law_303 dL_law_304 dL_law_305 dL_law_306 dL_law_307 ?_
  refine lw_ld (pc := 308) C0 hS3 hl3 rfl (show Int32.ofInt 3 = 3 from by decide) n3 dL_law_308 dL_law_309 dL_law_310 dL_law_311 dL_law_312 ?_
  refine lw_ld (pc := 313) C0 hS3 hl3 rfl (show Int32.ofInt 4 = 4 from by decide) n4 dL_law_313 dL_law_314 dL_law_315 dL_law_316 dL_law_317 ?_
  refine lw_ld (pc := 318) C0 hS3 hl3 rfl (show Int32.ofInt 5 = 5 from by decide) n5 dL_law_318 dL_law_319 dL_law_320 dL_law_321 dL_law_322 ?_
  refine lw_call2 (pc := 323) (st := [.int (xs (i + 5).toNatClampNeg), .int (xs (i + 4).toNatClampNeg), .int (xs (i + 3).toNatClampNeg), .int (xs (i + 2).toNatClampNeg), .int (xs (i + 1).toNatClampNeg), va_rf (some 0), .int a1]) (st' := [.int a1]) hfl C0 hB (Mo_feed_fn 0 (xs (i + 1).toNatClampNeg) (xs (i + 2).toNatClampNeg) (xs (i + 3).toNatClampNeg) (xs (i + 4).toNatClampNeg) (xs (i + 5).toNatClampNeg) S2 d2) h2 (JC_V (n := 5) (lw_G hfl C0 hB) lw_Rm cl_X10 q1789 q1790 q1791 q152 q1792 ⟨rfl, dd_X10_feed⟩ ⟨by decide, by decide⟩ dL_law_323 z2 rfl (Nat.le_of_ble_eq_true rfl)) (ok_int (l9 := [xs (i + 1).toNatClampNeg, xs (i + 2).toNatClampNeg, xs (i + 3).toNatClampNeg, xs (i + 4).toNatClampNeg, xs (i + 5).toNatClampNeg]) (Or.inl hN2.2.2.2.2)) (fun x hx9 => by rw [List.mem_singleton.mp hx9]; exact okV_int) hN1 hN2 hX3 hS3 hl3.1 hO2 hd1 hd2 (fun ρ4 H4 locs4 hρ4 hP1 hP2 hX4 hS4 => ?_)
  have hl4 : lv_has ls 4 [(0, .ref b), (1, .ref (ρ3 0)), (2, .ref (ρ4 0)), (3, .int i)] := by rw [hρ4 0 (Or.inl hN2.2.2.2.2)]; exact hl3
  exact lv_icmp_eq (tgt := 1834) hx hb dL_law_326 (by decide) (fun _ => next ρ3 ρ4 H4 locs4 ls hP1 hP2 hX4 hS4 hl4) (fun h => absurd rfl h)
set_option maxHeartbeats 4000000 in
theorem lc_1 {L : Nat} {xs : Nat → Int32} (hfl : l.flags = flags0) (C0 : lw_At p s m meth c b L xs) (hB : LB dC dI dA oa s) {S1 S2 : Sp} {d1 d2 : Dt} {i : Int32} (n1 : vp_in (i + 1) L) (z1 : isK S1 0 (some 0) = some 0) (z2 : isK S2 9 (some 0) = some 0) {a1 : Int32} {dd1 : Dt} {dd2 : Dt} (h1 : Ws_end 0 (xs (i + 1).toNatClampNeg) S1 d1 = some (a1, dd1)) (h2 : Mo_end 0 (xs (i + 1).toNatClampNeg) S2 d2 = some (a1, dd2)) (hO1 : S1.1.length ≤ OPQ) (hc1 : S1.2.2.1 + S2.2.2.1 ≤ 1136687) (hc2 : S1.2.2.2 + S2.2.2.2 ≤ 5675420) (hO2 : S2.1.length ≤ OPQ) (hd1 : S1.2.2.1 + S2.2.2.1 ≤ 1136687) (hd2 : S1.2.2.2 + S2.2.2.2 ≤ 5675420) (next : LW p l e s m below meth c Q dC dI dA oa b S1 dd1 S2 dd2 i 1834) : LW p l e s m below meth c Q dC dI dA oa b S1 d1 S2 d2 i 331 := by
  intro ρ1 ρ2 H locs ls hM1 hM2 hX9 hS hl
  have hx := C0.1
  have hb := C0.2.1
  refine lv_aload_n hx hb dL_law_331 rfl (lv_at hl 1 rfl) ?_
  refine lw_ld (pc := 332) C0 hS hl rfl (show Int32.ofInt 1 = 1 from by decide) n1 dL_law_332 dL_law_333 dL_law_334 dL_law_335 dL_law_336 ?_
  refine lw_call (pc := 337) (st := [.int (xs (i + 1).toNatClampNeg), va_rf (some 0)]) (st' := []) hfl C0 hB (Ws_end_fn 0 (xs (i + 1).toNatClampNeg) S1 d1) h1 (JC_V (n := 1) (lw_G hfl C0 hB) lw_Rm cl_X0 q571 q572 q573 q137 q574 ⟨rfl, dd_X0_end⟩ ⟨by decide, by decide⟩ dL_law_337 z1 rfl (Nat.le_of_ble_eq_true rfl)) (ok_int (l9 := [xs (i + 1).toNatClampNeg]) (Or.inl hM1.2.2.2.2)) (fun _ h => nomatch h) hM1 hM2 hX9 hS hl.1 hO1 hc1 hc2 (fun ρ3 H3 locs3 hρ3 hN1 hN2 hX3 hS3 => ?_)
  have hl3 : lv_has ls 4 [(0, .ref b), (1, .ref (ρ3 0)), (2, .ref (ρ2 0)), (3, .int i)] := by rw [hρ3 0 (Or.inl hM1.2.2.2.2)]; exact hl
  refine lv_aload_n hx hb dL_law_340 rfl (lv_at hl3 2 rfl) ?_
  refine lw_ld (pc := 341) C0 hS3 hl3 rfl (show Int32.ofInt 1 = 1 from by decide) n1 dL_law_341 dL_law_342 dL_law_343 dL_law_344 dL_law_345 ?_
  refine lw_call2 (pc := 346) (st := [.int (xs (i + 1).toNatClampNeg), va_rf (some 0), .int a1]) (st' := [.int a1]) hfl C0 hB (Mo_end_fn 0 (xs (i + 1).toNatClampNeg) S2 d2) h2 (JC_V (n := 1) (lw_G hfl C0 hB) lw_Rm cl_X10 q1793 q1794 q1795 q152 q1796 ⟨rfl, dd_X10_end⟩ ⟨by decide, by decide⟩ dL_law_346 z2 rfl (Nat.le_of_ble_eq_true rfl)) (ok_int (l9 := [xs (i + 1).toNatClampNeg]) (Or.inl hN2.2.2.2.2)) (fun x hx9 => by rw [List.mem_singleton.mp hx9]; exact okV_int) hN1 hN2 hX3 hS3 hl3.1 hO2 hd1 hd2 (fun ρ4 H4 locs4 hρ4 hP1 hP2 hX4 hS4 => ?_)
  have hl4 : lv_has ls 4 [(0, .ref b), (1, .ref (ρ3 0)), (2, .ref (ρ4 0)), (3, .int i)] := by rw [hρ4 0 (Or.inl hN2.2.2.2.2)]; exact hl3
  exact lv_icmp_eq (tgt := 1834) hx hb dL_law_349 (by decide) (fun _ => next ρ3 ρ4 H4 locs4 ls hP1 hP2 hX4 hS4 hl4) (fun h => absurd rfl h)
set_option maxHeartbeats 4000000 in
theorem lc_2 {L : Nat} {xs : Nat → Int32} (hfl : l.flags = flags0) (C0 : lw_At p s m meth c b L xs) (hB : LB dC dI dA oa s) {S1 S2 : Sp} {d1 d2 : Dt} {i : Int32} (z1 : isK S1 0 (some 0) = some 0) (z2 : isK S2 9 (some 0) = some 0) {a1 : Int32} {SS1 : Sp} {dd1 : Dt} {dd2 : Dt} (h1 : Ws_board 0 S1 d1 = some (a1, SS1, dd1)) (h2 : Mo_board 0 S2 d2 = some (a1, dd2)) (hO1 : SS1.1.length ≤ OPQ) (hc1 : SS1.2.2.1 + S2.2.2.1 ≤ 1136687) (hc2 : SS1.2.2.2 + S2.2.2.2 ≤ 5675420) (hO2 : S2.1.length ≤ OPQ) (hd1 : SS1.2.2.1 + S2.2.2.1 ≤ 1136687) (hd2 : SS1.2.2.2 + S2.2.2.2 ≤ 5675420) (next : LW p l e s m below meth c Q dC dI dA oa b SS1 dd1 S2 dd2 i 1834) : LW p l e s m below meth c Q dC dI dA oa b S1 d1 S2 d2 i 354 := by
  intro ρ1 ρ2 H locs ls hM1 hM2 hX9 hS hl
  have hx := C0.1
  have hb := C0.2.1
  refine lv_aload_n hx hb dL_law_354 rfl (lv_at hl 1 rfl) ?_
  refine lw_call (pc := 355) (st := [va_rf (some 0)]) (st' := []) hfl C0 hB (Ws_board_fn 0  S1 d1) h1 (JC_VW (hh := [((0), (46), (53), (135)), ((0), (46), (80), (0)), ((53), (73), (80), (0))]) (n := 0) (lw_G hfl C0 hB) lw_Rm cl_X0 q578 q579 q580 q137 q581 ⟨rfl, dd_X0_board⟩ ⟨by decide, by decide⟩ dL_law_355 z1 rfl (Nat.le_of_ble_eq_true rfl)) (ok_int (l9 := []) (Or.inl hM1.2.2.2.2)) (fun _ h => nomatch h) hM1 hM2 hX9 hS hl.1 hO1 hc1 hc2 (fun ρ3 H3 locs3 hρ3 hN1 hN2 hX3 hS3 => ?_)
  have hl3 : lv_has ls 4 [(0, .ref b), (1, .ref (ρ3 0)), (2, .ref (ρ2 0)), (3, .int i)] := by rw [hρ3 0 (Or.inl hM1.2.2.2.2)]; exact hl
  refine lv_aload_n hx hb dL_law_358 rfl (lv_at hl3 2 rfl) ?_
  refine lw_call2 (pc := 359) (st := [va_rf (some 0), .int a1]) (st' := [.int a1]) hfl C0 hB (Mo_board_fn 0  S2 d2) h2 (JC_V (n := 0) (lw_G hfl C0 hB) lw_Rm cl_X10 q1801 q1802 q1803 q152 q1804 ⟨rfl, dd_X10_board⟩ ⟨by decide, by decide⟩ dL_law_359 z2 rfl (Nat.le_of_ble_eq_true rfl)) (ok_int (l9 := []) (Or.inl hN2.2.2.2.2)) (fun x hx9 => by rw [List.mem_singleton.mp hx9]; exact okV_int) hN1 hN2 hX3 hS3 hl3.1 hO2 hd1 hd2 (fun ρ4 H4 locs4 hρ4 hP1 hP2 hX4 hS4 => ?_)
  have hl4 : lv_has ls 4 [(0, .ref b), (1, .ref (ρ3 0)), (2, .ref (ρ4 0)), (3, .int i)] := by rw [hρ4 0 (Or.inl hN2.2.2.2.2)]; exact hl3
  exact lv_icmp_eq (tgt := 1834) hx hb dL_law_362 (by decide) (fun _ => next ρ3 ρ4 H4 locs4 ls hP1 hP2 hX4 hS4 hl4) (fun h => absurd rfl h)
set_option maxHeartbeats 4000000 in
theorem lc_3 {L : Nat} {xs : Nat → Int32} (hfl : l.flags = flags0) (C0 : lw_At p s m meth c b L xs) (hB : LB dC dI dA oa s) {S1 S2 : Sp} {d1 d2 : Dt} {i : Int32} (n1 : vp_in (i + 1) L) (z1 : isK S1 0 (some 0) = some 0) (z2 : isK S2 9 (some 0) = some 0) {a1 : Int32} (h1 : Ws_fault 0 (xs (i + 1).toNatClampNeg) S1 d1 = some a1) (h2 : Mo_fault 0 (xs (i + 1).toNatClampNeg) S2 d2 = some a1) (hO1 : S1.1.length ≤ OPQ) (hc1 : S1.2.2.1 + S2.2.2.1 ≤ 1136687) (hc2 : S1.2.2.2 + S2.2.2.2 ≤ 5675420) (hO2 : S2.1.length ≤ OPQ) (hd1 : S1.2.2.1 + S2.2.2.1 ≤ 1136687) (hd2 : S1.2.2.2 + S2.2.2.2 ≤ 5675420) (next : LW p l e s m below meth c Q dC dI dA oa b S1 d1 S2 d2 i 1834) : LW p l e s m below meth c Q dC dI dA oa b S1 d1 S2 d2 i 367 := by
  intro ρ1 ρ2 H locs ls hM1 hM2 hX9 hS hl
  have hx := C0.1
  have hb := C0.2.1
  refine lv_aload_n hx hb dL_law_367 rfl (lv_at hl 1 rfl) ?_
  refine lw_ld (pc := 368) C0 hS hl rfl (show Int32.ofInt 1 = 1 from by decide) n1 dL_law_368 dL_law_369 dL_law_370 dL_law_371 dL_law_372 ?_
  refine lw_call (pc := 373) (st := [.int (xs (i + 1).toNatClampNeg), va_rf (some 0)]) (st' := []) hfl C0 hB (Ws_fault_fn 0 (xs (i + 1).toNatClampNeg) S1 d1) h1 (JC_V (n := 1) (lw_G hfl C0 hB) lw_Rm cl_X0 q977 q978 q979 q137 q980 ⟨rfl, dd_X0_fault⟩ ⟨by decide, by decide⟩ dL_law_373 z1 rfl (Nat.le_of_ble_eq_true rfl)) (ok_int (l9 := [xs (i + 1).toNatClampNeg]) (Or.inl hM1.2.2.2.2)) (fun _ h => nomatch h) hM1 hM2 hX9 hS hl.1 hO1 hc1 hc2 (fun ρ3 H3 locs3 hρ3 hN1 hN2 hX3 hS3 => ?_)
  have hl3 : lv_has ls 4 [(0, .ref b), (1, .ref (ρ3 0)), (2, .ref (ρ2 0)), (3, .int i)] := by rw [hρ3 0 (Or.inl hM1.2.2.2.2)]; exact hl
  refine lv_aload_n hx hb dL_law_376 rfl (lv_at hl3 2 rfl) ?_
  refine lw_ld (pc := 377) C0 hS3 hl3 rfl (show Int32.ofInt 1 = 1 from by decide) n1 dL_law_377 dL_law_378 dL_law_379 dL_law_380 dL_law_381 ?_
  refine lw_call2 (pc := 382) (st := [.int (xs (i + 1).toNatClampNeg), va_rf (some 0), .int a1]) (st' := [.int a1]) hfl C0 hB (Mo_fault_fn 0 (xs (i + 1).toNatClampNeg) S2 d2) h2 (JC_V (n := 1) (lw_G hfl C0 hB) lw_Rm cl_X10 q1797 q1798 q1799 q152 q1800 ⟨rfl, dd_X10_fault⟩ ⟨by decide, by decide⟩ dL_law_382 z2 rfl (Nat.le_of_ble_eq_true rfl)) (ok_int (l9 := [xs (i + 1).toNatClampNeg]) (Or.inl hN2.2.2.2.2)) (fun x hx9 => by rw [List.mem_singleton.mp hx9]; exact okV_int) hN1 hN2 hX3 hS3 hl3.1 hO2 hd1 hd2 (fun ρ4 H4 locs4 hρ4 hP1 hP2 hX4 hS4 => ?_)
  have hl4 : lv_has ls 4 [(0, .ref b), (1, .ref (ρ3 0)), (2, .ref (ρ4 0)), (3, .int i)] := by rw [hρ4 0 (Or.inl hN2.2.2.2.2)]; exact hl3
  exact lv_icmp_eq (tgt := 1834) hx hb dL_law_385 (by decide) (fun _ => next ρ3 ρ4 H4 locs4 ls hP1 hP2 hX4 hS4 hl4) (fun h => absurd rfl h)
set_option maxHeartbeats 4000000 in
theorem lc_4 {L : Nat} {xs : Nat → Int32} (hfl : l.flags = flags0) (C0 : lw_At p s m meth c b L xs) (hB : LB dC dI dA oa s) {S1 S2 : Sp} {d1 d2 : Dt} {i : Int32} (n1 : vp_in (i + 1) L) (n2 : vp_in (i + 2) L) (z1 : isK S1 0 (some 0) = some 0) (z2 : isK S2 9 (some 0) = some 0) {a1 : Int32} (h1 : Ws_task 0 (xs (i + 1).toNatClampNeg) (xs (i + 2).toNatClampNeg) S1 d1 = some a1) (h2 : Mo_task 0 (xs (i + 1).toNatClampNeg) (xs (i + 2).toNatClampNeg) S2 d2 = some a1) (hO1 : S1.1.length ≤ OPQ) (hc1 : S1.2.2.1 + S2.2.2.1 ≤ 1136687) (hc2 : S1.2.2.2 + S2.2.2.2 ≤ 5675420) (hO2 : S2.1.length ≤ OPQ) (hd1 : S1.2.2.1 + S2.2.2.1 ≤ 1136687) (hd2 : S1.2.2.2 + S2.2.2.2 ≤ 5675420) (next : LW p l e s m below meth c Q dC dI dA oa b S1 d1 S2 d2 i 1834) : LW p l e s m below meth c Q dC dI dA oa b S1 d1 S2 d2 i 390 := by
  intro ρ1 ρ2 H locs ls hM1 hM2 hX9 hS hl
  have hx := C0.1
  have hb := C0.2.1
  refine lv_aload_n hx hb dL_law_390 rfl (lv_at hl 1 rfl) ?_
  refine lw_ld (pc := 391) C0 hS hl rfl (show Int32.ofInt 1 = 1 from by decide) n1 dL_law_391 dL_law_392 dL_law_393 dL_law_394 dL_law_395 ?_
  refine lw_ld (pc := 396) C0 hS hl rfl (show Int32.ofInt 2 = 2 from by decide) n2 dL_law_396 dL_law_397 dL_law_398 dL_law_399 dL_law_400 ?_
  refine lw_call (pc := 401) (st := [.int (xs (i + 2).toNatClampNeg), .int (xs (i + 1).toNatClampNeg), va_rf (some 0)]) (st' := []) hfl C0 hB (Ws_task_fn 0 (xs (i + 1).toNatClampNeg) (xs (i + 2).toNatClampNeg) S1 d1) h1 (JC_V (n := 2) (lw_G hfl C0 hB) lw_Rm cl_X0 q981 q982 q983 q137 q984 ⟨rfl, dd_X0_task⟩ ⟨by decide, by decide⟩ dL_law_401 z1 rfl (Nat.le_of_ble_eq_true rfl)) (ok_int (l9 := [xs (i + 1).toNatClampNeg, xs (i + 2).toNatClampNeg]) (Or.inl hM1.2.2.2.2)) (fun _ h => nomatch h) hM1 hM2 hX9 hS hl.1 hO1 hc1 hc2 (fun ρ3 H3 locs3 hρ3 hN1 hN2 hX3 hS3 => ?_)
  have hl3 : lv_has ls 4 [(0, .ref b), (1, .ref (ρ3 0)), (2, .ref (ρ2 0)), (3, .int i)] := by rw [hρ3 0 (Or.inl hM1.2.2.2.2)]; exact hl
  refine lv_aload_n hx hb dL_law_404 rfl (lv_at hl3 2 rfl) ?_
  refine lw_ld (pc := 405) C0 hS3 hl3 rfl (show Int32.ofInt 1 = 1 from by decide) n1 dL_law_405 dL_law_406 dL_law_407 dL_law_408 dL_law_409 ?_
  refine lw_ld (pc := 410) C0 hS3 hl3 rfl (show Int32.ofInt 2 = 2 from by decide) n2 dL_law_410 dL_law_411 dL_law_412 dL_law_413 dL_law_414 ?_
  refine lw_call2 (pc := 415) (st := [.int (xs (i + 2).toNatClampNeg), .int (xs (i + 1).toNatClampNeg), va_rf (some 0), .int a1]) (st' := [.int a1]) hfl C0 hB (Mo_task_fn 0 (xs (i + 1).toNatClampNeg) (xs (i + 2).toNatClampNeg) S2 d2) h2 (JC_V (n := 2) (lw_G hfl C0 hB) lw_Rm cl_X10 q1912 q1913 q1914 q152 q1915 ⟨rfl, dd_X10_task⟩ ⟨by decide, by decide⟩ dL_law_415 z2 rfl (Nat.le_of_ble_eq_true rfl)) (ok_int (l9 := [xs (i + 1).toNatClampNeg, xs (i + 2).toNatClampNeg]) (Or.inl hN2.2.2.2.2)) (fun x hx9 => by rw [List.mem_singleton.mp hx9]; exact okV_int) hN1 hN2 hX3 hS3 hl3.1 hO2 hd1 hd2 (fun ρ4 H4 locs4 hρ4 hP1 hP2 hX4 hS4 => ?_)
  have hl4 : lv_has ls 4 [(0, .ref b), (1, .ref (ρ3 0)), (2, .ref (ρ4 0)), (3, .int i)] := by rw [hρ4 0 (Or.inl hN2.2.2.2.2)]; exact hl3
  exact lv_icmp_eq (tgt := 1834) hx hb dL_law_418 (by decide) (fun _ => next ρ3 ρ4 H4 locs4 ls hP1 hP2 hX4 hS4 hl4) (fun h => absurd rfl h)
set_option maxHeartbeats 4000000 in
theorem lc_5 {L : Nat} {xs : Nat → Int32} (hfl : l.flags = flags0) (C0 : lw_At p s m meth c b L xs) (hB : LB dC dI dA oa s) {S1 S2 : Sp} {d1 d2 : Dt} {i : Int32} (n1 : vp_in (i + 1) L) (n2 : vp_in (i + 2) L) (n3 : vp_in (i + 3) L) (z1 : isK S1 0 (some 0) = some 0) (z2 : isK S2 9 (some 0) = some 0) {a1 : Int32} (h1 : Ws_node 0 (xs (i + 1).toNatClampNeg) (xs (i + 2).toNatClampNeg) (xs (i + 3).toNatClampNeg) S1 d1 = some a1) (h2 : Mo_node 0 (xs (i + 1).toNatClampNeg) (xs (i + 2).toNatClampNeg) (xs (i + 3).toNatClampNeg) S2 d2 = some a1) (hO1 : S1.1.length ≤ OPQ) (hc1 : S1.2.2.1 + S2.2.2.1 ≤ 1136687) (hc2 : S1.2.2.2 + S2.2.2.2 ≤ 5675420) (hO2 : S2.1.length ≤ OPQ) (hd1 : S1.2.2.1 + S2.2.2.1 ≤ 1136687) (hd2 : S1.2.2.2 + S2.2.2.2 ≤ 5675420) (next : LW p l e s m below meth c Q dC dI dA oa b S1 d1 S2 d2 i 1834) : LW p l e s m below meth c Q dC dI dA oa b S1 d1 S2 d2 i 423 := by
  intro ρ1 ρ2 H locs ls hM1 hM2 hX9 hS hl
  have hx := C0.1
  have hb := C0.2.1
  refine lv_aload_n hx hb dL_law_423 rfl (lv_at hl 1 rfl) ?_
  refine lw_ld (pc := 424) C0 hS hl rfl (show Int32.ofInt 1 = 1 from by decide) n1 dL_law_424 dL_law_425 dL_law_426 dL_law_427 dL_law_428 ?_
  refine lw_ld (pc := 429) C0 hS hl rfl (show Int32.ofInt 2 = 2 from by decide) n2 dL_law_429 dL_law_430 dL_law_431 dL_law_432 dL_law_433 ?_
  refine lw_ld (pc := 434) C0 hS hl rfl (show Int32.ofInt 3 = 3 from by decide) n3 dL_law_434 dL_law_435 dL_law_436 dL_law_437 dL_law_438 ?_
  refine lw_call (pc := 439) (st := [.int (xs (i + 3).toNatClampNeg), .int (xs (i + 2).toNatClampNeg), .int (xs (i + 1).toNatClampNeg), va_rf (some 0)]) (st' := []) hfl C0 hB (Ws_node_fn 0 (xs (i + 1).toNatClampNeg) (xs (i + 2).toNatClampNeg) (xs (i + 3).toNatClampNeg) S1 d1) h1 (JC_V (n := 3) (lw_G hfl C0 hB) lw_Rm cl_X0 q989 q990 q991 q137 q992 ⟨rfl, dd_X0_node⟩ ⟨by decide, by decide⟩ dL_law_439 z1 rfl (Nat.le_of_ble_eq_true rfl)) (ok_int (l9 := [xs (i + 1).toNatClampNeg, xs (i + 2).toNatClampNeg, xs (i + 3).toNatClampNeg]) (Or.inl hM1.2.2.2.2)) (fun _ h => nomatch h) hM1 hM2 hX9 hS hl.1 hO1 hc1 hc2 (fun ρ3 H3 locs3 hρ3 hN1 hN2 hX3 hS3 => ?_)
  have hl3 : lv_has ls 4 [(0, .ref b), (1, .ref (ρ3 0)), (2, .ref (ρ2 0)), (3, .int i)] := by rw [hρ3 0 (Or.inl hM1.2.2.2.2)]; exact hl
  refine lv_aload_n hx hb dL_law_442 rfl (lv_at hl3 2 rfl) ?_
  refine lw_ld (pc := 443) C0 hS3 hl3 rfl (show Int32.ofInt 1 = 1 from by decide) n1 dL_law_443 dL_law_444 dL_law_445 dL_law_446 dL_law_447 ?_
  refine lw_ld (pc := 448) C0 hS3 hl3 rfl (show Int32.ofInt 2 = 2 from by decide) n2 dL_law_448 dL_law_449 dL_law_450 dL_law_451 dL_law_452 ?_
  refine lw_ld (pc := 453) C0 hS3 hl3 rfl (show Int32.ofInt 3 = 3 from by decide) n3 dL_law_453 dL_law_454 dL_law_455 dL_law_456 dL_law_457 ?_
  refine lw_call2 (pc := 458) (st := [.int (xs (i + 3).toNatClampNeg), .int (xs (i + 2).toNatClampNeg), .int (xs (i + 1).toNatClampNeg), va_rf (some 0), .int a1]) (st' := [.int a1]) hfl C0 hB (Mo_node_fn 0 (xs (i + 1).toNatClampNeg) (xs (i + 2).toNatClampNeg) (xs (i + 3).toNatClampNeg) S2 d2) h2 (JC_V (n := 3) (lw_G hfl C0 hB) lw_Rm cl_X10 q1925 q1926 q1927 q152 q1928 ⟨rfl, dd_X10_node⟩ ⟨by decide, by decide⟩ dL_law_458 z2 rfl (Nat.le_of_ble_eq_true rfl)) (ok_int (l9 := [xs (i + 1).toNatClampNeg, xs (i + 2).toNatClampNeg, xs (i + 3).toNatClampNeg]) (Or.inl hN2.2.2.2.2)) (fun x hx9 => by rw [List.mem_singleton.mp hx9]; exact okV_int) hN1 hN2 hX3 hS3 hl3.1 hO2 hd1 hd2 (fun ρ4 H4 locs4 hρ4 hP1 hP2 hX4 hS4 => ?_)
  have hl4 : lv_has ls 4 [(0, .ref b), (1, .ref (ρ3 0)), (2, .ref (ρ4 0)), (3, .int i)] := by rw [hρ4 0 (Or.inl hN2.2.2.2.2)]; exact hl3
  exact lv_icmp_eq (tgt := 1834) hx hb dL_law_461 (by decide) (fun _ => next ρ3 ρ4 H4 locs4 ls hP1 hP2 hX4 hS4 hl4) (fun h => absurd rfl h)
set_option maxHeartbeats 4000000 in
theorem lc_6 {L : Nat} {xs : Nat → Int32} (hfl : l.flags = flags0) (C0 : lw_At p s m meth c b L xs) (hB : LB dC dI dA oa s) {S1 S2 : Sp} {d1 d2 : Dt} {i : Int32} (n1 : vp_in (i + 1) L) (z1 : isK S1 0 (some 0) = some 0) (z2 : isK S2 9 (some 0) = some 0) {a1 : Int32} (h1 : Ws_watcher 0 (xs (i + 1).toNatClampNeg) S1 d1 = some a1) (h2 : Mo_watcher 0 (xs (i + 1).toNatClampNeg) S2 d2 = some a1) (hO1 : S1.1.length ≤ OPQ) (hc1 : S1.2.2.1 + S2.2.2.1 ≤ 1136687) (hc2 : S1.2.2.2 + S2.2.2.2 ≤ 5675420) (hO2 : S2.1.length ≤ OPQ) (hd1 : S1.2.2.1 + S2.2.2.1 ≤ 1136687) (hd2 : S1.2.2.2 + S2.2.2.2 ≤ 5675420) (next : LW p l e s m below meth c Q dC dI dA oa b S1 d1 S2 d2 i 1834) : LW p l e s m below meth c Q dC dI dA oa b S1 d1 S2 d2 i 466 := by
  intro ρ1 ρ2 H locs ls hM1 hM2 hX9 hS hl
  have hx := C0.1
  have hb := C0.2.1
  refine lv_aload_n hx hb dL_law_466 rfl (lv_at hl 1 rfl) ?_
  refine lw_ld (pc := 467) C0 hS hl rfl (show Int32.ofInt 1 = 1 from by decide) n1 dL_law_467 dL_law_468 dL_law_469 dL_law_470 dL_law_471 ?_
  refine lw_call (pc := 472) (st := [.int (xs (i + 1).toNatClampNeg), va_rf (some 0)]) (st' := []) hfl C0 hB (Ws_watcher_fn 0 (xs (i + 1).toNatClampNeg) S1 d1) h1 (JC_V (n := 1) (lw_G hfl C0 hB) lw_Rm cl_X0 q993 q994 q995 q137 q996 ⟨rfl, dd_X0_watcher⟩ ⟨by decide, by decide⟩ dL_law_472 z1 rfl (Nat.le_of_ble_eq_true rfl)) (ok_int (l9 := [xs (i + 1).toNatClampNeg]) (Or.inl hM1.2.2.2.2)) (fun _ h => nomatch h) hM1 hM2 hX9 hS hl.1 hO1 hc1 hc2 (fun ρ3 H3 locs3 hρ3 hN1 hN2 hX3 hS3 => ?_)
  have hl3 : lv_has ls 4 [(0, .ref b), (1, .ref (ρ3 0)), (2, .ref (ρ2 0)), (3, .int i)] := by rw [hρ3 0 (Or.inl hM1.2.2.2.2)]; exact hl
  refine lv_aload_n hx hb dL_law_475 rfl (lv_at hl3 2 rfl) ?_
  refine lw_ld (pc := 476) C0 hS3 hl3 rfl (show Int32.ofInt 1 = 1 from by decide) n1 dL_law_476 dL_law_477 dL_law_478 dL_law_479 dL_law_480 ?_
  refine lw_call2 (pc := 481) (st := [.int (xs (i + 1).toNatClampNeg), va_rf (some 0), .int a1]) (st' := [.int a1]) hfl C0 hB (Mo_watcher_fn 0 (xs (i + 1).toNatClampNeg) S2 d2) h2 (JC_V (n := 1) (lw_G hfl C0 hB) lw_Rm cl_X10 q1945 q1946 q1947 q152 q1948 ⟨rfl, dd_X10_watcher⟩ ⟨by decide, by decide⟩ dL_law_481 z2 rfl (Nat.le_of_ble_eq_true rfl)) (ok_int (l9 := [xs (i + 1).toNatClampNeg]) (Or.inl hN2.2.2.2.2)) (fun x hx9 => by rw [List.mem_singleton.mp hx9]; exact okV_int) hN1 hN2 hX3 hS3 hl3.1 hO2 hd1 hd2 (fun ρ4 H4 locs4 hρ4 hP1 hP2 hX4 hS4 => ?_)
  have hl4 : lv_has ls 4 [(0, .ref b), (1, .ref (ρ3 0)), (2, .ref (ρ4 0)), (3, .int i)] := by rw [hρ4 0 (Or.inl hN2.2.2.2.2)]; exact hl3
  exact lv_icmp_eq (tgt := 1834) hx hb dL_law_484 (by decide) (fun _ => next ρ3 ρ4 H4 locs4 ls hP1 hP2 hX4 hS4 hl4) (fun h => absurd rfl h)
set_option maxHeartbeats 4000000 in
theorem lc_7 {L : Nat} {xs : Nat → Int32} (hfl : l.flags = flags0) (C0 : lw_At p s m meth c b L xs) (hB : LB dC dI dA oa s) {S1 S2 : Sp} {d1 d2 : Dt} {i : Int32} (n1 : vp_in (i + 1) L) (n2 : vp_in (i + 2) L) (z1 : isK S1 0 (some 0) = some 0) (z2 : isK S2 9 (some 0) = some 0) {a1 : Int32} (h1 : Ws_injection 0 (xs (i + 1).toNatClampNeg) (xs (i + 2).toNatClampNeg) S1 d1 = some a1) (h2 : Mo_injection 0 (xs (i + 1).toNatClampNeg) (xs (i + 2).toNatClampNeg) S2 d2 = some a1) (hO1 : S1.1.length ≤ OPQ) (hc1 : S1.2.2.1 + S2.2.2.1 ≤ 1136687) (hc2 : S1.2.2.2 + S2.2.2.2 ≤ 5675420) (hO2 : S2.1.length ≤ OPQ) (hd1 : S1.2.2.1 + S2.2.2.1 ≤ 1136687) (hd2 : S1.2.2.2 + S2.2.2.2 ≤ 5675420) (next : LW p l e s m below meth c Q dC dI dA oa b S1 d1 S2 d2 i 1834) : LW p l e s m below meth c Q dC dI dA oa b S1 d1 S2 d2 i 489 := by
  intro ρ1 ρ2 H locs ls hM1 hM2 hX9 hS hl
  have hx := C0.1
  have hb := C0.2.1
  refine lv_aload_n hx hb dL_law_489 rfl (lv_at hl 1 rfl) ?_
  refine lw_ld (pc := 490) C0 hS hl rfl (show Int32.ofInt 1 = 1 from by decide) n1 dL_law_490 dL_law_491 dL_law_492 dL_law_493 dL_law_494 ?_
  refine lw_ld (pc := 495) C0 hS hl rfl (show Int32.ofInt 2 = 2 from by decide) n2 dL_law_495 dL_law_496 dL_law_497 dL_law_498 dL_law_499 ?_
  refine lw_call (pc := 500) (st := [.int (xs (i + 2).toNatClampNeg), .int (xs (i + 1).toNatClampNeg), va_rf (some 0)]) (st' := []) hfl C0 hB (Ws_injection_fn 0 (xs (i + 1).toNatClampNeg) (xs (i + 2).toNatClampNeg) S1 d1) h1 (JC_V (n := 2) (lw_G hfl C0 hB) lw_Rm cl_X0 q997 q998 q999 q137 q1000 ⟨rfl, dd_X0_injection⟩ ⟨by decide, by decide⟩ dL_law_500 z1 rfl (Nat.le_of_ble_eq_true rfl)) (ok_int (l9 := [xs (i + 1).toNatClampNeg, xs (i + 2).toNatClampNeg]) (Or.inl hM1.2.2.2.2)) (fun _ h => nomatch h) hM1 hM2 hX9 hS hl.1 hO1 hc1 hc2 (fun ρ3 H3 locs3 hρ3 hN1 hN2 hX3 hS3 => ?_)
  have hl3 : lv_has ls 4 [(0, .ref b), (1, .ref (ρ3 0)), (2, .ref (ρ2 0)), (3, .int i)] := by rw [hρ3 0 (Or.inl hM1.2.2.2.2)]; exact hl
  refine lv_aload_n hx hb dL_law_503 rfl (lv_at hl3 2 rfl) ?_
  refine lw_ld (pc := 504) C0 hS3 hl3 rfl (show Int32.ofInt 1 = 1 from by decide) n1 dL_law_504 dL_law_505 dL_law_506 dL_law_507 dL_law_508 ?_
  refine lw_ld (pc := 509) C0 hS3 hl3 rfl (show Int32.ofInt 2 = 2 from by decide) n2 dL_law_509 dL_law_510 dL_law_511 dL_law_512 dL_law_513 ?_
  refine lw_call2 (pc := 514) (st := [.int (xs (i + 2).toNatClampNeg), .int (xs (i + 1).toNatClampNeg), va_rf (some 0), .int a1]) (st' := [.int a1]) hfl C0 hB (Mo_injection_fn 0 (xs (i + 1).toNatClampNeg) (xs (i + 2).toNatClampNeg) S2 d2) h2 (JC_V (n := 2) (lw_G hfl C0 hB) lw_Rm cl_X10 q1953 q1954 q1955 q152 q1956 ⟨rfl, dd_X10_injection⟩ ⟨by decide, by decide⟩ dL_law_514 z2 rfl (Nat.le_of_ble_eq_true rfl)) (ok_int (l9 := [xs (i + 1).toNatClampNeg, xs (i + 2).toNatClampNeg]) (Or.inl hN2.2.2.2.2)) (fun x hx9 => by rw [List.mem_singleton.mp hx9]; exact okV_int) hN1 hN2 hX3 hS3 hl3.1 hO2 hd1 hd2 (fun ρ4 H4 locs4 hρ4 hP1 hP2 hX4 hS4 => ?_)
  have hl4 : lv_has ls 4 [(0, .ref b), (1, .ref (ρ3 0)), (2, .ref (ρ4 0)), (3, .int i)] := by rw [hρ4 0 (Or.inl hN2.2.2.2.2)]; exact hl3
  exact lv_icmp_eq (tgt := 1834) hx hb dL_law_517 (by decide) (fun _ => next ρ3 ρ4 H4 locs4 ls hP1 hP2 hX4 hS4 hl4) (fun h => absurd rfl h)
set_option maxHeartbeats 4000000 in
theorem lc_8 {L : Nat} {xs : Nat → Int32} (hfl : l.flags = flags0) (C0 : lw_At p s m meth c b L xs) (hB : LB dC dI dA oa s) {S1 S2 : Sp} {d1 d2 : Dt} {i : Int32} (n1 : vp_in (i + 1) L) (n2 : vp_in (i + 2) L) (z1 : isK S1 0 (some 0) = some 0) (z2 : isK S2 9 (some 0) = some 0) {a1 : Int32} {dd2 : Dt} (h1 : Ws_cost 0 (xs (i + 1).toNatClampNeg) (xs (i + 2).toNatClampNeg) S1 d1 = some a1) (h2 : Mo_cost 0 (xs (i + 1).toNatClampNeg) (xs (i + 2).toNatClampNeg) S2 d2 = some (a1, dd2)) (hO1 : S1.1.length ≤ OPQ) (hc1 : S1.2.2.1 + S2.2.2.1 ≤ 1136687) (hc2 : S1.2.2.2 + S2.2.2.2 ≤ 5675420) (hO2 : S2.1.length ≤ OPQ) (hd1 : S1.2.2.1 + S2.2.2.1 ≤ 1136687) (hd2 : S1.2.2.2 + S2.2.2.2 ≤ 5675420) (next : LW p l e s m below meth c Q dC dI dA oa b S1 d1 S2 dd2 i 1834) : LW p l e s m below meth c Q dC dI dA oa b S1 d1 S2 d2 i 522 := by
  intro ρ1 ρ2 H locs ls hM1 hM2 hX9 hS hl
  have hx := C0.1
  have hb := C0.2.1
  refine lv_aload_n hx hb dL_law_522 rfl (lv_at hl 1 rfl) ?_
  refine lw_ld (pc := 523) C0 hS hl rfl (show Int32.ofInt 1 = 1 from by decide) n1 dL_law_523 dL_law_524 dL_law_525 dL_law_526 dL_law_527 ?_
  refine lw_ld (pc := 528) C0 hS hl rfl (show Int32.ofInt 2 = 2 from by decide) n2 dL_law_528 dL_law_529 dL_law_530 dL_law_531 dL_law_532 ?_
  refine lw_call (pc := 533) (st := [.int (xs (i + 2).toNatClampNeg), .int (xs (i + 1).toNatClampNeg), va_rf (some 0)]) (st' := []) hfl C0 hB (Ws_cost_fn 0 (xs (i + 1).toNatClampNeg) (xs (i + 2).toNatClampNeg) S1 d1) h1 (JC_V (n := 2) (lw_G hfl C0 hB) lw_Rm cl_X0 q1006 q1007 q1008 q137 q1009 ⟨rfl, dd_X0_cost⟩ ⟨by decide, by decide⟩ dL_law_533 z1 rfl (Nat.le_of_ble_eq_true rfl)) (ok_int (l9 := [xs (i + 1).toNatClampNeg, xs (i + 2).toNatClampNeg]) (Or.inl hM1.2.2.2.2)) (fun _ h => nomatch h) hM1 hM2 hX9 hS hl.1 hO1 hc1 hc2 (fun ρ3 H3 locs3 hρ3 hN1 hN2 hX3 hS3 => ?_)
  have hl3 : lv_has ls 4 [(0, .ref b), (1, .ref (ρ3 0)), (2, .ref (ρ2 0)), (3, .int i)] := by rw [hρ3 0 (Or.inl hM1.2.2.2.2)]; exact hl
  refine lv_aload_n hx hb dL_law_536 rfl (lv_at hl3 2 rfl) ?_
  refine lw_ld (pc := 537) C0 hS3 hl3 rfl (show Int32.ofInt 1 = 1 from by decide) n1 dL_law_537 dL_law_538 dL_law_539 dL_law_540 dL_law_541 ?_
  refine lw_ld (pc := 542) C0 hS3 hl3 rfl (show Int32.ofInt 2 = 2 from by decide) n2 dL_law_542 dL_law_543 dL_law_544 dL_law_545 dL_law_546 ?_
  refine lw_call2 (pc := 547) (st := [.int (xs (i + 2).toNatClampNeg), .int (xs (i + 1).toNatClampNeg), va_rf (some 0), .int a1]) (st' := [.int a1]) hfl C0 hB (Mo_cost_fn 0 (xs (i + 1).toNatClampNeg) (xs (i + 2).toNatClampNeg) S2 d2) h2 (JC_V (n := 2) (lw_G hfl C0 hB) lw_Rm cl_X10 q1966 q1967 q1968 q152 q1969 ⟨rfl, dd_X10_cost⟩ ⟨by decide, by decide⟩ dL_law_547 z2 rfl (Nat.le_of_ble_eq_true rfl)) (ok_int (l9 := [xs (i + 1).toNatClampNeg, xs (i + 2).toNatClampNeg]) (Or.inl hN2.2.2.2.2)) (fun x hx9 => by rw [List.mem_singleton.mp hx9]; exact okV_int) hN1 hN2 hX3 hS3 hl3.1 hO2 hd1 hd2 (fun ρ4 H4 locs4 hρ4 hP1 hP2 hX4 hS4 => ?_)
  have hl4 : lv_has ls 4 [(0, .ref b), (1, .ref (ρ3 0)), (2, .ref (ρ4 0)), (3, .int i)] := by rw [hρ4 0 (Or.inl hN2.2.2.2.2)]; exact hl3
  exact lv_icmp_eq (tgt := 1834) hx hb dL_law_550 (by decide) (fun _ => next ρ3 ρ4 H4 locs4 ls hP1 hP2 hX4 hS4 hl4) (fun h => absurd rfl h)
set_option maxHeartbeats 4000000 in
theorem lc_9 {L : Nat} {xs : Nat → Int32} (hfl : l.flags = flags0) (C0 : lw_At p s m meth c b L xs) (hB : LB dC dI dA oa s) {S1 S2 : Sp} {d1 d2 : Dt} {i : Int32} (n1 : vp_in (i + 1) L) (z1 : isK S1 0 (some 0) = some 0) (z2 : isK S2 9 (some 0) = some 0) {a1 : Int32} {dd2 : Dt} (h1 : Ws_ways 0 (xs (i + 1).toNatClampNeg) S1 d1 = some a1) (h2 : Mo_ways 0 (xs (i + 1).toNatClampNeg) S2 d2 = some (a1, dd2)) (hO1 : S1.1.length ≤ OPQ) (hc1 : S1.2.2.1 + S2.2.2.1 ≤ 1136687) (hc2 : S1.2.2.2 + S2.2.2.2 ≤ 5675420) (hO2 : S2.1.length ≤ OPQ) (hd1 : S1.2.2.1 + S2.2.2.1 ≤ 1136687) (hd2 : S1.2.2.2 + S2.2.2.2 ≤ 5675420) (next : LW p l e s m below meth c Q dC dI dA oa b S1 d1 S2 dd2 i 1834) : LW p l e s m below meth c Q dC dI dA oa b S1 d1 S2 d2 i 555 := by
  intro ρ1 ρ2 H locs ls hM1 hM2 hX9 hS hl
  have hx := C0.1
  have hb := C0.2.1
  refine lv_aload_n hx hb dL_law_555 rfl (lv_at hl 1 rfl) ?_
  refine lw_ld (pc := 556) C0 hS hl rfl (show Int32.ofInt 1 = 1 from by decide) n1 dL_law_556 dL_law_557 dL_law_558 dL_law_559 dL_law_560 ?_
  refine lw_call (pc := 561) (st := [.int (xs (i + 1).toNatClampNeg), va_rf (some 0)]) (st' := []) hfl C0 hB (Ws_ways_fn 0 (xs (i + 1).toNatClampNeg) S1 d1) h1 (JC_V (n := 1) (lw_G hfl C0 hB) lw_Rm cl_X0 q1016 q1017 q1018 q137 q1019 ⟨rfl, dd_X0_ways⟩ ⟨by decide, by decide⟩ dL_law_561 z1 rfl (Nat.le_of_ble_eq_true rfl)) (ok_int (l9 := [xs (i + 1).toNatClampNeg]) (Or.inl hM1.2.2.2.2)) (fun _ h => nomatch h) hM1 hM2 hX9 hS hl.1 hO1 hc1 hc2 (fun ρ3 H3 locs3 hρ3 hN1 hN2 hX3 hS3 => ?_)
  have hl3 : lv_has ls 4 [(0, .ref b), (1, .ref (ρ3 0)), (2, .ref (ρ2 0)), (3, .int i)] := by rw [hρ3 0 (Or.inl hM1.2.2.2.2)]; exact hl
  refine lv_aload_n hx hb dL_law_564 rfl (lv_at hl3 2 rfl) ?_
  refine lw_ld (pc := 565) C0 hS3 hl3 rfl (show Int32.ofInt 1 = 1 from by decide) n1 dL_law_565 dL_law_566 dL_law_567 dL_law_568 dL_law_569 ?_
  refine lw_call2 (pc := 570) (st := [.int (xs (i + 1).toNatClampNeg), va_rf (some 0), .int a1]) (st' := [.int a1]) hfl C0 hB (Mo_ways_fn 0 (xs (i + 1).toNatClampNeg) S2 d2) h2 (JC_V (n := 1) (lw_G hfl C0 hB) lw_Rm cl_X10 q1979 q1980 q1981 q152 q1982 ⟨rfl, dd_X10_ways⟩ ⟨by decide, by decide⟩ dL_law_570 z2 rfl (Nat.le_of_ble_eq_true rfl)) (ok_int (l9 := [xs (i + 1).toNatClampNeg]) (Or.inl hN2.2.2.2.2)) (fun x hx9 => by rw [List.mem_singleton.mp hx9]; exact okV_int) hN1 hN2 hX3 hS3 hl3.1 hO2 hd1 hd2 (fun ρ4 H4 locs4 hρ4 hP1 hP2 hX4 hS4 => ?_)
  have hl4 : lv_has ls 4 [(0, .ref b), (1, .ref (ρ3 0)), (2, .ref (ρ4 0)), (3, .int i)] := by rw [hρ4 0 (Or.inl hN2.2.2.2.2)]; exact hl3
  exact lv_icmp_eq (tgt := 1834) hx hb dL_law_573 (by decide) (fun _ => next ρ3 ρ4 H4 locs4 ls hP1 hP2 hX4 hS4 hl4) (fun h => absurd rfl h)
set_option maxHeartbeats 4000000 in
theorem lc_10 {L : Nat} {xs : Nat → Int32} (hfl : l.flags = flags0) (C0 : lw_At p s m meth c b L xs) (hB : LB dC dI dA oa s) {S1 S2 : Sp} {d1 d2 : Dt} {i : Int32} (n1 : vp_in (i + 1) L) (z1 : isK S1 0 (some 0) = some 0) (z2 : isK S2 9 (some 0) = some 0) {a1 : Int32} {dd2 : Dt} (h1 : Ws_response 0 (xs (i + 1).toNatClampNeg) S1 d1 = some a1) (h2 : Mo_response 0 (xs (i + 1).toNatClampNeg) S2 d2 = some (a1, dd2)) (hO1 : S1.1.length ≤ OPQ) (hc1 : S1.2.2.1 + S2.2.2.1 ≤ 1136687) (hc2 : S1.2.2.2 + S2.2.2.2 ≤ 5675420) (hO2 : S2.1.length ≤ OPQ) (hd1 : S1.2.2.1 + S2.2.2.1 ≤ 1136687) (hd2 : S1.2.2.2 + S2.2.2.2 ≤ 5675420) (next : LW p l e s m below meth c Q dC dI dA oa b S1 d1 S2 dd2 i 1834) : LW p l e s m below meth c Q dC dI dA oa b S1 d1 S2 d2 i 578 := by
  intro ρ1 ρ2 H locs ls hM1 hM2 hX9 hS hl
  have hx := C0.1
  have hb := C0.2.1
  refine lv_aload_n hx hb dL_law_578 rfl (lv_at hl 1 rfl) ?_
  refine lw_ld (pc := 579) C0 hS hl rfl (show Int32.ofInt 1 = 1 from by decide) n1 dL_law_579 dL_law_580 dL_law_581 dL_law_582 dL_law_583 ?_
  refine lw_call (pc := 584) (st := [.int (xs (i + 1).toNatClampNeg), va_rf (some 0)]) (st' := []) hfl C0 hB (Ws_response_fn 0 (xs (i + 1).toNatClampNeg) S1 d1) h1 (JC_V (n := 1) (lw_G hfl C0 hB) lw_Rm cl_X0 q1025 q1026 q1027 q137 q1028 ⟨rfl, dd_X0_response⟩ ⟨by decide, by decide⟩ dL_law_584 z1 rfl (Nat.le_of_ble_eq_true rfl)) (ok_int (l9 := [xs (i + 1).toNatClampNeg]) (Or.inl hM1.2.2.2.2)) (fun _ h => nomatch h) hM1 hM2 hX9 hS hl.1 hO1 hc1 hc2 (fun ρ3 H3 locs3 hρ3 hN1 hN2 hX3 hS3 => ?_)
  have hl3 : lv_has ls 4 [(0, .ref b), (1, .ref (ρ3 0)), (2, .ref (ρ2 0)), (3, .int i)] := by rw [hρ3 0 (Or.inl hM1.2.2.2.2)]; exact hl
  refine lv_aload_n hx hb dL_law_587 rfl (lv_at hl3 2 rfl) ?_
  refine lw_ld (pc := 588) C0 hS3 hl3 rfl (show Int32.ofInt 1 = 1 from by decide) n1 dL_law_588 dL_law_589 dL_law_590 dL_law_591 dL_law_592 ?_
  refine lw_call2 (pc := 593) (st := [.int (xs (i + 1).toNatClampNeg), va_rf (some 0), .int a1]) (st' := [.int a1]) hfl C0 hB (Mo_response_fn 0 (xs (i + 1).toNatClampNeg) S2 d2) h2 (JC_V (n := 1) (lw_G hfl C0 hB) lw_Rm cl_X10 q1983 q1984 q1985 q152 q1986 ⟨rfl, dd_X10_response⟩ ⟨by decide, by decide⟩ dL_law_593 z2 rfl (Nat.le_of_ble_eq_true rfl)) (ok_int (l9 := [xs (i + 1).toNatClampNeg]) (Or.inl hN2.2.2.2.2)) (fun x hx9 => by rw [List.mem_singleton.mp hx9]; exact okV_int) hN1 hN2 hX3 hS3 hl3.1 hO2 hd1 hd2 (fun ρ4 H4 locs4 hρ4 hP1 hP2 hX4 hS4 => ?_)
  have hl4 : lv_has ls 4 [(0, .ref b), (1, .ref (ρ3 0)), (2, .ref (ρ4 0)), (3, .int i)] := by rw [hρ4 0 (Or.inl hN2.2.2.2.2)]; exact hl3
  exact lv_icmp_eq (tgt := 1834) hx hb dL_law_596 (by decide) (fun _ => next ρ3 ρ4 H4 locs4 ls hP1 hP2 hX4 hS4 hl4) (fun h => absurd rfl h)
set_option maxHeartbeats 4000000 in
theorem lc_11 {L : Nat} {xs : Nat → Int32} (hfl : l.flags = flags0) (C0 : lw_At p s m meth c b L xs) (hB : LB dC dI dA oa s) {S1 S2 : Sp} {d1 d2 : Dt} {i : Int32} (n1 : vp_in (i + 1) L) (n2 : vp_in (i + 2) L) (z1 : isK S1 0 (some 0) = some 0) (z2 : isK S2 9 (some 0) = some 0) {a1 : Int32} {dd2 : Dt} (h1 : Ws_least 0 (xs (i + 1).toNatClampNeg) (xs (i + 2).toNatClampNeg) S1 d1 = some a1) (h2 : Mo_least 0 (xs (i + 1).toNatClampNeg) (xs (i + 2).toNatClampNeg) S2 d2 = some (a1, dd2)) (hO1 : S1.1.length ≤ OPQ) (hc1 : S1.2.2.1 + S2.2.2.1 ≤ 1136687) (hc2 : S1.2.2.2 + S2.2.2.2 ≤ 5675420) (hO2 : S2.1.length ≤ OPQ) (hd1 : S1.2.2.1 + S2.2.2.1 ≤ 1136687) (hd2 : S1.2.2.2 + S2.2.2.2 ≤ 5675420) (next : LW p l e s m below meth c Q dC dI dA oa b S1 d1 S2 dd2 i 1834) : LW p l e s m below meth c Q dC dI dA oa b S1 d1 S2 d2 i 601 := by
  intro ρ1 ρ2 H locs ls hM1 hM2 hX9 hS hl
  have hx := C0.1
  have hb := C0.2.1
  refine lv_aload_n hx hb dL_law_601 rfl (lv_at hl 1 rfl) ?_
  refine lw_ld (pc := 602) C0 hS hl rfl (show Int32.ofInt 1 = 1 from by decide) n1 dL_law_602 dL_law_603 dL_law_604 dL_law_605 dL_law_606 ?_
  refine lw_ld (pc := 607) C0 hS hl rfl (show Int32.ofInt 2 = 2 from by decide) n2 dL_law_607 dL_law_608 dL_law_609 dL_law_610 dL_law_611 ?_
  refine lw_call (pc := 612) (st := [.int (xs (i + 2).toNatClampNeg), .int (xs (i + 1).toNatClampNeg), va_rf (some 0)]) (st' := []) hfl C0 hB (Ws_least_fn 0 (xs (i + 1).toNatClampNeg) (xs (i + 2).toNatClampNeg) S1 d1) h1 (JC_V (n := 2) (lw_G hfl C0 hB) lw_Rm cl_X0 q1048 q1049 q1050 q137 q1051 ⟨rfl, dd_X0_least⟩ ⟨by decide, by decide⟩ dL_law_612 z1 rfl (Nat.le_of_ble_eq_true rfl)) (ok_int (l9 := [xs (i + 1).toNatClampNeg, xs (i + 2).toNatClampNeg]) (Or.inl hM1.2.2.2.2)) (fun _ h => nomatch h) hM1 hM2 hX9 hS hl.1 hO1 hc1 hc2 (fun ρ3 H3 locs3 hρ3 hN1 hN2 hX3 hS3 => ?_)
  have hl3 : lv_has ls 4 [(0, .ref b), (1, .ref (ρ3 0)), (2, .ref (ρ2 0)), (3, .int i)] := by rw [hρ3 0 (Or.inl hM1.2.2.2.2)]; exact hl
  refine lv_aload_n hx hb dL_law_615 rfl (lv_at hl3 2 rfl) ?_
  refine lw_ld (pc := 616) C0 hS3 hl3 rfl (show Int32.ofInt 1 = 1 from by decide) n1 dL_law_616 dL_law_617 dL_law_618 dL_law_619 dL_law_620 ?_
  refine lw_ld (pc := 621) C0 hS3 hl3 rfl (show Int32.ofInt 2 = 2 from by decide) n2 dL_law_621 dL_law_622 dL_law_623 dL_law_624 dL_law_625 ?_
  refine lw_call2 (pc := 626) (st := [.int (xs (i + 2).toNatClampNeg), .int (xs (i + 1).toNatClampNeg), va_rf (some 0), .int a1]) (st' := [.int a1]) hfl C0 hB (Mo_least_fn 0 (xs (i + 1).toNatClampNeg) (xs (i + 2).toNatClampNeg) S2 d2) h2 (JC_V (n := 2) (lw_G hfl C0 hB) lw_Rm cl_X10 q1999 q2000 q2001 q152 q2002 ⟨rfl, dd_X10_least⟩ ⟨by decide, by decide⟩ dL_law_626 z2 rfl (Nat.le_of_ble_eq_true rfl)) (ok_int (l9 := [xs (i + 1).toNatClampNeg, xs (i + 2).toNatClampNeg]) (Or.inl hN2.2.2.2.2)) (fun x hx9 => by rw [List.mem_singleton.mp hx9]; exact okV_int) hN1 hN2 hX3 hS3 hl3.1 hO2 hd1 hd2 (fun ρ4 H4 locs4 hρ4 hP1 hP2 hX4 hS4 => ?_)
  have hl4 : lv_has ls 4 [(0, .ref b), (1, .ref (ρ3 0)), (2, .ref (ρ4 0)), (3, .int i)] := by rw [hρ4 0 (Or.inl hN2.2.2.2.2)]; exact hl3
  exact lv_icmp_eq (tgt := 1834) hx hb dL_law_629 (by decide) (fun _ => next ρ3 ρ4 H4 locs4 ls hP1 hP2 hX4 hS4 hl4) (fun h => absurd rfl h)
set_option maxHeartbeats 4000000 in
theorem lc_12 {L : Nat} {xs : Nat → Int32} (hfl : l.flags = flags0) (C0 : lw_At p s m meth c b L xs) (hB : LB dC dI dA oa s) {S1 S2 : Sp} {d1 d2 : Dt} {i : Int32} (n1 : vp_in (i + 1) L) (z1 : isK S1 0 (some 0) = some 0) (z2 : isK S2 9 (some 0) = some 0) {a1 : Int32} {dd1 : Dt} {dd2 : Dt} (h1 : Ws_room 0 (xs (i + 1).toNatClampNeg) S1 d1 = some (a1, dd1)) (h2 : Mo_room 0 (xs (i + 1).toNatClampNeg) S2 d2 = some (a1, dd2)) (hO1 : S1.1.length ≤ OPQ) (hc1 : S1.2.2.1 + S2.2.2.1 ≤ 1136687) (hc2 : S1.2.2.2 + S2.2.2.2 ≤ 5675420) (hO2 : S2.1.length ≤ OPQ) (hd1 : S1.2.2.1 + S2.2.2.1 ≤ 1136687) (hd2 : S1.2.2.2 + S2.2.2.2 ≤ 5675420) (next : LW p l e s m below meth c Q dC dI dA oa b S1 dd1 S2 dd2 i 1834) : LW p l e s m below meth c Q dC dI dA oa b S1 d1 S2 d2 i 634 := by
  intro ρ1 ρ2 H locs ls hM1 hM2 hX9 hS hl
  have hx := C0.1
  have hb := C0.2.1
  refine lv_aload_n hx hb dL_law_634 rfl (lv_at hl 1 rfl) ?_
  refine lw_ld (pc := 635) C0 hS hl rfl (show Int32.ofInt 1 = 1 from by decide) n1 dL_law_635 dL_law_636 dL_law_637 dL_law_638 dL_law_639 ?_
  refine lw_call (pc := 640) (st := [.int (xs (i + 1).toNatClampNeg), va_rf (some 0)]) (st' := []) hfl C0 hB (Ws_room_fn 0 (xs (i + 1).toNatClampNeg) S1 d1) h1 (JC_VW (hh := [((16), (49), (78), (0)), ((56), (71), (78), (0)), ((78), (80), (78), (0))]) (n := 1) (lw_G hfl C0 hB) lw_Rm cl_X0 q1062 q1063 q1064 q137 q1065 ⟨rfl, dd_X0_room⟩ ⟨by decide, by decide⟩ dL_law_640 z1 rfl (Nat.le_of_ble_eq_true rfl)) (ok_int (l9 := [xs (i + 1).toNatClampNeg]) (Or.inl hM1.2.2.2.2)) (fun _ h => nomatch h) hM1 hM2 hX9 hS hl.1 hO1 hc1 hc2 (fun ρ3 H3 locs3 hρ3 hN1 hN2 hX3 hS3 => ?_)
  have hl3 : lv_has ls 4 [(0, .ref b), (1, .ref (ρ3 0)), (2, .ref (ρ2 0)), (3, .int i)] := by rw [hρ3 0 (Or.inl hM1.2.2.2.2)]; exact hl
  refine lv_aload_n hx hb dL_law_643 rfl (lv_at hl3 2 rfl) ?_
  refine lw_ld (pc := 644) C0 hS3 hl3 rfl (show Int32.ofInt 1 = 1 from by decide) n1 dL_law_644 dL_law_645 dL_law_646 dL_law_647 dL_law_648 ?_
  refine lw_call2 (pc := 649) (st := [.int (xs (i + 1).toNatClampNeg), va_rf (some 0), .int a1]) (st' := [.int a1]) hfl C0 hB (Mo_room_fn 0 (xs (i + 1).toNatClampNeg) S2 d2) h2 (JC_V (n := 1) (lw_G hfl C0 hB) lw_Rm cl_X10 q2024 q2025 q2026 q152 q2027 ⟨rfl, dd_X10_room⟩ ⟨by decide, by decide⟩ dL_law_649 z2 rfl (Nat.le_of_ble_eq_true rfl)) (ok_int (l9 := [xs (i + 1).toNatClampNeg]) (Or.inl hN2.2.2.2.2)) (fun x hx9 => by rw [List.mem_singleton.mp hx9]; exact okV_int) hN1 hN2 hX3 hS3 hl3.1 hO2 hd1 hd2 (fun ρ4 H4 locs4 hρ4 hP1 hP2 hX4 hS4 => ?_)
  have hl4 : lv_has ls 4 [(0, .ref b), (1, .ref (ρ3 0)), (2, .ref (ρ4 0)), (3, .int i)] := by rw [hρ4 0 (Or.inl hN2.2.2.2.2)]; exact hl3
  exact lv_icmp_eq (tgt := 1834) hx hb dL_law_652 (by decide) (fun _ => next ρ3 ρ4 H4 locs4 ls hP1 hP2 hX4 hS4 hl4) (fun h => absurd rfl h)
set_option maxHeartbeats 4000000 in
theorem lc_13 {L : Nat} {xs : Nat → Int32} (hfl : l.flags = flags0) (C0 : lw_At p s m meth c b L xs) (hB : LB dC dI dA oa s) {S1 S2 : Sp} {d1 d2 : Dt} {i : Int32} (z1 : isK S1 0 (some 0) = some 0) (z2 : isK S2 9 (some 0) = some 0) {a1 : Int32} {dd1 : Dt} {dd2 : Dt} (h1 : Ws_orders 0 S1 d1 = some (a1, dd1)) (h2 : Mo_orders 0 S2 d2 = some (a1, dd2)) (hO1 : S1.1.length ≤ OPQ) (hc1 : S1.2.2.1 + S2.2.2.1 ≤ 1136687) (hc2 : S1.2.2.2 + S2.2.2.2 ≤ 5675420) (hO2 : S2.1.length ≤ OPQ) (hd1 : S1.2.2.1 + S2.2.2.1 ≤ 1136687) (hd2 : S1.2.2.2 + S2.2.2.2 ≤ 5675420) (next : LW p l e s m below meth c Q dC dI dA oa b S1 dd1 S2 dd2 i 1834) : LW p l e s m below meth c Q dC dI dA oa b S1 d1 S2 d2 i 657 := by
  intro ρ1 ρ2 H locs ls hM1 hM2 hX9 hS hl
  have hx := C0.1
  have hb := C0.2.1
  refine lv_aload_n hx hb dL_law_657 rfl (lv_at hl 1 rfl) ?_
  refine lw_call (pc := 658) (st := [va_rf (some 0)]) (st' := []) hfl C0 hB (Ws_orders_fn 0  S1 d1) h1 (JC_V (n := 0) (lw_G hfl C0 hB) lw_Rm cl_X0 q1101 q1102 q1103 q137 q1104 ⟨rfl, dd_X0_orders⟩ ⟨by decide, by decide⟩ dL_law_658 z1 rfl (Nat.le_of_ble_eq_true rfl)) (ok_int (l9 := []) (Or.inl hM1.2.2.2.2)) (fun _ h => nomatch h) hM1 hM2 hX9 hS hl.1 hO1 hc1 hc2 (fun ρ3 H3 locs3 hρ3 hN1 hN2 hX3 hS3 => ?_)
  have hl3 : lv_has ls 4 [(0, .ref b), (1, .ref (ρ3 0)), (2, .ref (ρ2 0)), (3, .int i)] := by rw [hρ3 0 (Or.inl hM1.2.2.2.2)]; exact hl
  refine lv_aload_n hx hb dL_law_661 rfl (lv_at hl3 2 rfl) ?_
  refine lw_call2 (pc := 662) (st := [va_rf (some 0), .int a1]) (st' := [.int a1]) hfl C0 hB (Mo_orders_fn 0  S2 d2) h2 (JC_V (n := 0) (lw_G hfl C0 hB) lw_Rm cl_X10 q2028 q2029 q2030 q152 q2031 ⟨rfl, dd_X10_orders⟩ ⟨by decide, by decide⟩ dL_law_662 z2 rfl (Nat.le_of_ble_eq_true rfl)) (ok_int (l9 := []) (Or.inl hN2.2.2.2.2)) (fun x hx9 => by rw [List.mem_singleton.mp hx9]; exact okV_int) hN1 hN2 hX3 hS3 hl3.1 hO2 hd1 hd2 (fun ρ4 H4 locs4 hρ4 hP1 hP2 hX4 hS4 => ?_)
  have hl4 : lv_has ls 4 [(0, .ref b), (1, .ref (ρ3 0)), (2, .ref (ρ4 0)), (3, .int i)] := by rw [hρ4 0 (Or.inl hN2.2.2.2.2)]; exact hl3
  exact lv_icmp_eq (tgt := 1834) hx hb dL_law_665 (by decide) (fun _ => next ρ3 ρ4 H4 locs4 ls hP1 hP2 hX4 hS4 hl4) (fun h => absurd rfl h)
set_option maxHeartbeats 4000000 in
theorem lc_14 {L : Nat} {xs : Nat → Int32} (hfl : l.flags = flags0) (C0 : lw_At p s m meth c b L xs) (hB : LB dC dI dA oa s) {S1 S2 : Sp} {d1 d2 : Dt} {i : Int32} (n1 : vp_in (i + 1) L) (z1 : isK S1 0 (some 0) = some 0) (z2 : isK S2 9 (some 0) = some 0) {a1 : Int32} {dd1 : Dt} {dd2 : Dt} (h1 : Ws_order 0 (xs (i + 1).toNatClampNeg) S1 d1 = some (a1, dd1)) (h2 : Mo_order 0 (xs (i + 1).toNatClampNeg) S2 d2 = some (a1, dd2)) (hO1 : S1.1.length ≤ OPQ) (hc1 : S1.2.2.1 + S2.2.2.1 ≤ 1136687) (hc2 : S1.2.2.2 + S2.2.2.2 ≤ 5675420) (hO2 : S2.1.length ≤ OPQ) (hd1 : S1.2.2.1 + S2.2.2.1 ≤ 1136687) (hd2 : S1.2.2.2 + S2.2.2.2 ≤ 5675420) (next : LW p l e s m below meth c Q dC dI dA oa b S1 dd1 S2 dd2 i 1834) : LW p l e s m below meth c Q dC dI dA oa b S1 d1 S2 d2 i 670 := by
  intro ρ1 ρ2 H locs ls hM1 hM2 hX9 hS hl
  have hx := C0.1
  have hb := C0.2.1
  refine lv_aload_n hx hb dL_law_670 rfl (lv_at hl 1 rfl) ?_
  refine lw_ld (pc := 671) C0 hS hl rfl (show Int32.ofInt 1 = 1 from by decide) n1 dL_law_671 dL_law_672 dL_law_673 dL_law_674 dL_law_675 ?_
  refine lw_call (pc := 676) (st := [.int (xs (i + 1).toNatClampNeg), va_rf (some 0)]) (st' := []) hfl C0 hB (Ws_order_fn 0 (xs (i + 1).toNatClampNeg) S1 d1) h1 (JC_V (n := 1) (lw_G hfl C0 hB) lw_Rm cl_X0 q1117 q1118 q1119 q137 q1120 ⟨rfl, dd_X0_order⟩ ⟨by decide, by decide⟩ dL_law_676 z1 rfl (Nat.le_of_ble_eq_true rfl)) (ok_int (l9 := [xs (i + 1).toNatClampNeg]) (Or.inl hM1.2.2.2.2)) (fun _ h => nomatch h) hM1 hM2 hX9 hS hl.1 hO1 hc1 hc2 (fun ρ3 H3 locs3 hρ3 hN1 hN2 hX3 hS3 => ?_)
  have hl3 : lv_has ls 4 [(0, .ref b), (1, .ref (ρ3 0)), (2, .ref (ρ2 0)), (3, .int i)] := by rw [hρ3 0 (Or.inl hM1.2.2.2.2)]; exact hl
  refine lv_aload_n hx hb dL_law_679 rfl (lv_at hl3 2 rfl) ?_
  refine lw_ld (pc := 680) C0 hS3 hl3 rfl (show Int32.ofInt 1 = 1 from by decide) n1 dL_law_680 dL_law_681 dL_law_682 dL_law_683 dL_law_684 ?_
  refine lw_call2 (pc := 685) (st := [.int (xs (i + 1).toNatClampNeg), va_rf (some 0), .int a1]) (st' := [.int a1]) hfl C0 hB (Mo_order_fn 0 (xs (i + 1).toNatClampNeg) S2 d2) h2 (JC_V (n := 1) (lw_G hfl C0 hB) lw_Rm cl_X10 q2040 q2041 q2042 q152 q2043 ⟨rfl, dd_X10_order⟩ ⟨by decide, by decide⟩ dL_law_685 z2 rfl (Nat.le_of_ble_eq_true rfl)) (ok_int (l9 := [xs (i + 1).toNatClampNeg]) (Or.inl hN2.2.2.2.2)) (fun x hx9 => by rw [List.mem_singleton.mp hx9]; exact okV_int) hN1 hN2 hX3 hS3 hl3.1 hO2 hd1 hd2 (fun ρ4 H4 locs4 hρ4 hP1 hP2 hX4 hS4 => ?_)
  have hl4 : lv_has ls 4 [(0, .ref b), (1, .ref (ρ3 0)), (2, .ref (ρ4 0)), (3, .int i)] := by rw [hρ4 0 (Or.inl hN2.2.2.2.2)]; exact hl3
  exact lv_icmp_eq (tgt := 1834) hx hb dL_law_688 (by decide) (fun _ => next ρ3 ρ4 H4 locs4 ls hP1 hP2 hX4 hS4 hl4) (fun h => absurd rfl h)
set_option maxHeartbeats 4000000 in
theorem lc_15 {L : Nat} {xs : Nat → Int32} (hfl : l.flags = flags0) (C0 : lw_At p s m meth c b L xs) (hB : LB dC dI dA oa s) {S1 S2 : Sp} {d1 d2 : Dt} {i : Int32} (n1 : vp_in (i + 1) L) (n2 : vp_in (i + 2) L) (n3 : vp_in (i + 3) L) (z1 : isK S1 0 (some 0) = some 0) (z2 : isK S2 9 (some 0) = some 0) {a1 : Int32} (h1 : Ws_path 0 (xs (i + 1).toNatClampNeg) (xs (i + 2).toNatClampNeg) (xs (i + 3).toNatClampNeg) S1 d1 = some a1) (h2 : Mo_path 0 (xs (i + 1).toNatClampNeg) (xs (i + 2).toNatClampNeg) (xs (i + 3).toNatClampNeg) S2 d2 = some a1) (hO1 : S1.1.length ≤ OPQ) (hc1 : S1.2.2.1 + S2.2.2.1 ≤ 1136687) (hc2 : S1.2.2.2 + S2.2.2.2 ≤ 5675420) (hO2 : S2.1.length ≤ OPQ) (hd1 : S1.2.2.1 + S2.2.2.1 ≤ 1136687) (hd2 : S1.2.2.2 + S2.2.2.2 ≤ 5675420) (next : LW p l e s m below meth c Q dC dI dA oa b S1 d1 S2 d2 i 1834) : LW p l e s m below meth c Q dC dI dA oa b S1 d1 S2 d2 i 693 := by
  intro ρ1 ρ2 H locs ls hM1 hM2 hX9 hS hl
  have hx := C0.1
  have hb := C0.2.1
  refine lv_aload_n hx hb dL_law_693 rfl (lv_at hl 1 rfl) ?_
  refine lw_ld (pc := 694) C0 hS hl rfl (show Int32.ofInt 1 = 1 from by decide) n1 dL_law_694 dL_law_695 dL_law_696 dL_law_697 dL_law_698 ?_
  refine lw_ld (pc := 699) C0 hS hl rfl (show Int32.ofInt 2 = 2 from by decide) n2 dL_law_699 dL_law_700 dL_law_701 dL_law_702 dL_law_703 ?_
  refine lw_ld (pc := 704) C0 hS hl rfl (show Int32.ofInt 3 = 3 from by decide) n3 dL_law_704 dL_law_705 dL_law_706 dL_law_707 dL_law_708 ?_
  refine lw_call (pc := 709) (st := [.int (xs (i + 3).toNatClampNeg), .int (xs (i + 2).toNatClampNeg), .int (xs (i + 1).toNatClampNeg), va_rf (some 0)]) (st' := []) hfl C0 hB (Ws_path_fn 0 (xs (i + 1).toNatClampNeg) (xs (i + 2).toNatClampNeg) (xs (i + 3).toNatClampNeg) S1 d1) h1 (JC_V (n := 3) (lw_G hfl C0 hB) lw_Rm cl_X0 q1121 q1122 q1123 q137 q1124 ⟨rfl, dd_X0_path⟩ ⟨by decide, by decide⟩ dL_law_709 z1 rfl (Nat.le_of_ble_eq_true rfl)) (ok_int (l9 := [xs (i + 1).toNatClampNeg, xs (i + 2).toNatClampNeg, xs (i + 3).toNatClampNeg]) (Or.inl hM1.2.2.2.2)) (fun _ h => nomatch h) hM1 hM2 hX9 hS hl.1 hO1 hc1 hc2 (fun ρ3 H3 locs3 hρ3 hN1 hN2 hX3 hS3 => ?_)
  have hl3 : lv_has ls 4 [(0, .ref b), (1, .ref (ρ3 0)), (2, .ref (ρ2 0)), (3, .int i)] := by rw [hρ3 0 (Or.inl hM1.2.2.2.2)]; exact hl
  refine lv_aload_n hx hb dL_law_712 rfl (lv_at hl3 2 rfl) ?_
  refine lw_ld (pc := 713) C0 hS3 hl3 rfl (show Int32.ofInt 1 = 1 from by decide) n1 dL_law_713 dL_law_714 dL_law_715 dL_law_716 dL_law_717 ?_
  refine lw_ld (pc := 718) C0 hS3 hl3 rfl (show Int32.ofInt 2 = 2 from by decide) n2 dL_law_718 dL_law_719 dL_law_720 dL_law_721 dL_law_722 ?_
  refine lw_ld (pc := 723) C0 hS3 hl3 rfl (show Int32.ofInt 3 = 3 from by decide) n3 dL_law_723 dL_law_724 dL_law_725 dL_law_726 dL_law_727 ?_
  refine lw_call2 (pc := 728) (st := [.int (xs (i + 3).toNatClampNeg), .int (xs (i + 2).toNatClampNeg), .int (xs (i + 1).toNatClampNeg), va_rf (some 0), .int a1]) (st' := [.int a1]) hfl C0 hB (Mo_path_fn 0 (xs (i + 1).toNatClampNeg) (xs (i + 2).toNatClampNeg) (xs (i + 3).toNatClampNeg) S2 d2) h2 (JC_V (n := 3) (lw_G hfl C0 hB) lw_Rm cl_X10 q2049 q2050 q2051 q152 q2052 ⟨rfl, dd_X10_path⟩ ⟨by decide, by decide⟩ dL_law_728 z2 rfl (Nat.le_of_ble_eq_true rfl)) (ok_int (l9 := [xs (i + 1).toNatClampNeg, xs (i + 2).toNatClampNeg, xs (i + 3).toNatClampNeg]) (Or.inl hN2.2.2.2.2)) (fun x hx9 => by rw [List.mem_singleton.mp hx9]; exact okV_int) hN1 hN2 hX3 hS3 hl3.1 hO2 hd1 hd2 (fun ρ4 H4 locs4 hρ4 hP1 hP2 hX4 hS4 => ?_)
  have hl4 : lv_has ls 4 [(0, .ref b), (1, .ref (ρ3 0)), (2, .ref (ρ4 0)), (3, .int i)] := by rw [hρ4 0 (Or.inl hN2.2.2.2.2)]; exact hl3
  exact lv_icmp_eq (tgt := 1834) hx hb dL_law_731 (by decide) (fun _ => next ρ3 ρ4 H4 locs4 ls hP1 hP2 hX4 hS4 hl4) (fun h => absurd rfl h)
set_option maxHeartbeats 4000000 in
theorem lc_16 {L : Nat} {xs : Nat → Int32} (hfl : l.flags = flags0) (C0 : lw_At p s m meth c b L xs) (hB : LB dC dI dA oa s) {S1 S2 : Sp} {d1 d2 : Dt} {i : Int32} (n1 : vp_in (i + 1) L) (n2 : vp_in (i + 2) L) (n3 : vp_in (i + 3) L) (z1 : isK S1 0 (some 0) = some 0) (z2 : isK S2 9 (some 0) = some 0) {a1 : Int32} (h1 : Ws_answer 0 (xs (i + 1).toNatClampNeg) (xs (i + 2).toNatClampNeg) (xs (i + 3).toNatClampNeg) S1 d1 = some a1) (h2 : Mo_answer 0 (xs (i + 1).toNatClampNeg) (xs (i + 2).toNatClampNeg) (xs (i + 3).toNatClampNeg) S2 d2 = some a1) (hO1 : S1.1.length ≤ OPQ) (hc1 : S1.2.2.1 + S2.2.2.1 ≤ 1136687) (hc2 : S1.2.2.2 + S2.2.2.2 ≤ 5675420) (hO2 : S2.1.length ≤ OPQ) (hd1 : S1.2.2.1 + S2.2.2.1 ≤ 1136687) (hd2 : S1.2.2.2 + S2.2.2.2 ≤ 5675420) (next : LW p l e s m below meth c Q dC dI dA oa b S1 d1 S2 d2 i 1834) : LW p l e s m below meth c Q dC dI dA oa b S1 d1 S2 d2 i 736 := by
  intro ρ1 ρ2 H locs ls hM1 hM2 hX9 hS hl
  have hx := C0.1
  have hb := C0.2.1
  refine lv_aload_n hx hb dL_law_736 rfl (lv_at hl 1 rfl) ?_
  refine lw_ld (pc := 737) C0 hS hl rfl (show Int32.ofInt 1 = 1 from by decide) n1 dL_law_737 dL_law_738 dL_law_739 dL_law_740 dL_law_741 ?_
  refine lw_ld (pc := 742) C0 hS hl rfl (show Int32.ofInt 2 = 2 from by decide) n2 dL_law_742 dL_law_743 dL_law_744 dL_law_745 dL_law_746 ?_
  refine lw_ld (pc := 747) C0 hS hl rfl (show Int32.ofInt 3 = 3 from by decide) n3 dL_law_747 dL_law_748 dL_law_749 dL_law_750 dL_law_751 ?_
  refine lw_call (pc := 752) (st := [.int (xs (i + 3).toNatClampNeg), .int (xs (i + 2).toNatClampNeg), .int (xs (i + 1).toNatClampNeg), va_rf (some 0)]) (st' := []) hfl C0 hB (Ws_answer_fn 0 (xs (i + 1).toNatClampNeg) (xs (i + 2).toNatClampNeg) (xs (i + 3).toNatClampNeg) S1 d1) h1 (JC_V (n := 3) (lw_G hfl C0 hB) lw_Rm cl_X0 q1074 q1075 q1076 q137 q1077 ⟨rfl, dd_X0_answer⟩ ⟨by decide, by decide⟩ dL_law_752 z1 rfl (Nat.le_of_ble_eq_true rfl)) (ok_int (l9 := [xs (i + 1).toNatClampNeg, xs (i + 2).toNatClampNeg, xs (i + 3).toNatClampNeg]) (Or.inl hM1.2.2.2.2)) (fun _ h => nomatch h) hM1 hM2 hX9 hS hl.1 hO1 hc1 hc2 (fun ρ3 H3 locs3 hρ3 hN1 hN2 hX3 hS3 => ?_)
  have hl3 : lv_has ls 4 [(0, .ref b), (1, .ref (ρ3 0)), (2, .ref (ρ2 0)), (3, .int i)] := by rw [hρ3 0 (Or.inl hM1.2.2.2.2)]; exact hl
  refine lv_aload_n hx hb dL_law_755 rfl (lv_at hl3 2 rfl) ?_
  refine lw_ld (pc := 756) C0 hS3 hl3 rfl (show Int32.ofInt 1 = 1 from by decide) n1 dL_law_756 dL_law_757 dL_law_758 dL_law_759 dL_law_760 ?_
  refine lw_ld (pc := 761) C0 hS3 hl3 rfl (show Int32.ofInt 2 = 2 from by decide) n2 dL_law_761 dL_law_762 dL_law_763 dL_law_764 dL_law_765 ?_
  refine lw_ld (pc := 766) C0 hS3 hl3 rfl (show Int32.ofInt 3 = 3 from by decide) n3 dL_law_766 dL_law_767 dL_law_768 dL_law_769 dL_law_770 ?_
  refine lw_call2 (pc := 771) (st := [.int (xs (i + 3).toNatClampNeg), .int (xs (i + 2).toNatClampNeg), .int (xs (i + 1).toNatClampNeg), va_rf (some 0), .int a1]) (st' := [.int a1]) hfl C0 hB (Mo_answer_fn 0 (xs (i + 1).toNatClampNeg) (xs (i + 2).toNatClampNeg) (xs (i + 3).toNatClampNeg) S2 d2) h2 (JC_V (n := 3) (lw_G hfl C0 hB) lw_Rm cl_X10 q2058 q2059 q2060 q152 q2061 ⟨rfl, dd_X10_answer⟩ ⟨by decide, by decide⟩ dL_law_771 z2 rfl (Nat.le_of_ble_eq_true rfl)) (ok_int (l9 := [xs (i + 1).toNatClampNeg, xs (i + 2).toNatClampNeg, xs (i + 3).toNatClampNeg]) (Or.inl hN2.2.2.2.2)) (fun x hx9 => by rw [List.mem_singleton.mp hx9]; exact okV_int) hN1 hN2 hX3 hS3 hl3.1 hO2 hd1 hd2 (fun ρ4 H4 locs4 hρ4 hP1 hP2 hX4 hS4 => ?_)
  have hl4 : lv_has ls 4 [(0, .ref b), (1, .ref (ρ3 0)), (2, .ref (ρ4 0)), (3, .int i)] := by rw [hρ4 0 (Or.inl hN2.2.2.2.2)]; exact hl3
  exact lv_icmp_eq (tgt := 1834) hx hb dL_law_774 (by decide) (fun _ => next ρ3 ρ4 H4 locs4 ls hP1 hP2 hX4 hS4 hl4) (fun h => absurd rfl h)
set_option maxHeartbeats 4000000 in
theorem lc_17 {L : Nat} {xs : Nat → Int32} (hfl : l.flags = flags0) (C0 : lw_At p s m meth c b L xs) (hB : LB dC dI dA oa s) {S1 S2 : Sp} {d1 d2 : Dt} {i : Int32} (n1 : vp_in (i + 1) L) (n2 : vp_in (i + 2) L) (z1 : isK S1 0 (some 0) = some 0) (z2 : isK S2 9 (some 0) = some 0) {a1 : Int32} {dd1 : Dt} {dd2 : Dt} (h1 : Ws_alike 0 (xs (i + 1).toNatClampNeg) (xs (i + 2).toNatClampNeg) S1 d1 = some (a1, dd1)) (h2 : Mo_alike 0 (xs (i + 1).toNatClampNeg) (xs (i + 2).toNatClampNeg) S2 d2 = some (a1, dd2)) (hO1 : S1.1.length ≤ OPQ) (hc1 : S1.2.2.1 + S2.2.2.1 ≤ 1136687) (hc2 : S1.2.2.2 + S2.2.2.2 ≤ 5675420) (hO2 : S2.1.length ≤ OPQ) (hd1 : S1.2.2.1 + S2.2.2.1 ≤ 1136687) (hd2 : S1.2.2.2 + S2.2.2.2 ≤ 5675420) (next : LW p l e s m below meth c Q dC dI dA oa b S1 dd1 S2 dd2 i 1834) : LW p l e s m below meth c Q dC dI dA oa b S1 d1 S2 d2 i 779 := by
  intro ρ1 ρ2 H locs ls hM1 hM2 hX9 hS hl
  have hx := C0.1
  have hb := C0.2.1
  refine lv_aload_n hx hb dL_law_779 rfl (lv_at hl 1 rfl) ?_
  refine lw_ld (pc := 780) C0 hS hl rfl (show Int32.ofInt 1 = 1 from by decide) n1 dL_law_780 dL_law_781 dL_law_782 dL_law_783 dL_law_784 ?_
  refine lw_ld (pc := 785) C0 hS hl rfl (show Int32.ofInt 2 = 2 from by decide) n2 dL_law_785 dL_law_786 dL_law_787 dL_law_788 dL_law_789 ?_
  refine lw_call (pc := 790) (st := [.int (xs (i + 2).toNatClampNeg), .int (xs (i + 1).toNatClampNeg), va_rf (some 0)]) (st' := []) hfl C0 hB (Ws_alike_fn 0 (xs (i + 1).toNatClampNeg) (xs (i + 2).toNatClampNeg) S1 d1) h1 (JC_V (n := 2) (lw_G hfl C0 hB) lw_Rm cl_X0 q1093 q1094 q1095 q137 q1096 ⟨rfl, dd_X0_alike⟩ ⟨by decide, by decide⟩ dL_law_790 z1 rfl (Nat.le_of_ble_eq_true rfl)) (ok_int (l9 := [xs (i + 1).toNatClampNeg, xs (i + 2).toNatClampNeg]) (Or.inl hM1.2.2.2.2)) (fun _ h => nomatch h) hM1 hM2 hX9 hS hl.1 hO1 hc1 hc2 (fun ρ3 H3 locs3 hρ3 hN1 hN2 hX3 hS3 => ?_)
  have hl3 : lv_has ls 4 [(0, .ref b), (1, .ref (ρ3 0)), (2, .ref (ρ2 0)), (3, .int i)] := by rw [hρ3 0 (Or.inl hM1.2.2.2.2)]; exact hl
  refine lv_aload_n hx hb dL_law_793 rfl (lv_at hl3 2 rfl) ?_
  refine lw_ld (pc := 794) C0 hS3 hl3 rfl (show Int32.ofInt 1 = 1 from by decide) n1 dL_law_794 dL_law_795 dL_law_796 dL_law_797 dL_law_798 ?_
  refine lw_ld (pc := 799) C0 hS3 hl3 rfl (show Int32.ofInt 2 = 2 from by decide) n2 dL_law_799 dL_law_800 dL_law_801 dL_law_802 dL_law_803 ?_
  refine lw_call2 (pc := 804) (st := [.int (xs (i + 2).toNatClampNeg), .int (xs (i + 1).toNatClampNeg), va_rf (some 0), .int a1]) (st' := [.int a1]) hfl C0 hB (Mo_alike_fn 0 (xs (i + 1).toNatClampNeg) (xs (i + 2).toNatClampNeg) S2 d2) h2 (JC_V (n := 2) (lw_G hfl C0 hB) lw_Rm cl_X10 q2066 q2067 q2068 q152 q2069 ⟨rfl, dd_X10_alike⟩ ⟨by decide, by decide⟩ dL_law_804 z2 rfl (Nat.le_of_ble_eq_true rfl)) (ok_int (l9 := [xs (i + 1).toNatClampNeg, xs (i + 2).toNatClampNeg]) (Or.inl hN2.2.2.2.2)) (fun x hx9 => by rw [List.mem_singleton.mp hx9]; exact okV_int) hN1 hN2 hX3 hS3 hl3.1 hO2 hd1 hd2 (fun ρ4 H4 locs4 hρ4 hP1 hP2 hX4 hS4 => ?_)
  have hl4 : lv_has ls 4 [(0, .ref b), (1, .ref (ρ3 0)), (2, .ref (ρ4 0)), (3, .int i)] := by rw [hρ4 0 (Or.inl hN2.2.2.2.2)]; exact hl3
  exact lv_icmp_eq (tgt := 1834) hx hb dL_law_807 (by decide) (fun _ => next ρ3 ρ4 H4 locs4 ls hP1 hP2 hX4 hS4 hl4) (fun h => absurd rfl h)
set_option maxHeartbeats 4000000 in
theorem lc_18 {L : Nat} {xs : Nat → Int32} (hfl : l.flags = flags0) (C0 : lw_At p s m meth c b L xs) (hB : LB dC dI dA oa s) {S1 S2 : Sp} {d1 d2 : Dt} {i : Int32} (z1 : isK S1 0 (some 0) = some 0) (z2 : isK S2 9 (some 0) = some 0) {a1 : Int32} {dd2 : Dt} (h1 : Ws_lawful 0 S1 d1 = some a1) (h2 : Mo_lawful 0 S2 d2 = some (a1, dd2)) (hO1 : S1.1.length ≤ OPQ) (hc1 : S1.2.2.1 + S2.2.2.1 ≤ 1136687) (hc2 : S1.2.2.2 + S2.2.2.2 ≤ 5675420) (hO2 : S2.1.length ≤ OPQ) (hd1 : S1.2.2.1 + S2.2.2.1 ≤ 1136687) (hd2 : S1.2.2.2 + S2.2.2.2 ≤ 5675420) (next : LW p l e s m below meth c Q dC dI dA oa b S1 d1 S2 dd2 i 1834) : LW p l e s m below meth c Q dC dI dA oa b S1 d1 S2 d2 i 812 := by
  intro ρ1 ρ2 H locs ls hM1 hM2 hX9 hS hl
  have hx := C0.1
  have hb := C0.2.1
  refine lv_aload_n hx hb dL_law_812 rfl (lv_at hl 1 rfl) ?_
  refine lw_call (pc := 813) (st := [va_rf (some 0)]) (st' := []) hfl C0 hB (Ws_lawful_fn 0  S1 d1) h1 (JC_V (n := 0) (lw_G hfl C0 hB) lw_Rm cl_X0 q1125 q1126 q1127 q137 q1128 ⟨rfl, dd_X0_lawful⟩ ⟨by decide, by decide⟩ dL_law_813 z1 rfl (Nat.le_of_ble_eq_true rfl)) (ok_int (l9 := []) (Or.inl hM1.2.2.2.2)) (fun _ h => nomatch h) hM1 hM2 hX9 hS hl.1 hO1 hc1 hc2 (fun ρ3 H3 locs3 hρ3 hN1 hN2 hX3 hS3 => ?_)
  have hl3 : lv_has ls 4 [(0, .ref b), (1, .ref (ρ3 0)), (2, .ref (ρ2 0)), (3, .int i)] := by rw [hρ3 0 (Or.inl hM1.2.2.2.2)]; exact hl
  refine lv_aload_n hx hb dL_law_816 rfl (lv_at hl3 2 rfl) ?_
  refine lw_call2 (pc := 817) (st := [va_rf (some 0), .int a1]) (st' := [.int a1]) hfl C0 hB (Mo_lawful_fn 0  S2 d2) h2 (JC_V (n := 0) (lw_G hfl C0 hB) lw_Rm cl_X10 q2008 q2009 q2010 q152 q2011 ⟨rfl, dd_X10_lawful⟩ ⟨by decide, by decide⟩ dL_law_817 z2 rfl (Nat.le_of_ble_eq_true rfl)) (ok_int (l9 := []) (Or.inl hN2.2.2.2.2)) (fun x hx9 => by rw [List.mem_singleton.mp hx9]; exact okV_int) hN1 hN2 hX3 hS3 hl3.1 hO2 hd1 hd2 (fun ρ4 H4 locs4 hρ4 hP1 hP2 hX4 hS4 => ?_)
  have hl4 : lv_has ls 4 [(0, .ref b), (1, .ref (ρ3 0)), (2, .ref (ρ4 0)), (3, .int i)] := by rw [hρ4 0 (Or.inl hN2.2.2.2.2)]; exact hl3
  exact lv_icmp_eq (tgt := 1834) hx hb dL_law_820 (by decide) (fun _ => next ρ3 ρ4 H4 locs4 ls hP1 hP2 hX4 hS4 hl4) (fun h => absurd rfl h)
set_option maxHeartbeats 4000000 in
theorem lc_19 {L : Nat} {xs : Nat → Int32} (hfl : l.flags = flags0) (C0 : lw_At p s m meth c b L xs) (hB : LB dC dI dA oa s) {S1 S2 : Sp} {d1 d2 : Dt} {i : Int32} (z1 : isK S1 0 (some 0) = some 0) (z2 : isK S2 9 (some 0) = some 0) {a1 : Int32} {dd2 : Dt} (h1 : Ws_load 0 S1 d1 = some a1) (h2 : Mo_load 0 S2 d2 = some (a1, dd2)) (hO1 : S1.1.length ≤ OPQ) (hc1 : S1.2.2.1 + S2.2.2.1 ≤ 1136687) (hc2 : S1.2.2.2 + S2.2.2.2 ≤ 5675420) (hO2 : S2.1.length ≤ OPQ) (hd1 : S1.2.2.1 + S2.2.2.1 ≤ 1136687) (hd2 : S1.2.2.2 + S2.2.2.2 ≤ 5675420) (next : LW p l e s m below meth c Q dC dI dA oa b S1 d1 S2 dd2 i 1834) : LW p l e s m below meth c Q dC dI dA oa b S1 d1 S2 d2 i 825 := by
  intro ρ1 ρ2 H locs ls hM1 hM2 hX9 hS hl
  have hx := C0.1
  have hb := C0.2.1
  refine lv_aload_n hx hb dL_law_825 rfl (lv_at hl 1 rfl) ?_
  refine lw_call (pc := 826) (st := [va_rf (some 0)]) (st' := []) hfl C0 hB (Ws_load_fn 0  S1 d1) h1 (JC_V (n := 0) (lw_G hfl C0 hB) lw_Rm cl_X0 q1129 q1130 q1131 q137 q1132 ⟨rfl, dd_X0_load⟩ ⟨by decide, by decide⟩ dL_law_826 z1 rfl (Nat.le_of_ble_eq_true rfl)) (ok_int (l9 := []) (Or.inl hM1.2.2.2.2)) (fun _ h => nomatch h) hM1 hM2 hX9 hS hl.1 hO1 hc1 hc2 (fun ρ3 H3 locs3 hρ3 hN1 hN2 hX3 hS3 => ?_)
  have hl3 : lv_has ls 4 [(0, .ref b), (1, .ref (ρ3 0)), (2, .ref (ρ2 0)), (3, .int i)] := by rw [hρ3 0 (Or.inl hM1.2.2.2.2)]; exact hl
  refine lv_aload_n hx hb dL_law_829 rfl (lv_at hl3 2 rfl) ?_
  refine lw_call2 (pc := 830) (st := [va_rf (some 0), .int a1]) (st' := [.int a1]) hfl C0 hB (Mo_load_fn 0  S2 d2) h2 (JC_V (n := 0) (lw_G hfl C0 hB) lw_Rm cl_X10 q2044 q2045 q2046 q152 q2047 ⟨rfl, dd_X10_load⟩ ⟨by decide, by decide⟩ dL_law_830 z2 rfl (Nat.le_of_ble_eq_true rfl)) (ok_int (l9 := []) (Or.inl hN2.2.2.2.2)) (fun x hx9 => by rw [List.mem_singleton.mp hx9]; exact okV_int) hN1 hN2 hX3 hS3 hl3.1 hO2 hd1 hd2 (fun ρ4 H4 locs4 hρ4 hP1 hP2 hX4 hS4 => ?_)
  have hl4 : lv_has ls 4 [(0, .ref b), (1, .ref (ρ3 0)), (2, .ref (ρ4 0)), (3, .int i)] := by rw [hρ4 0 (Or.inl hN2.2.2.2.2)]; exact hl3
  exact lv_icmp_eq (tgt := 1834) hx hb dL_law_833 (by decide) (fun _ => next ρ3 ρ4 H4 locs4 ls hP1 hP2 hX4 hS4 hl4) (fun h => absurd rfl h)
set_option maxHeartbeats 4000000 in
theorem lc_20 {L : Nat} {xs : Nat → Int32} (hfl : l.flags = flags0) (C0 : lw_At p s m meth c b L xs) (hB : LB dC dI dA oa s) {S1 S2 : Sp} {d1 d2 : Dt} {i : Int32} (n1 : vp_in (i + 1) L) (z1 : isK S1 0 (some 0) = some 0) (z2 : isK S2 9 (some 0) = some 0) {a1 : Int32} {SS1 : Sp} {dd1 : Dt} {dd2 : Dt} (h1 : Ws_had 0 (xs (i + 1).toNatClampNeg) S1 d1 = some (a1, SS1, dd1)) (h2 : Mo_had 0 (xs (i + 1).toNatClampNeg) S2 d2 = some (a1, dd2)) (hO1 : SS1.1.length ≤ OPQ) (hc1 : SS1.2.2.1 + S2.2.2.1 ≤ 1136687) (hc2 : SS1.2.2.2 + S2.2.2.2 ≤ 5675420) (hO2 : S2.1.length ≤ OPQ) (hd1 : SS1.2.2.1 + S2.2.2.1 ≤ 1136687) (hd2 : SS1.2.2.2 + S2.2.2.2 ≤ 5675420) (next : LW p l e s m below meth c Q dC dI dA oa b SS1 dd1 S2 dd2 i 1834) : LW p l e s m below meth c Q dC dI dA oa b S1 d1 S2 d2 i 838 := by
  intro ρ1 ρ2 H locs ls hM1 hM2 hX9 hS hl
  have hx := C0.1
  have hb := C0.2.1
  refine lv_aload_n hx hb dL_law_838 rfl (lv_at hl 1 rfl) ?_
  refine lw_ld (pc := 839) C0 hS hl rfl (show Int32.ofInt 1 = 1 from by decide) n1 dL_law_839 dL_law_840 dL_law_841 dL_law_842 dL_law_843 ?_
  refine lw_call (pc := 844) (st := [.int (xs (i + 1).toNatClampNeg), va_rf (some 0)]) (st' := []) hfl C0 hB (Ws_had_fn 0 (xs (i + 1).toNatClampNeg) S1 d1) h1 (JC_V (n := 1) (lw_G hfl C0 hB) lw_Rm cl_X0 q1143 q1144 q1145 q137 q1146 ⟨rfl, dd_X0_had⟩ ⟨by decide, by decide⟩ dL_law_844 z1 rfl (Nat.le_of_ble_eq_true rfl)) (ok_int (l9 := [xs (i + 1).toNatClampNeg]) (Or.inl hM1.2.2.2.2)) (fun _ h => nomatch h) hM1 hM2 hX9 hS hl.1 hO1 hc1 hc2 (fun ρ3 H3 locs3 hρ3 hN1 hN2 hX3 hS3 => ?_)
  have hl3 : lv_has ls 4 [(0, .ref b), (1, .ref (ρ3 0)), (2, .ref (ρ2 0)), (3, .int i)] := by rw [hρ3 0 (Or.inl hM1.2.2.2.2)]; exact hl
  refine lv_aload_n hx hb dL_law_847 rfl (lv_at hl3 2 rfl) ?_
  refine lw_ld (pc := 848) C0 hS3 hl3 rfl (show Int32.ofInt 1 = 1 from by decide) n1 dL_law_848 dL_law_849 dL_law_850 dL_law_851 dL_law_852 ?_
  refine lw_call2 (pc := 853) (st := [.int (xs (i + 1).toNatClampNeg), va_rf (some 0), .int a1]) (st' := [.int a1]) hfl C0 hB (Mo_had_fn 0 (xs (i + 1).toNatClampNeg) S2 d2) h2 (JC_V (n := 1) (lw_G hfl C0 hB) lw_Rm cl_X10 q2074 q2075 q2076 q152 q2077 ⟨rfl, dd_X10_had⟩ ⟨by decide, by decide⟩ dL_law_853 z2 rfl (Nat.le_of_ble_eq_true rfl)) (ok_int (l9 := [xs (i + 1).toNatClampNeg]) (Or.inl hN2.2.2.2.2)) (fun x hx9 => by rw [List.mem_singleton.mp hx9]; exact okV_int) hN1 hN2 hX3 hS3 hl3.1 hO2 hd1 hd2 (fun ρ4 H4 locs4 hρ4 hP1 hP2 hX4 hS4 => ?_)
  have hl4 : lv_has ls 4 [(0, .ref b), (1, .ref (ρ3 0)), (2, .ref (ρ4 0)), (3, .int i)] := by rw [hρ4 0 (Or.inl hN2.2.2.2.2)]; exact hl3
  exact lv_icmp_eq (tgt := 1834) hx hb dL_law_856 (by decide) (fun _ => next ρ3 ρ4 H4 locs4 ls hP1 hP2 hX4 hS4 hl4) (fun h => absurd rfl h)
set_option maxHeartbeats 4000000 in
theorem lc_21 {L : Nat} {xs : Nat → Int32} (hfl : l.flags = flags0) (C0 : lw_At p s m meth c b L xs) (hB : LB dC dI dA oa s) {S1 S2 : Sp} {d1 d2 : Dt} {i : Int32} (n1 : vp_in (i + 1) L) (z1 : isK S1 0 (some 0) = some 0) (z2 : isK S2 9 (some 0) = some 0) {a1 : Int32} {SS1 : Sp} {dd1 : Dt} {dd2 : Dt} (h1 : Ws_idle 0 (xs (i + 1).toNatClampNeg) S1 d1 = some (a1, SS1, dd1)) (h2 : Mo_idle 0 (xs (i + 1).toNatClampNeg) S2 d2 = some (a1, dd2)) (hO1 : SS1.1.length ≤ OPQ) (hc1 : SS1.2.2.1 + S2.2.2.1 ≤ 1136687) (hc2 : SS1.2.2.2 + S2.2.2.2 ≤ 5675420) (hO2 : S2.1.length ≤ OPQ) (hd1 : SS1.2.2.1 + S2.2.2.1 ≤ 1136687) (hd2 : SS1.2.2.2 + S2.2.2.2 ≤ 5675420) (next : LW p l e s m below meth c Q dC dI dA oa b SS1 dd1 S2 dd2 i 1834) : LW p l e s m below meth c Q dC dI dA oa b S1 d1 S2 d2 i 861 := by
  intro ρ1 ρ2 H locs ls hM1 hM2 hX9 hS hl
  have hx := C0.1
  have hb := C0.2.1
  refine lv_aload_n hx hb dL_law_861 rfl (lv_at hl 1 rfl) ?_
  refine lw_ld (pc := 862) C0 hS hl rfl (show Int32.ofInt 1 = 1 from by decide) n1 dL_law_862 dL_law_863 dL_law_864 dL_law_865 dL_law_866 ?_
  refine lw_call (pc := 867) (st := [.int (xs (i + 1).toNatClampNeg), va_rf (some 0)]) (st' := []) hfl C0 hB (Ws_idle_fn 0 (xs (i + 1).toNatClampNeg) S1 d1) h1 (JC_V (n := 1) (lw_G hfl C0 hB) lw_Rm cl_X0 q1292 q1293 q1294 q137 q1295 ⟨rfl, dd_X0_idle⟩ ⟨by decide, by decide⟩ dL_law_867 z1 rfl (Nat.le_of_ble_eq_true rfl)) (ok_int (l9 := [xs (i + 1).toNatClampNeg]) (Or.inl hM1.2.2.2.2)) (fun _ h => nomatch h) hM1 hM2 hX9 hS hl.1 hO1 hc1 hc2 (fun ρ3 H3 locs3 hρ3 hN1 hN2 hX3 hS3 => ?_)
  have hl3 : lv_has ls 4 [(0, .ref b), (1, .ref (ρ3 0)), (2, .ref (ρ2 0)), (3, .int i)] := by rw [hρ3 0 (Or.inl hM1.2.2.2.2)]; exact hl
  refine lv_aload_n hx hb dL_law_870 rfl (lv_at hl3 2 rfl) ?_
  refine lw_ld (pc := 871) C0 hS3 hl3 rfl (show Int32.ofInt 1 = 1 from by decide) n1 dL_law_871 dL_law_872 dL_law_873 dL_law_874 dL_law_875 ?_
  refine lw_call2 (pc := 876) (st := [.int (xs (i + 1).toNatClampNeg), va_rf (some 0), .int a1]) (st' := [.int a1]) hfl C0 hB (Mo_idle_fn 0 (xs (i + 1).toNatClampNeg) S2 d2) h2 (JC_V (n := 1) (lw_G hfl C0 hB) lw_Rm cl_X10 q2184 q2185 q2186 q152 q2187 ⟨rfl, dd_X10_idle⟩ ⟨by decide, by decide⟩ dL_law_876 z2 rfl (Nat.le_of_ble_eq_true rfl)) (ok_int (l9 := [xs (i + 1).toNatClampNeg]) (Or.inl hN2.2.2.2.2)) (fun x hx9 => by rw [List.mem_singleton.mp hx9]; exact okV_int) hN1 hN2 hX3 hS3 hl3.1 hO2 hd1 hd2 (fun ρ4 H4 locs4 hρ4 hP1 hP2 hX4 hS4 => ?_)
  have hl4 : lv_has ls 4 [(0, .ref b), (1, .ref (ρ3 0)), (2, .ref (ρ4 0)), (3, .int i)] := by rw [hρ4 0 (Or.inl hN2.2.2.2.2)]; exact hl3
  exact lv_icmp_eq (tgt := 1834) hx hb dL_law_879 (by decide) (fun _ => next ρ3 ρ4 H4 locs4 ls hP1 hP2 hX4 hS4 hl4) (fun h => absurd rfl h)
set_option maxHeartbeats 4000000 in
theorem lc_22 {L : Nat} {xs : Nat → Int32} (hfl : l.flags = flags0) (C0 : lw_At p s m meth c b L xs) (hB : LB dC dI dA oa s) {S1 S2 : Sp} {d1 d2 : Dt} {i : Int32} (n1 : vp_in (i + 1) L) (n2 : vp_in (i + 2) L) (z1 : isK S1 0 (some 0) = some 0) (z2 : isK S2 9 (some 0) = some 0) {a1 : Int32} {SS1 : Sp} {dd1 : Dt} {dd2 : Dt} (h1 : Ws_kicks_2 0 (xs (i + 1).toNatClampNeg) (xs (i + 2).toNatClampNeg) S1 d1 = some (a1, SS1, dd1)) (h2 : Mo_kicks 0 (xs (i + 1).toNatClampNeg) (xs (i + 2).toNatClampNeg) S2 d2 = some (a1, dd2)) (hO1 : SS1.1.length ≤ OPQ) (hc1 : SS1.2.2.1 + S2.2.2.1 ≤ 1136687) (hc2 : SS1.2.2.2 + S2.2.2.2 ≤ 5675420) (hO2 : S2.1.length ≤ OPQ) (hd1 : SS1.2.2.1 + S2.2.2.1 ≤ 1136687) (hd2 : SS1.2.2.2 + S2.2.2.2 ≤ 5675420) (next : LW p l e s m below meth c Q dC dI dA oa b SS1 dd1 S2 dd2 i 1834) : LW p l e s m below meth c Q dC dI dA oa b S1 d1 S2 d2 i 884 := by
  intro ρ1 ρ2 H locs ls hM1 hM2 hX9 hS hl
  have hx := C0.1
  have hb := C0.2.1
  refine lv_aload_n hx hb dL_law_884 rfl (lv_at hl 1 rfl) ?_
  refine lw_ld (pc := 885) C0 hS hl rfl (show Int32.ofInt 1 = 1 from by decide) n1 dL_law_885 dL_law_886 dL_law_887 dL_law_888 dL_law_889 ?_
  refine lw_ld (pc := 890) C0 hS hl rfl (show Int32.ofInt 2 = 2 from by decide) n2 dL_law_890 dL_law_891 dL_law_892 dL_law_893 dL_law_894 ?_
  refine lw_call (pc := 895) (st := [.int (xs (i + 2).toNatClampNeg), .int (xs (i + 1).toNatClampNeg), va_rf (some 0)]) (st' := []) hfl C0 hB (Ws_kicks_2_fn 0 (xs (i + 1).toNatClampNeg) (xs (i + 2).toNatClampNeg) S1 d1) h1 (JC_V (n := 2) (lw_G hfl C0 hB) lw_Rm cl_X0 q1300 q1301 q1302 q137 q1303 ⟨rfl, dd_X0_kicks_2⟩ ⟨by decide, by decide⟩ dL_law_895 z1 rfl (Nat.le_of_ble_eq_true rfl)) (ok_int (l9 := [xs (i + 1).toNatClampNeg, xs (i + 2).toNatClampNeg]) (Or.inl hM1.2.2.2.2)) (fun _ h => nomatch h) hM1 hM2 hX9 hS hl.1 hO1 hc1 hc2 (fun ρ3 H3 locs3 hρ3 hN1 hN2 hX3 hS3 => ?_)
  have hl3 : lv_has ls 4 [(0, .ref b), (1, .ref (ρ3 0)), (2, .ref (ρ2 0)), (3, .int i)] := by rw [hρ3 0 (Or.inl hM1.2.2.2.2)]; exact hl
  refine lv_aload_n hx hb dL_law_898 rfl (lv_at hl3 2 rfl) ?_
  refine lw_ld (pc := 899) C0 hS3 hl3 rfl (show Int32.ofInt 1 = 1 from by decide) n1 dL_law_899 dL_law_900 dL_law_901 dL_law_902 dL_law_903 ?_
  refine lw_ld (pc := 904) C0 hS3 hl3 rfl (show Int32.ofInt 2 = 2 from by decide) n2 dL_law_904 dL_law_905 dL_law_906 dL_law_907 dL_law_908 ?_
  refine lw_call2 (pc := 909) (st := [.int (xs (i + 2).toNatClampNeg), .int (xs (i + 1).toNatClampNeg), va_rf (some 0), .int a1]) (st' := [.int a1]) hfl C0 hB (Mo_kicks_fn 0 (xs (i + 1).toNatClampNeg) (xs (i + 2).toNatClampNeg) S2 d2) h2 (JC_V (n := 2) (lw_G hfl C0 hB) lw_Rm cl_X10 q2196 q2197 q2198 q152 q2199 ⟨rfl, dd_X10_kicks⟩ ⟨by decide, by decide⟩ dL_law_909 z2 rfl (Nat.le_of_ble_eq_true rfl)) (ok_int (l9 := [xs (i + 1).toNatClampNeg, xs (i + 2).toNatClampNeg]) (Or.inl hN2.2.2.2.2)) (fun x hx9 => by rw [List.mem_singleton.mp hx9]; exact okV_int) hN1 hN2 hX3 hS3 hl3.1 hO2 hd1 hd2 (fun ρ4 H4 locs4 hρ4 hP1 hP2 hX4 hS4 => ?_)
  have hl4 : lv_has ls 4 [(0, .ref b), (1, .ref (ρ3 0)), (2, .ref (ρ4 0)), (3, .int i)] := by rw [hρ4 0 (Or.inl hN2.2.2.2.2)]; exact hl3
  exact lv_icmp_eq (tgt := 1834) hx hb dL_law_912 (by decide) (fun _ => next ρ3 ρ4 H4 locs4 ls hP1 hP2 hX4 hS4 hl4) (fun h => absurd rfl h)
set_option maxHeartbeats 4000000 in
theorem lc_23 {L : Nat} {xs : Nat → Int32} (hfl : l.flags = flags0) (C0 : lw_At p s m meth c b L xs) (hB : LB dC dI dA oa s) {S1 S2 : Sp} {d1 d2 : Dt} {i : Int32} (n1 : vp_in (i + 1) L) (n2 : vp_in (i + 2) L) (z1 : isK S1 0 (some 0) = some 0) (z2 : isK S2 9 (some 0) = some 0) {a1 : Int32} {SS1 : Sp} {dd1 : Dt} {dd2 : Dt} (h1 : Ws_kicked 0 (xs (i + 1).toNatClampNeg) (xs (i + 2).toNatClampNeg) S1 d1 = some (a1, SS1, dd1)) (h2 : Mo_kicked 0 (xs (i + 1).toNatClampNeg) (xs (i + 2).toNatClampNeg) S2 d2 = some (a1, dd2)) (hO1 : SS1.1.length ≤ OPQ) (hc1 : SS1.2.2.1 + S2.2.2.1 ≤ 1136687) (hc2 : SS1.2.2.2 + S2.2.2.2 ≤ 5675420) (hO2 : S2.1.length ≤ OPQ) (hd1 : SS1.2.2.1 + S2.2.2.1 ≤ 1136687) (hd2 : SS1.2.2.2 + S2.2.2.2 ≤ 5675420) (next : LW p l e s m below meth c Q dC dI dA oa b SS1 dd1 S2 dd2 i 1834) : LW p l e s m below meth c Q dC dI dA oa b S1 d1 S2 d2 i 917 := by
  intro ρ1 ρ2 H locs ls hM1 hM2 hX9 hS hl
  have hx := C0.1
  have hb := C0.2.1
  refine lv_aload_n hx hb dL_law_917 rfl (lv_at hl 1 rfl) ?_
  refine lw_ld (pc := 918) C0 hS hl rfl (show Int32.ofInt 1 = 1 from by decide) n1 dL_law_918 dL_law_919 dL_law_920 dL_law_921 dL_law_922 ?_
  refine lw_ld (pc := 923) C0 hS hl rfl (show Int32.ofInt 2 = 2 from by decide) n2 dL_law_923 dL_law_924 dL_law_925 dL_law_926 dL_law_927 ?_
  refine lw_call (pc := 928) (st := [.int (xs (i + 2).toNatClampNeg), .int (xs (i + 1).toNatClampNeg), va_rf (some 0)]) (st' := []) hfl C0 hB (Ws_kicked_fn 0 (xs (i + 1).toNatClampNeg) (xs (i + 2).toNatClampNeg) S1 d1) h1 (JC_V (n := 2) (lw_G hfl C0 hB) lw_Rm cl_X0 q1316 q1317 q1318 q137 q1319 ⟨rfl, dd_X0_kicked⟩ ⟨by decide, by decide⟩ dL_law_928 z1 rfl (Nat.le_of_ble_eq_true rfl)) (ok_int (l9 := [xs (i + 1).toNatClampNeg, xs (i + 2).toNatClampNeg]) (Or.inl hM1.2.2.2.2)) (fun _ h => nomatch h) hM1 hM2 hX9 hS hl.1 hO1 hc1 hc2 (fun ρ3 H3 locs3 hρ3 hN1 hN2 hX3 hS3 => ?_)
  have hl3 : lv_has ls 4 [(0, .ref b), (1, .ref (ρ3 0)), (2, .ref (ρ2 0)), (3, .int i)] := by rw [hρ3 0 (Or.inl hM1.2.2.2.2)]; exact hl
  refine lv_aload_n hx hb dL_law_931 rfl (lv_at hl3 2 rfl) ?_
  refine lw_ld (pc := 932) C0 hS3 hl3 rfl (show Int32.ofInt 1 = 1 from by decide) n1 dL_law_932 dL_law_933 dL_law_934 dL_law_935 dL_law_936 ?_
  refine lw_ld (pc := 937) C0 hS3 hl3 rfl (show Int32.ofInt 2 = 2 from by decide) n2 dL_law_937 dL_law_938 dL_law_939 dL_law_940 dL_law_941 ?_
  refine lw_call2 (pc := 942) (st := [.int (xs (i + 2).toNatClampNeg), .int (xs (i + 1).toNatClampNeg), va_rf (some 0), .int a1]) (st' := [.int a1]) hfl C0 hB (Mo_kicked_fn 0 (xs (i + 1).toNatClampNeg) (xs (i + 2).toNatClampNeg) S2 d2) h2 (JC_V (n := 2) (lw_G hfl C0 hB) lw_Rm cl_X10 q2204 q2205 q2206 q152 q2207 ⟨rfl, dd_X10_kicked⟩ ⟨by decide, by decide⟩ dL_law_942 z2 rfl (Nat.le_of_ble_eq_true rfl)) (ok_int (l9 := [xs (i + 1).toNatClampNeg, xs (i + 2).toNatClampNeg]) (Or.inl hN2.2.2.2.2)) (fun x hx9 => by rw [List.mem_singleton.mp hx9]; exact okV_int) hN1 hN2 hX3 hS3 hl3.1 hO2 hd1 hd2 (fun ρ4 H4 locs4 hρ4 hP1 hP2 hX4 hS4 => ?_)
  have hl4 : lv_has ls 4 [(0, .ref b), (1, .ref (ρ3 0)), (2, .ref (ρ4 0)), (3, .int i)] := by rw [hρ4 0 (Or.inl hN2.2.2.2.2)]; exact hl3
  exact lv_icmp_eq (tgt := 1834) hx hb dL_law_945 (by decide) (fun _ => next ρ3 ρ4 H4 locs4 ls hP1 hP2 hX4 hS4 hl4) (fun h => absurd rfl h)
set_option maxHeartbeats 4000000 in
theorem lc_24 {L : Nat} {xs : Nat → Int32} (hfl : l.flags = flags0) (C0 : lw_At p s m meth c b L xs) (hB : LB dC dI dA oa s) {S1 S2 : Sp} {d1 d2 : Dt} {i : Int32} (n1 : vp_in (i + 1) L) (n2 : vp_in (i + 2) L) (z1 : isK S1 0 (some 0) = some 0) (z2 : isK S2 9 (some 0) = some 0) {a1 : Int32} {SS1 : Sp} {dd1 : Dt} {dd2 : Dt} (h1 : Ws_gap 0 (xs (i + 1).toNatClampNeg) (xs (i + 2).toNatClampNeg) S1 d1 = some (a1, SS1, dd1)) (h2 : Mo_gap 0 (xs (i + 1).toNatClampNeg) (xs (i + 2).toNatClampNeg) S2 d2 = some (a1, dd2)) (hO1 : SS1.1.length ≤ OPQ) (hc1 : SS1.2.2.1 + S2.2.2.1 ≤ 1136687) (hc2 : SS1.2.2.2 + S2.2.2.2 ≤ 5675420) (hO2 : S2.1.length ≤ OPQ) (hd1 : SS1.2.2.1 + S2.2.2.1 ≤ 1136687) (hd2 : SS1.2.2.2 + S2.2.2.2 ≤ 5675420) (next : LW p l e s m below meth c Q dC dI dA oa b SS1 dd1 S2 dd2 i 1834) : LW p l e s m below meth c Q dC dI dA oa b S1 d1 S2 d2 i 950 := by
  intro ρ1 ρ2 H locs ls hM1 hM2 hX9 hS hl
  have hx := C0.1
  have hb := C0.2.1
  refine lv_aload_n hx hb dL_law_950 rfl (lv_at hl 1 rfl) ?_
  refine lw_ld (pc := 951) C0 hS hl rfl (show Int32.ofInt 1 = 1 from by decide) n1 dL_law_951 dL_law_952 dL_law_953 dL_law_954 dL_law_955 ?_
  refine lw_ld (pc := 956) C0 hS hl rfl (show Int32.ofInt 2 = 2 from by decide) n2 dL_law_956 dL_law_957 dL_law_958 dL_law_959 dL_law_960 ?_
  refine lw_call (pc := 961) (st := [.int (xs (i + 2).toNatClampNeg), .int (xs (i + 1).toNatClampNeg), va_rf (some 0)]) (st' := []) hfl C0 hB (Ws_gap_fn 0 (xs (i + 1).toNatClampNeg) (xs (i + 2).toNatClampNeg) S1 d1) h1 (JC_V (n := 2) (lw_G hfl C0 hB) lw_Rm cl_X0 q1328 q1329 q1330 q137 q1331 ⟨rfl, dd_X0_gap⟩ ⟨by decide, by decide⟩ dL_law_961 z1 rfl (Nat.le_of_ble_eq_true rfl)) (ok_int (l9 := [xs (i + 1).toNatClampNeg, xs (i + 2).toNatClampNeg]) (Or.inl hM1.2.2.2.2)) (fun _ h => nomatch h) hM1 hM2 hX9 hS hl.1 hO1 hc1 hc2 (fun ρ3 H3 locs3 hρ3 hN1 hN2 hX3 hS3 => ?_)
  have hl3 : lv_has ls 4 [(0, .ref b), (1, .ref (ρ3 0)), (2, .ref (ρ2 0)), (3, .int i)] := by rw [hρ3 0 (Or.inl hM1.2.2.2.2)]; exact hl
  refine lv_aload_n hx hb dL_law_964 rfl (lv_at hl3 2 rfl) ?_
  refine lw_ld (pc := 965) C0 hS3 hl3 rfl (show Int32.ofInt 1 = 1 from by decide) n1 dL_law_965 dL_law_966 dL_law_967 dL_law_968 dL_law_969 ?_
  refine lw_ld (pc := 970) C0 hS3 hl3 rfl (show Int32.ofInt 2 = 2 from by decide) n2 dL_law_970 dL_law_971 dL_law_972 dL_law_973 dL_law_974 ?_
  refine lw_call2 (pc := 975) (st := [.int (xs (i + 2).toNatClampNeg), .int (xs (i + 1).toNatClampNeg), va_rf (some 0), .int a1]) (st' := [.int a1]) hfl C0 hB (Mo_gap_fn 0 (xs (i + 1).toNatClampNeg) (xs (i + 2).toNatClampNeg) S2 d2) h2 (JC_V (n := 2) (lw_G hfl C0 hB) lw_Rm cl_X10 q2208 q2209 q2210 q152 q2211 ⟨rfl, dd_X10_gap⟩ ⟨by decide, by decide⟩ dL_law_975 z2 rfl (Nat.le_of_ble_eq_true rfl)) (ok_int (l9 := [xs (i + 1).toNatClampNeg, xs (i + 2).toNatClampNeg]) (Or.inl hN2.2.2.2.2)) (fun x hx9 => by rw [List.mem_singleton.mp hx9]; exact okV_int) hN1 hN2 hX3 hS3 hl3.1 hO2 hd1 hd2 (fun ρ4 H4 locs4 hρ4 hP1 hP2 hX4 hS4 => ?_)
  have hl4 : lv_has ls 4 [(0, .ref b), (1, .ref (ρ3 0)), (2, .ref (ρ4 0)), (3, .int i)] := by rw [hρ4 0 (Or.inl hN2.2.2.2.2)]; exact hl3
  exact lv_icmp_eq (tgt := 1834) hx hb dL_law_978 (by decide) (fun _ => next ρ3 ρ4 H4 locs4 ls hP1 hP2 hX4 hS4 hl4) (fun h => absurd rfl h)
set_option maxHeartbeats 4000000 in
theorem lc_25 {L : Nat} {xs : Nat → Int32} (hfl : l.flags = flags0) (C0 : lw_At p s m meth c b L xs) (hB : LB dC dI dA oa s) {S1 S2 : Sp} {d1 d2 : Dt} {i : Int32} (n1 : vp_in (i + 1) L) (n2 : vp_in (i + 2) L) (z1 : isK S1 0 (some 0) = some 0) (z2 : isK S2 9 (some 0) = some 0) {a1 : Int32} {SS1 : Sp} {dd1 : Dt} {dd2 : Dt} (h1 : Ws_jobs 0 (xs (i + 1).toNatClampNeg) (xs (i + 2).toNatClampNeg) S1 d1 = some (a1, SS1, dd1)) (h2 : Mo_jobs 0 (xs (i + 1).toNatClampNeg) (xs (i + 2).toNatClampNeg) S2 d2 = some (a1, dd2)) (hO1 : SS1.1.length ≤ OPQ) (hc1 : SS1.2.2.1 + S2.2.2.1 ≤ 1136687) (hc2 : SS1.2.2.2 + S2.2.2.2 ≤ 5675420) (hO2 : S2.1.length ≤ OPQ) (hd1 : SS1.2.2.1 + S2.2.2.1 ≤ 1136687) (hd2 : SS1.2.2.2 + S2.2.2.2 ≤ 5675420) (next : LW p l e s m below meth c Q dC dI dA oa b SS1 dd1 S2 dd2 i 1834) : LW p l e s m below meth c Q dC dI dA oa b S1 d1 S2 d2 i 983 := by
  intro ρ1 ρ2 H locs ls hM1 hM2 hX9 hS hl
  have hx := C0.1
  have hb := C0.2.1
  refine lv_aload_n hx hb dL_law_983 rfl (lv_at hl 1 rfl) ?_
  refine lw_ld (pc := 984) C0 hS hl rfl (show Int32.ofInt 1 = 1 from by decide) n1 dL_law_984 dL_law_985 dL_law_986 dL_law_987 dL_law_988 ?_
  refine lw_ld (pc := 989) C0 hS hl rfl (show Int32.ofInt 2 = 2 from by decide) n2 dL_law_989 dL_law_990 dL_law_991 dL_law_992 dL_law_993 ?_
  refine lw_call (pc := 994) (st := [.int (xs (i + 2).toNatClampNeg), .int (xs (i + 1).toNatClampNeg), va_rf (some 0)]) (st' := []) hfl C0 hB (Ws_jobs_fn 0 (xs (i + 1).toNatClampNeg) (xs (i + 2).toNatClampNeg) S1 d1) h1 (JC_V (n := 2) (lw_G hfl C0 hB) lw_Rm cl_X0 q1320 q1321 q1322 q137 q1323 ⟨rfl, dd_X0_jobs⟩ ⟨by decide, by decide⟩ dL_law_994 z1 rfl (Nat.le_of_ble_eq_true rfl)) (ok_int (l9 := [xs (i + 1).toNatClampNeg, xs (i + 2).toNatClampNeg]) (Or.inl hM1.2.2.2.2)) (fun _ h => nomatch h) hM1 hM2 hX9 hS hl.1 hO1 hc1 hc2 (fun ρ3 H3 locs3 hρ3 hN1 hN2 hX3 hS3 => ?_)
  have hl3 : lv_has ls 4 [(0, .ref b), (1, .ref (ρ3 0)), (2, .ref (ρ2 0)), (3, .int i)] := by rw [hρ3 0 (Or.inl hM1.2.2.2.2)]; exact hl
  refine lv_aload_n hx hb dL_law_997 rfl (lv_at hl3 2 rfl) ?_
  refine lw_ld (pc := 998) C0 hS3 hl3 rfl (show Int32.ofInt 1 = 1 from by decide) n1 dL_law_998 dL_law_999 dL_law_1000 dL_law_1001 dL_law_1002 ?_
  refine lw_ld (pc := 1003) C0 hS3 hl3 rfl (show Int32.ofInt 2 = 2 from by decide) n2 dL_law_1003 dL_law_1004 dL_law_1005 dL_law_1006 dL_law_1007 ?_
  refine lw_call2 (pc := 1008) (st := [.int (xs (i + 2).toNatClampNeg), .int (xs (i + 1).toNatClampNeg), va_rf (some 0), .int a1]) (st' := [.int a1]) hfl C0 hB (Mo_jobs_fn 0 (xs (i + 1).toNatClampNeg) (xs (i + 2).toNatClampNeg) S2 d2) h2 (JC_V (n := 2) (lw_G hfl C0 hB) lw_Rm cl_X10 q2212 q2213 q2214 q152 q2215 ⟨rfl, dd_X10_jobs⟩ ⟨by decide, by decide⟩ dL_law_1008 z2 rfl (Nat.le_of_ble_eq_true rfl)) (ok_int (l9 := [xs (i + 1).toNatClampNeg, xs (i + 2).toNatClampNeg]) (Or.inl hN2.2.2.2.2)) (fun x hx9 => by rw [List.mem_singleton.mp hx9]; exact okV_int) hN1 hN2 hX3 hS3 hl3.1 hO2 hd1 hd2 (fun ρ4 H4 locs4 hρ4 hP1 hP2 hX4 hS4 => ?_)
  have hl4 : lv_has ls 4 [(0, .ref b), (1, .ref (ρ3 0)), (2, .ref (ρ4 0)), (3, .int i)] := by rw [hρ4 0 (Or.inl hN2.2.2.2.2)]; exact hl3
  exact lv_icmp_eq (tgt := 1834) hx hb dL_law_1011 (by decide) (fun _ => next ρ3 ρ4 H4 locs4 ls hP1 hP2 hX4 hS4 hl4) (fun h => absurd rfl h)
set_option maxHeartbeats 4000000 in
theorem lc_26 {L : Nat} {xs : Nat → Int32} (hfl : l.flags = flags0) (C0 : lw_At p s m meth c b L xs) (hB : LB dC dI dA oa s) {S1 S2 : Sp} {d1 d2 : Dt} {i : Int32} (n1 : vp_in (i + 1) L) (n2 : vp_in (i + 2) L) (z1 : isK S1 0 (some 0) = some 0) (z2 : isK S2 9 (some 0) = some 0) {a1 : Int32} {SS1 : Sp} {dd1 : Dt} {dd2 : Dt} (h1 : Ws_at_2 0 (xs (i + 1).toNatClampNeg) (xs (i + 2).toNatClampNeg) S1 d1 = some (a1, SS1, dd1)) (h2 : Mo_at 0 (xs (i + 1).toNatClampNeg) (xs (i + 2).toNatClampNeg) S2 d2 = some (a1, dd2)) (hO1 : SS1.1.length ≤ OPQ) (hc1 : SS1.2.2.1 + S2.2.2.1 ≤ 1136687) (hc2 : SS1.2.2.2 + S2.2.2.2 ≤ 5675420) (hO2 : S2.1.length ≤ OPQ) (hd1 : SS1.2.2.1 + S2.2.2.1 ≤ 1136687) (hd2 : SS1.2.2.2 + S2.2.2.2 ≤ 5675420) (next : LW p l e s m below meth c Q dC dI dA oa b SS1 dd1 S2 dd2 i 1834) : LW p l e s m below meth c Q dC dI dA oa b S1 d1 S2 d2 i 1016 := by
  intro ρ1 ρ2 H locs ls hM1 hM2 hX9 hS hl
  have hx := C0.1
  have hb := C0.2.1
  refine lv_aload_n hx hb dL_law_1016 rfl (lv_at hl 1 rfl) ?_
  refine lw_ld (pc := 1017) C0 hS hl rfl (show Int32.ofInt 1 = 1 from by decide) n1 dL_law_1017 dL_law_1018 dL_law_1019 dL_law_1020 dL_law_1021 ?_
  refine lw_ld (pc := 1022) C0 hS hl rfl (show Int32.ofInt 2 = 2 from by decide) n2 dL_law_1022 dL_law_1023 dL_law_1024 dL_law_1025 dL_law_1026 ?_
  refine lw_call (pc := 1027) (st := [.int (xs (i + 2).toNatClampNeg), .int (xs (i + 1).toNatClampNeg), va_rf (some 0)]) (st' := []) hfl C0 hB (Ws_at_2_fn 0 (xs (i + 1).toNatClampNeg) (xs (i + 2).toNatClampNeg) S1 d1) h1 (JC_V (n := 2) (lw_G hfl C0 hB) lw_Rm cl_X0 q1324 q1325 q1326 q137 q1327 ⟨rfl, dd_X0_at_2⟩ ⟨by decide, by decide⟩ dL_law_1027 z1 rfl (Nat.le_of_ble_eq_true rfl)) (ok_int (l9 := [xs (i + 1).toNatClampNeg, xs (i + 2).toNatClampNeg]) (Or.inl hM1.2.2.2.2)) (fun _ h => nomatch h) hM1 hM2 hX9 hS hl.1 hO1 hc1 hc2 (fun ρ3 H3 locs3 hρ3 hN1 hN2 hX3 hS3 => ?_)
  have hl3 : lv_has ls 4 [(0, .ref b), (1, .ref (ρ3 0)), (2, .ref (ρ2 0)), (3, .int i)] := by rw [hρ3 0 (Or.inl hM1.2.2.2.2)]; exact hl
  refine lv_aload_n hx hb dL_law_1030 rfl (lv_at hl3 2 rfl) ?_
  refine lw_ld (pc := 1031) C0 hS3 hl3 rfl (show Int32.ofInt 1 = 1 from by decide) n1 dL_law_1031 dL_law_1032 dL_law_1033 dL_law_1034 dL_law_1035 ?_
  refine lw_ld (pc := 1036) C0 hS3 hl3 rfl (show Int32.ofInt 2 = 2 from by decide) n2 dL_law_1036 dL_law_1037 dL_law_1038 dL_law_1039 dL_law_1040 ?_
  refine lw_call2 (pc := 1041) (st := [.int (xs (i + 2).toNatClampNeg), .int (xs (i + 1).toNatClampNeg), va_rf (some 0), .int a1]) (st' := [.int a1]) hfl C0 hB (Mo_at_fn 0 (xs (i + 1).toNatClampNeg) (xs (i + 2).toNatClampNeg) S2 d2) h2 (JC_V (n := 2) (lw_G hfl C0 hB) lw_Rm cl_X10 q2216 q2217 q2218 q152 q2219 ⟨rfl, dd_X10_at⟩ ⟨by decide, by decide⟩ dL_law_1041 z2 rfl (Nat.le_of_ble_eq_true rfl)) (ok_int (l9 := [xs (i + 1).toNatClampNeg, xs (i + 2).toNatClampNeg]) (Or.inl hN2.2.2.2.2)) (fun x hx9 => by rw [List.mem_singleton.mp hx9]; exact okV_int) hN1 hN2 hX3 hS3 hl3.1 hO2 hd1 hd2 (fun ρ4 H4 locs4 hρ4 hP1 hP2 hX4 hS4 => ?_)
  have hl4 : lv_has ls 4 [(0, .ref b), (1, .ref (ρ3 0)), (2, .ref (ρ4 0)), (3, .int i)] := by rw [hρ4 0 (Or.inl hN2.2.2.2.2)]; exact hl3
  exact lv_icmp_eq (tgt := 1834) hx hb dL_law_1044 (by decide) (fun _ => next ρ3 ρ4 H4 locs4 ls hP1 hP2 hX4 hS4 hl4) (fun h => absurd rfl h)
set_option maxHeartbeats 4000000 in
theorem lc_27 {L : Nat} {xs : Nat → Int32} (hfl : l.flags = flags0) (C0 : lw_At p s m meth c b L xs) (hB : LB dC dI dA oa s) {S1 S2 : Sp} {d1 d2 : Dt} {i : Int32} (n1 : vp_in (i + 1) L) (n2 : vp_in (i + 2) L) (z1 : isK S1 0 (some 0) = some 0) (z2 : isK S2 9 (some 0) = some 0) {a1 : Int32} {SS1 : Sp} {dd1 : Dt} {dd2 : Dt} (h1 : Ws_question 0 (xs (i + 1).toNatClampNeg) (xs (i + 2).toNatClampNeg) S1 d1 = some (a1, SS1, dd1)) (h2 : Mo_question 0 (xs (i + 1).toNatClampNeg) (xs (i + 2).toNatClampNeg) S2 d2 = some (a1, dd2)) (hO1 : SS1.1.length ≤ OPQ) (hc1 : SS1.2.2.1 + S2.2.2.1 ≤ 1136687) (hc2 : SS1.2.2.2 + S2.2.2.2 ≤ 5675420) (hO2 : S2.1.length ≤ OPQ) (hd1 : SS1.2.2.1 + S2.2.2.1 ≤ 1136687) (hd2 : SS1.2.2.2 + S2.2.2.2 ≤ 5675420) (next : LW p l e s m below meth c Q dC dI dA oa b SS1 dd1 S2 dd2 i 1834) : LW p l e s m below meth c Q dC dI dA oa b S1 d1 S2 d2 i 1049 := by
  intro ρ1 ρ2 H locs ls hM1 hM2 hX9 hS hl
  have hx := C0.1
  have hb := C0.2.1
  refine lv_aload_n hx hb dL_law_1049 rfl (lv_at hl 1 rfl) ?_
  refine lw_ld (pc := 1050) C0 hS hl rfl (show Int32.ofInt 1 = 1 from by decide) n1 dL_law_1050 dL_law_1051 dL_law_1052 dL_law_1053 dL_law_1054 ?_
  refine lw_ld (pc := 1055) C0 hS hl rfl (show Int32.ofInt 2 = 2 from by decide) n2 dL_law_1055 dL_law_1056 dL_law_1057 dL_law_1058 dL_law_1059 ?_
  refine lw_call (pc := 1060) (st := [.int (xs (i + 2).toNatClampNeg), .int (xs (i + 1).toNatClampNeg), va_rf (some 0)]) (st' := []) hfl C0 hB (Ws_question_fn 0 (xs (i + 1).toNatClampNeg) (xs (i + 2).toNatClampNeg) S1 d1) h1 (JC_V (n := 2) (lw_G hfl C0 hB) lw_Rm cl_X0 q1336 q1337 q1338 q137 q1339 ⟨rfl, dd_X0_question⟩ ⟨by decide, by decide⟩ dL_law_1060 z1 rfl (Nat.le_of_ble_eq_true rfl)) (ok_int (l9 := [xs (i + 1).toNatClampNeg, xs (i + 2).toNatClampNeg]) (Or.inl hM1.2.2.2.2)) (fun _ h => nomatch h) hM1 hM2 hX9 hS hl.1 hO1 hc1 hc2 (fun ρ3 H3 locs3 hρ3 hN1 hN2 hX3 hS3 => ?_)
  have hl3 : lv_has ls 4 [(0, .ref b), (1, .ref (ρ3 0)), (2, .ref (ρ2 0)), (3, .int i)] := by rw [hρ3 0 (Or.inl hM1.2.2.2.2)]; exact hl
  refine lv_aload_n hx hb dL_law_1063 rfl (lv_at hl3 2 rfl) ?_
  refine lw_ld (pc := 1064) C0 hS3 hl3 rfl (show Int32.ofInt 1 = 1 from by decide) n1 dL_law_1064 dL_law_1065 dL_law_1066 dL_law_1067 dL_law_1068 ?_
  refine lw_ld (pc := 1069) C0 hS3 hl3 rfl (show Int32.ofInt 2 = 2 from by decide) n2 dL_law_1069 dL_law_1070 dL_law_1071 dL_law_1072 dL_law_1073 ?_
  refine lw_call2 (pc := 1074) (st := [.int (xs (i + 2).toNatClampNeg), .int (xs (i + 1).toNatClampNeg), va_rf (some 0), .int a1]) (st' := [.int a1]) hfl C0 hB (Mo_question_fn 0 (xs (i + 1).toNatClampNeg) (xs (i + 2).toNatClampNeg) S2 d2) h2 (JC_V (n := 2) (lw_G hfl C0 hB) lw_Rm cl_X10 q2220 q2221 q2222 q152 q2223 ⟨rfl, dd_X10_question⟩ ⟨by decide, by decide⟩ dL_law_1074 z2 rfl (Nat.le_of_ble_eq_true rfl)) (ok_int (l9 := [xs (i + 1).toNatClampNeg, xs (i + 2).toNatClampNeg]) (Or.inl hN2.2.2.2.2)) (fun x hx9 => by rw [List.mem_singleton.mp hx9]; exact okV_int) hN1 hN2 hX3 hS3 hl3.1 hO2 hd1 hd2 (fun ρ4 H4 locs4 hρ4 hP1 hP2 hX4 hS4 => ?_)
  have hl4 : lv_has ls 4 [(0, .ref b), (1, .ref (ρ3 0)), (2, .ref (ρ4 0)), (3, .int i)] := by rw [hρ4 0 (Or.inl hN2.2.2.2.2)]; exact hl3
  exact lv_icmp_eq (tgt := 1834) hx hb dL_law_1077 (by decide) (fun _ => next ρ3 ρ4 H4 locs4 ls hP1 hP2 hX4 hS4 hl4) (fun h => absurd rfl h)
set_option maxHeartbeats 4000000 in
theorem lc_28 {L : Nat} {xs : Nat → Int32} (hfl : l.flags = flags0) (C0 : lw_At p s m meth c b L xs) (hB : LB dC dI dA oa s) {S1 S2 : Sp} {d1 d2 : Dt} {i : Int32} (n1 : vp_in (i + 1) L) (n2 : vp_in (i + 2) L) (z1 : isK S1 0 (some 0) = some 0) (z2 : isK S2 9 (some 0) = some 0) {a1 : Int32} {SS1 : Sp} {dd1 : Dt} {dd2 : Dt} (h1 : Ws_start 0 (xs (i + 1).toNatClampNeg) (xs (i + 2).toNatClampNeg) S1 d1 = some (a1, SS1, dd1)) (h2 : Mo_start 0 (xs (i + 1).toNatClampNeg) (xs (i + 2).toNatClampNeg) S2 d2 = some (a1, dd2)) (hO1 : SS1.1.length ≤ OPQ) (hc1 : SS1.2.2.1 + S2.2.2.1 ≤ 1136687) (hc2 : SS1.2.2.2 + S2.2.2.2 ≤ 5675420) (hO2 : S2.1.length ≤ OPQ) (hd1 : SS1.2.2.1 + S2.2.2.1 ≤ 1136687) (hd2 : SS1.2.2.2 + S2.2.2.2 ≤ 5675420) (next : LW p l e s m below meth c Q dC dI dA oa b SS1 dd1 S2 dd2 i 1834) : LW p l e s m below meth c Q dC dI dA oa b S1 d1 S2 d2 i 1082 := by
  intro ρ1 ρ2 H locs ls hM1 hM2 hX9 hS hl
  have hx := C0.1
  have hb := C0.2.1
  refine lv_aload_n hx hb dL_law_1082 rfl (lv_at hl 1 rfl) ?_
  refine lw_ld (pc := 1083) C0 hS hl rfl (show Int32.ofInt 1 = 1 from by decide) n1 dL_law_1083 dL_law_1084 dL_law_1085 dL_law_1086 dL_law_1087 ?_
  refine lw_ld (pc := 1088) C0 hS hl rfl (show Int32.ofInt 2 = 2 from by decide) n2 dL_law_1088 dL_law_1089 dL_law_1090 dL_law_1091 dL_law_1092 ?_
  refine lw_call (pc := 1093) (st := [.int (xs (i + 2).toNatClampNeg), .int (xs (i + 1).toNatClampNeg), va_rf (some 0)]) (st' := []) hfl C0 hB (Ws_start_fn 0 (xs (i + 1).toNatClampNeg) (xs (i + 2).toNatClampNeg) S1 d1) h1 (JC_V (n := 2) (lw_G hfl C0 hB) lw_Rm cl_X0 q1340 q1341 q1342 q137 q1343 ⟨rfl, dd_X0_start⟩ ⟨by decide, by decide⟩ dL_law_1093 z1 rfl (Nat.le_of_ble_eq_true rfl)) (ok_int (l9 := [xs (i + 1).toNatClampNeg, xs (i + 2).toNatClampNeg]) (Or.inl hM1.2.2.2.2)) (fun _ h => nomatch h) hM1 hM2 hX9 hS hl.1 hO1 hc1 hc2 (fun ρ3 H3 locs3 hρ3 hN1 hN2 hX3 hS3 => ?_)
  have hl3 : lv_has ls 4 [(0, .ref b), (1, .ref (ρ3 0)), (2, .ref (ρ2 0)), (3, .int i)] := by rw [hρ3 0 (Or.inl hM1.2.2.2.2)]; exact hl
  refine lv_aload_n hx hb dL_law_1096 rfl (lv_at hl3 2 rfl) ?_
  refine lw_ld (pc := 1097) C0 hS3 hl3 rfl (show Int32.ofInt 1 = 1 from by decide) n1 dL_law_1097 dL_law_1098 dL_law_1099 dL_law_1100 dL_law_1101 ?_
  refine lw_ld (pc := 1102) C0 hS3 hl3 rfl (show Int32.ofInt 2 = 2 from by decide) n2 dL_law_1102 dL_law_1103 dL_law_1104 dL_law_1105 dL_law_1106 ?_
  refine lw_call2 (pc := 1107) (st := [.int (xs (i + 2).toNatClampNeg), .int (xs (i + 1).toNatClampNeg), va_rf (some 0), .int a1]) (st' := [.int a1]) hfl C0 hB (Mo_start_fn 0 (xs (i + 1).toNatClampNeg) (xs (i + 2).toNatClampNeg) S2 d2) h2 (JC_V (n := 2) (lw_G hfl C0 hB) lw_Rm cl_X10 q2224 q2225 q2226 q152 q2227 ⟨rfl, dd_X10_start⟩ ⟨by decide, by decide⟩ dL_law_1107 z2 rfl (Nat.le_of_ble_eq_true rfl)) (ok_int (l9 := [xs (i + 1).toNatClampNeg, xs (i + 2).toNatClampNeg]) (Or.inl hN2.2.2.2.2)) (fun x hx9 => by rw [List.mem_singleton.mp hx9]; exact okV_int) hN1 hN2 hX3 hS3 hl3.1 hO2 hd1 hd2 (fun ρ4 H4 locs4 hρ4 hP1 hP2 hX4 hS4 => ?_)
  have hl4 : lv_has ls 4 [(0, .ref b), (1, .ref (ρ3 0)), (2, .ref (ρ4 0)), (3, .int i)] := by rw [hρ4 0 (Or.inl hN2.2.2.2.2)]; exact hl3
  exact lv_icmp_eq (tgt := 1834) hx hb dL_law_1110 (by decide) (fun _ => next ρ3 ρ4 H4 locs4 ls hP1 hP2 hX4 hS4 hl4) (fun h => absurd rfl h)
set_option maxHeartbeats 4000000 in
theorem lc_29 {L : Nat} {xs : Nat → Int32} (hfl : l.flags = flags0) (C0 : lw_At p s m meth c b L xs) (hB : LB dC dI dA oa s) {S1 S2 : Sp} {d1 d2 : Dt} {i : Int32} (n1 : vp_in (i + 1) L) (n2 : vp_in (i + 2) L) (z1 : isK S1 0 (some 0) = some 0) (z2 : isK S2 9 (some 0) = some 0) {a1 : Int32} {SS1 : Sp} {dd1 : Dt} {dd2 : Dt} (h1 : Ws_memory 0 (xs (i + 1).toNatClampNeg) (xs (i + 2).toNatClampNeg) S1 d1 = some (a1, SS1, dd1)) (h2 : Mo_memory 0 (xs (i + 1).toNatClampNeg) (xs (i + 2).toNatClampNeg) S2 d2 = some (a1, dd2)) (hO1 : SS1.1.length ≤ OPQ) (hc1 : SS1.2.2.1 + S2.2.2.1 ≤ 1136687) (hc2 : SS1.2.2.2 + S2.2.2.2 ≤ 5675420) (hO2 : S2.1.length ≤ OPQ) (hd1 : SS1.2.2.1 + S2.2.2.1 ≤ 1136687) (hd2 : SS1.2.2.2 + S2.2.2.2 ≤ 5675420) (next : LW p l e s m below meth c Q dC dI dA oa b SS1 dd1 S2 dd2 i 1834) : LW p l e s m below meth c Q dC dI dA oa b S1 d1 S2 d2 i 1115 := by
  intro ρ1 ρ2 H locs ls hM1 hM2 hX9 hS hl
  have hx := C0.1
  have hb := C0.2.1
  refine lv_aload_n hx hb dL_law_1115 rfl (lv_at hl 1 rfl) ?_
  refine lw_ld (pc := 1116) C0 hS hl rfl (show Int32.ofInt 1 = 1 from by decide) n1 dL_law_1116 dL_law_1117 dL_law_1118 dL_law_1119 dL_law_1120 ?_
  refine lw_ld (pc := 1121) C0 hS hl rfl (show Int32.ofInt 2 = 2 from by decide) n2 dL_law_1121 dL_law_1122 dL_law_1123 dL_law_1124 dL_law_1125 ?_
  refine lw_call (pc := 1126) (st := [.int (xs (i + 2).toNatClampNeg), .int (xs (i + 1).toNatClampNeg), va_rf (some 0)]) (st' := []) hfl C0 hB (Ws_memory_fn 0 (xs (i + 1).toNatClampNeg) (xs (i + 2).toNatClampNeg) S1 d1) h1 (JC_V (n := 2) (lw_G hfl C0 hB) lw_Rm cl_X0 q1344 q1345 q1346 q137 q1347 ⟨rfl, dd_X0_memory⟩ ⟨by decide, by decide⟩ dL_law_1126 z1 rfl (Nat.le_of_ble_eq_true rfl)) (ok_int (l9 := [xs (i + 1).toNatClampNeg, xs (i + 2).toNatClampNeg]) (Or.inl hM1.2.2.2.2)) (fun _ h => nomatch h) hM1 hM2 hX9 hS hl.1 hO1 hc1 hc2 (fun ρ3 H3 locs3 hρ3 hN1 hN2 hX3 hS3 => ?_)
  have hl3 : lv_has ls 4 [(0, .ref b), (1, .ref (ρ3 0)), (2, .ref (ρ2 0)), (3, .int i)] := by rw [hρ3 0 (Or.inl hM1.2.2.2.2)]; exact hl
  refine lv_aload_n hx hb dL_law_1129 rfl (lv_at hl3 2 rfl) ?_
  refine lw_ld (pc := 1130) C0 hS3 hl3 rfl (show Int32.ofInt 1 = 1 from by decide) n1 dL_law_1130 dL_law_1131 dL_law_1132 dL_law_1133 dL_law_1134 ?_
  refine lw_ld (pc := 1135) C0 hS3 hl3 rfl (show Int32.ofInt 2 = 2 from by decide) n2 dL_law_1135 dL_law_1136 dL_law_1137 dL_law_1138 dL_law_1139 ?_
  refine lw_call2 (pc := 1140) (st := [.int (xs (i + 2).toNatClampNeg), .int (xs (i + 1).toNatClampNeg), va_rf (some 0), .int a1]) (st' := [.int a1]) hfl C0 hB (Mo_memory_fn 0 (xs (i + 1).toNatClampNeg) (xs (i + 2).toNatClampNeg) S2 d2) h2 (JC_V (n := 2) (lw_G hfl C0 hB) lw_Rm cl_X10 q2228 q2229 q2230 q152 q2231 ⟨rfl, dd_X10_memory⟩ ⟨by decide, by decide⟩ dL_law_1140 z2 rfl (Nat.le_of_ble_eq_true rfl)) (ok_int (l9 := [xs (i + 1).toNatClampNeg, xs (i + 2).toNatClampNeg]) (Or.inl hN2.2.2.2.2)) (fun x hx9 => by rw [List.mem_singleton.mp hx9]; exact okV_int) hN1 hN2 hX3 hS3 hl3.1 hO2 hd1 hd2 (fun ρ4 H4 locs4 hρ4 hP1 hP2 hX4 hS4 => ?_)
  have hl4 : lv_has ls 4 [(0, .ref b), (1, .ref (ρ3 0)), (2, .ref (ρ4 0)), (3, .int i)] := by rw [hρ4 0 (Or.inl hN2.2.2.2.2)]; exact hl3
  exact lv_icmp_eq (tgt := 1834) hx hb dL_law_1143 (by decide) (fun _ => next ρ3 ρ4 H4 locs4 ls hP1 hP2 hX4 hS4 hl4) (fun h => absurd rfl h)
set_option maxHeartbeats 4000000 in
theorem lc_30 {L : Nat} {xs : Nat → Int32} (hfl : l.flags = flags0) (C0 : lw_At p s m meth c b L xs) (hB : LB dC dI dA oa s) {S1 S2 : Sp} {d1 d2 : Dt} {i : Int32} (n1 : vp_in (i + 1) L) (n2 : vp_in (i + 2) L) (z1 : isK S1 0 (some 0) = some 0) (z2 : isK S2 9 (some 0) = some 0) {a1 : Int32} {SS1 : Sp} {dd1 : Dt} {dd2 : Dt} (h1 : Ws_health 0 (xs (i + 1).toNatClampNeg) (xs (i + 2).toNatClampNeg) S1 d1 = some (a1, SS1, dd1)) (h2 : Mo_health 0 (xs (i + 1).toNatClampNeg) (xs (i + 2).toNatClampNeg) S2 d2 = some (a1, dd2)) (hO1 : SS1.1.length ≤ OPQ) (hc1 : SS1.2.2.1 + S2.2.2.1 ≤ 1136687) (hc2 : SS1.2.2.2 + S2.2.2.2 ≤ 5675420) (hO2 : S2.1.length ≤ OPQ) (hd1 : SS1.2.2.1 + S2.2.2.1 ≤ 1136687) (hd2 : SS1.2.2.2 + S2.2.2.2 ≤ 5675420) (next : LW p l e s m below meth c Q dC dI dA oa b SS1 dd1 S2 dd2 i 1834) : LW p l e s m below meth c Q dC dI dA oa b S1 d1 S2 d2 i 1148 := by
  intro ρ1 ρ2 H locs ls hM1 hM2 hX9 hS hl
  have hx := C0.1
  have hb := C0.2.1
  refine lv_aload_n hx hb dL_law_1148 rfl (lv_at hl 1 rfl) ?_
  refine lw_ld (pc := 1149) C0 hS hl rfl (show Int32.ofInt 1 = 1 from by decide) n1 dL_law_1149 dL_law_1150 dL_law_1151 dL_law_1152 dL_law_1153 ?_
  refine lw_ld (pc := 1154) C0 hS hl rfl (show Int32.ofInt 2 = 2 from by decide) n2 dL_law_1154 dL_law_1155 dL_law_1156 dL_law_1157 dL_law_1158 ?_
  refine lw_call (pc := 1159) (st := [.int (xs (i + 2).toNatClampNeg), .int (xs (i + 1).toNatClampNeg), va_rf (some 0)]) (st' := []) hfl C0 hB (Ws_health_fn 0 (xs (i + 1).toNatClampNeg) (xs (i + 2).toNatClampNeg) S1 d1) h1 (JC_V (n := 2) (lw_G hfl C0 hB) lw_Rm cl_X0 q1348 q1349 q1350 q137 q1351 ⟨rfl, dd_X0_health⟩ ⟨by decide, by decide⟩ dL_law_1159 z1 rfl (Nat.le_of_ble_eq_true rfl)) (ok_int (l9 := [xs (i + 1).toNatClampNeg, xs (i + 2).toNatClampNeg]) (Or.inl hM1.2.2.2.2)) (fun _ h => nomatch h) hM1 hM2 hX9 hS hl.1 hO1 hc1 hc2 (fun ρ3 H3 locs3 hρ3 hN1 hN2 hX3 hS3 => ?_)
  have hl3 : lv_has ls 4 [(0, .ref b), (1, .ref (ρ3 0)), (2, .ref (ρ2 0)), (3, .int i)] := by rw [hρ3 0 (Or.inl hM1.2.2.2.2)]; exact hl
  refine lv_aload_n hx hb dL_law_1162 rfl (lv_at hl3 2 rfl) ?_
  refine lw_ld (pc := 1163) C0 hS3 hl3 rfl (show Int32.ofInt 1 = 1 from by decide) n1 dL_law_1163 dL_law_1164 dL_law_1165 dL_law_1166 dL_law_1167 ?_
  refine lw_ld (pc := 1168) C0 hS3 hl3 rfl (show Int32.ofInt 2 = 2 from by decide) n2 dL_law_1168 dL_law_1169 dL_law_1170 dL_law_1171 dL_law_1172 ?_
  refine lw_call2 (pc := 1173) (st := [.int (xs (i + 2).toNatClampNeg), .int (xs (i + 1).toNatClampNeg), va_rf (some 0), .int a1]) (st' := [.int a1]) hfl C0 hB (Mo_health_fn 0 (xs (i + 1).toNatClampNeg) (xs (i + 2).toNatClampNeg) S2 d2) h2 (JC_V (n := 2) (lw_G hfl C0 hB) lw_Rm cl_X10 q2232 q2233 q2234 q152 q2235 ⟨rfl, dd_X10_health⟩ ⟨by decide, by decide⟩ dL_law_1173 z2 rfl (Nat.le_of_ble_eq_true rfl)) (ok_int (l9 := [xs (i + 1).toNatClampNeg, xs (i + 2).toNatClampNeg]) (Or.inl hN2.2.2.2.2)) (fun x hx9 => by rw [List.mem_singleton.mp hx9]; exact okV_int) hN1 hN2 hX3 hS3 hl3.1 hO2 hd1 hd2 (fun ρ4 H4 locs4 hρ4 hP1 hP2 hX4 hS4 => ?_)
  have hl4 : lv_has ls 4 [(0, .ref b), (1, .ref (ρ3 0)), (2, .ref (ρ4 0)), (3, .int i)] := by rw [hρ4 0 (Or.inl hN2.2.2.2.2)]; exact hl3
  exact lv_icmp_eq (tgt := 1834) hx hb dL_law_1176 (by decide) (fun _ => next ρ3 ρ4 H4 locs4 ls hP1 hP2 hX4 hS4 hl4) (fun h => absurd rfl h)
set_option maxHeartbeats 4000000 in
theorem lc_31 {L : Nat} {xs : Nat → Int32} (hfl : l.flags = flags0) (C0 : lw_At p s m meth c b L xs) (hB : LB dC dI dA oa s) {S1 S2 : Sp} {d1 d2 : Dt} {i : Int32} (n1 : vp_in (i + 1) L) (n2 : vp_in (i + 2) L) (z1 : isK S1 0 (some 0) = some 0) (z2 : isK S2 9 (some 0) = some 0) {a1 : Int32} {SS1 : Sp} {dd1 : Dt} {dd2 : Dt} (h1 : Ws_tenths 0 (xs (i + 1).toNatClampNeg) (xs (i + 2).toNatClampNeg) S1 d1 = some (a1, SS1, dd1)) (h2 : Mo_tenths 0 (xs (i + 1).toNatClampNeg) (xs (i + 2).toNatClampNeg) S2 d2 = some (a1, dd2)) (hO1 : SS1.1.length ≤ OPQ) (hc1 : SS1.2.2.1 + S2.2.2.1 ≤ 1136687) (hc2 : SS1.2.2.2 + S2.2.2.2 ≤ 5675420) (hO2 : S2.1.length ≤ OPQ) (hd1 : SS1.2.2.1 + S2.2.2.1 ≤ 1136687) (hd2 : SS1.2.2.2 + S2.2.2.2 ≤ 5675420) (next : LW p l e s m below meth c Q dC dI dA oa b SS1 dd1 S2 dd2 i 1834) : LW p l e s m below meth c Q dC dI dA oa b S1 d1 S2 d2 i 1181 := by
  intro ρ1 ρ2 H locs ls hM1 hM2 hX9 hS hl
  have hx := C0.1
  have hb := C0.2.1
  refine lv_aload_n hx hb dL_law_1181 rfl (lv_at hl 1 rfl) ?_
  refine lw_ld (pc := 1182) C0 hS hl rfl (show Int32.ofInt 1 = 1 from by decide) n1 dL_law_1182 dL_law_1183 dL_law_1184 dL_law_1185 dL_law_1186 ?_
  refine lw_ld (pc := 1187) C0 hS hl rfl (show Int32.ofInt 2 = 2 from by decide) n2 dL_law_1187 dL_law_1188 dL_law_1189 dL_law_1190 dL_law_1191 ?_
  refine lw_call (pc := 1192) (st := [.int (xs (i + 2).toNatClampNeg), .int (xs (i + 1).toNatClampNeg), va_rf (some 0)]) (st' := []) hfl C0 hB (Ws_tenths_fn 0 (xs (i + 1).toNatClampNeg) (xs (i + 2).toNatClampNeg) S1 d1) h1 (JC_V (n := 2) (lw_G hfl C0 hB) lw_Rm cl_X0 q1352 q1353 q1354 q137 q1355 ⟨rfl, dd_X0_tenths⟩ ⟨by decide, by decide⟩ dL_law_1192 z1 rfl (Nat.le_of_ble_eq_true rfl)) (ok_int (l9 := [xs (i + 1).toNatClampNeg, xs (i + 2).toNatClampNeg]) (Or.inl hM1.2.2.2.2)) (fun _ h => nomatch h) hM1 hM2 hX9 hS hl.1 hO1 hc1 hc2 (fun ρ3 H3 locs3 hρ3 hN1 hN2 hX3 hS3 => ?_)
  have hl3 : lv_has ls 4 [(0, .ref b), (1, .ref (ρ3 0)), (2, .ref (ρ2 0)), (3, .int i)] := by rw [hρ3 0 (Or.inl hM1.2.2.2.2)]; exact hl
  refine lv_aload_n hx hb dL_law_1195 rfl (lv_at hl3 2 rfl) ?_
  refine lw_ld (pc := 1196) C0 hS3 hl3 rfl (show Int32.ofInt 1 = 1 from by decide) n1 dL_law_1196 dL_law_1197 dL_law_1198 dL_law_1199 dL_law_1200 ?_
  refine lw_ld (pc := 1201) C0 hS3 hl3 rfl (show Int32.ofInt 2 = 2 from by decide) n2 dL_law_1201 dL_law_1202 dL_law_1203 dL_law_1204 dL_law_1205 ?_
  refine lw_call2 (pc := 1206) (st := [.int (xs (i + 2).toNatClampNeg), .int (xs (i + 1).toNatClampNeg), va_rf (some 0), .int a1]) (st' := [.int a1]) hfl C0 hB (Mo_tenths_fn 0 (xs (i + 1).toNatClampNeg) (xs (i + 2).toNatClampNeg) S2 d2) h2 (JC_V (n := 2) (lw_G hfl C0 hB) lw_Rm cl_X10 q2236 q2237 q2238 q152 q2239 ⟨rfl, dd_X10_tenths⟩ ⟨by decide, by decide⟩ dL_law_1206 z2 rfl (Nat.le_of_ble_eq_true rfl)) (ok_int (l9 := [xs (i + 1).toNatClampNeg, xs (i + 2).toNatClampNeg]) (Or.inl hN2.2.2.2.2)) (fun x hx9 => by rw [List.mem_singleton.mp hx9]; exact okV_int) hN1 hN2 hX3 hS3 hl3.1 hO2 hd1 hd2 (fun ρ4 H4 locs4 hρ4 hP1 hP2 hX4 hS4 => ?_)
  have hl4 : lv_has ls 4 [(0, .ref b), (1, .ref (ρ3 0)), (2, .ref (ρ4 0)), (3, .int i)] := by rw [hρ4 0 (Or.inl hN2.2.2.2.2)]; exact hl3
  exact lv_icmp_eq (tgt := 1834) hx hb dL_law_1209 (by decide) (fun _ => next ρ3 ρ4 H4 locs4 ls hP1 hP2 hX4 hS4 hl4) (fun h => absurd rfl h)
set_option maxHeartbeats 4000000 in
theorem lc_32 {L : Nat} {xs : Nat → Int32} (hfl : l.flags = flags0) (C0 : lw_At p s m meth c b L xs) (hB : LB dC dI dA oa s) {S1 S2 : Sp} {d1 d2 : Dt} {i : Int32} (n1 : vp_in (i + 1) L) (n2 : vp_in (i + 2) L) (z1 : isK S1 0 (some 0) = some 0) (z2 : isK S2 9 (some 0) = some 0) {a1 : Int32} {SS1 : Sp} {dd1 : Dt} {dd2 : Dt} (h1 : Ws_margin 0 (xs (i + 1).toNatClampNeg) (xs (i + 2).toNatClampNeg) S1 d1 = some (a1, SS1, dd1)) (h2 : Mo_margin 0 (xs (i + 1).toNatClampNeg) (xs (i + 2).toNatClampNeg) S2 d2 = some (a1, dd2)) (hO1 : SS1.1.length ≤ OPQ) (hc1 : SS1.2.2.1 + S2.2.2.1 ≤ 1136687) (hc2 : SS1.2.2.2 + S2.2.2.2 ≤ 5675420) (hO2 : S2.1.length ≤ OPQ) (hd1 : SS1.2.2.1 + S2.2.2.1 ≤ 1136687) (hd2 : SS1.2.2.2 + S2.2.2.2 ≤ 5675420) (next : LW p l e s m below meth c Q dC dI dA oa b SS1 dd1 S2 dd2 i 1834) : LW p l e s m below meth c Q dC dI dA oa b S1 d1 S2 d2 i 1214 := by
  intro ρ1 ρ2 H locs ls hM1 hM2 hX9 hS hl
  have hx := C0.1
  have hb := C0.2.1
  refine lv_aload_n hx hb dL_law_1214 rfl (lv_at hl 1 rfl) ?_
  refine lw_ld (pc := 1215) C0 hS hl rfl (show Int32.ofInt 1 = 1 from by decide) n1 dL_law_1215 dL_law_1216 dL_law_1217 dL_law_1218 dL_law_1219 ?_
  refine lw_ld (pc := 1220) C0 hS hl rfl (show Int32.ofInt 2 = 2 from by decide) n2 dL_law_1220 dL_law_1221 dL_law_1222 dL_law_1223 dL_law_1224 ?_
  refine lw_call (pc := 1225) (st := [.int (xs (i + 2).toNatClampNeg), .int (xs (i + 1).toNatClampNeg), va_rf (some 0)]) (st' := []) hfl C0 hB (Ws_margin_fn 0 (xs (i + 1).toNatClampNeg) (xs (i + 2).toNatClampNeg) S1 d1) h1 (JC_V (n := 2) (lw_G hfl C0 hB) lw_Rm cl_X0 q1356 q1357 q1358 q137 q1359 ⟨rfl, dd_X0_margin⟩ ⟨by decide, by decide⟩ dL_law_1225 z1 rfl (Nat.le_of_ble_eq_true rfl)) (ok_int (l9 := [xs (i + 1).toNatClampNeg, xs (i + 2).toNatClampNeg]) (Or.inl hM1.2.2.2.2)) (fun _ h => nomatch h) hM1 hM2 hX9 hS hl.1 hO1 hc1 hc2 (fun ρ3 H3 locs3 hρ3 hN1 hN2 hX3 hS3 => ?_)
  have hl3 : lv_has ls 4 [(0, .ref b), (1, .ref (ρ3 0)), (2, .ref (ρ2 0)), (3, .int i)] := by rw [hρ3 0 (Or.inl hM1.2.2.2.2)]; exact hl
  refine lv_aload_n hx hb dL_law_1228 rfl (lv_at hl3 2 rfl) ?_
  refine lw_ld (pc := 1229) C0 hS3 hl3 rfl (show Int32.ofInt 1 = 1 from by decide) n1 dL_law_1229 dL_law_1230 dL_law_1231 dL_law_1232 dL_law_1233 ?_
  refine lw_ld (pc := 1234) C0 hS3 hl3 rfl (show Int32.ofInt 2 = 2 from by decide) n2 dL_law_1234 dL_law_1235 dL_law_1236 dL_law_1237 dL_law_1238 ?_
  refine lw_call2 (pc := 1239) (st := [.int (xs (i + 2).toNatClampNeg), .int (xs (i + 1).toNatClampNeg), va_rf (some 0), .int a1]) (st' := [.int a1]) hfl C0 hB (Mo_margin_fn 0 (xs (i + 1).toNatClampNeg) (xs (i + 2).toNatClampNeg) S2 d2) h2 (JC_V (n := 2) (lw_G hfl C0 hB) lw_Rm cl_X10 q2240 q2241 q2242 q152 q2243 ⟨rfl, dd_X10_margin⟩ ⟨by decide, by decide⟩ dL_law_1239 z2 rfl (Nat.le_of_ble_eq_true rfl)) (ok_int (l9 := [xs (i + 1).toNatClampNeg, xs (i + 2).toNatClampNeg]) (Or.inl hN2.2.2.2.2)) (fun x hx9 => by rw [List.mem_singleton.mp hx9]; exact okV_int) hN1 hN2 hX3 hS3 hl3.1 hO2 hd1 hd2 (fun ρ4 H4 locs4 hρ4 hP1 hP2 hX4 hS4 => ?_)
  have hl4 : lv_has ls 4 [(0, .ref b), (1, .ref (ρ3 0)), (2, .ref (ρ4 0)), (3, .int i)] := by rw [hρ4 0 (Or.inl hN2.2.2.2.2)]; exact hl3
  exact lv_icmp_eq (tgt := 1834) hx hb dL_law_1242 (by decide) (fun _ => next ρ3 ρ4 H4 locs4 ls hP1 hP2 hX4 hS4 hl4) (fun h => absurd rfl h)
set_option maxHeartbeats 4000000 in
theorem lc_33 {L : Nat} {xs : Nat → Int32} (hfl : l.flags = flags0) (C0 : lw_At p s m meth c b L xs) (hB : LB dC dI dA oa s) {S1 S2 : Sp} {d1 d2 : Dt} {i : Int32} (n1 : vp_in (i + 1) L) (n2 : vp_in (i + 2) L) (z1 : isK S1 0 (some 0) = some 0) (z2 : isK S2 9 (some 0) = some 0) {a1 : Int64} {SS1 : Sp} {dd1 : Dt} {dd2 : Dt} (h1 : Ws_mean 0 (xs (i + 1).toNatClampNeg) (xs (i + 2).toNatClampNeg) S1 d1 = some (a1, SS1, dd1)) (h2 : Mo_mean 0 (xs (i + 1).toNatClampNeg) (xs (i + 2).toNatClampNeg) S2 d2 = some (a1, dd2)) (hO1 : SS1.1.length ≤ OPQ) (hc1 : SS1.2.2.1 + S2.2.2.1 ≤ 1136687) (hc2 : SS1.2.2.2 + S2.2.2.2 ≤ 5675420) (hO2 : S2.1.length ≤ OPQ) (hd1 : SS1.2.2.1 + S2.2.2.1 ≤ 1136687) (hd2 : SS1.2.2.2 + S2.2.2.2 ≤ 5675420) (next : LW p l e s m below meth c Q dC dI dA oa b SS1 dd1 S2 dd2 i 1834) : LW p l e s m below meth c Q dC dI dA oa b S1 d1 S2 d2 i 1247 := by
  intro ρ1 ρ2 H locs ls hM1 hM2 hX9 hS hl
  have hx := C0.1
  have hb := C0.2.1
  refine lv_aload_n hx hb dL_law_1247 rfl (lv_at hl 1 rfl) ?_
  refine lw_ld (pc := 1248) C0 hS hl rfl (show Int32.ofInt 1 = 1 from by decide) n1 dL_law_1248 dL_law_1249 dL_law_1250 dL_law_1251 dL_law_1252 ?_
  refine lw_ld (pc := 1253) C0 hS hl rfl (show Int32.ofInt 2 = 2 from by decide) n2 dL_law_1253 dL_law_1254 dL_law_1255 dL_law_1256 dL_law_1257 ?_
  refine lw_call (pc := 1258) (st := [.int (xs (i + 2).toNatClampNeg), .int (xs (i + 1).toNatClampNeg), va_rf (some 0)]) (st' := []) hfl C0 hB (Ws_mean_fn 0 (xs (i + 1).toNatClampNeg) (xs (i + 2).toNatClampNeg) S1 d1) h1 (JC_V (n := 2) (lw_G hfl C0 hB) lw_Rm cl_X0 q1360 q1361 q1362 q137 q1363 ⟨rfl, dd_X0_mean⟩ ⟨by decide, by decide⟩ dL_law_1258 z1 rfl (Nat.le_of_ble_eq_true rfl)) (ok_int (l9 := [xs (i + 1).toNatClampNeg, xs (i + 2).toNatClampNeg]) (Or.inl hM1.2.2.2.2)) (fun _ h => nomatch h) hM1 hM2 hX9 hS hl.1 hO1 hc1 hc2 (fun ρ3 H3 locs3 hρ3 hN1 hN2 hX3 hS3 => ?_)
  have hl3 : lv_has ls 4 [(0, .ref b), (1, .ref (ρ3 0)), (2, .ref (ρ2 0)), (3, .int i)] := by rw [hρ3 0 (Or.inl hM1.2.2.2.2)]; exact hl
  refine lv_aload_n hx hb dL_law_1261 rfl (lv_at hl3 2 rfl) ?_
  refine lw_ld (pc := 1262) C0 hS3 hl3 rfl (show Int32.ofInt 1 = 1 from by decide) n1 dL_law_1262 dL_law_1263 dL_law_1264 dL_law_1265 dL_law_1266 ?_
  refine lw_ld (pc := 1267) C0 hS3 hl3 rfl (show Int32.ofInt 2 = 2 from by decide) n2 dL_law_1267 dL_law_1268 dL_law_1269 dL_law_1270 dL_law_1271 ?_
  refine lw_call2 (pc := 1272) (st := [.int (xs (i + 2).toNatClampNeg), .int (xs (i + 1).toNatClampNeg), va_rf (some 0), .long a1]) (st' := [.long a1]) hfl C0 hB (Mo_mean_fn 0 (xs (i + 1).toNatClampNeg) (xs (i + 2).toNatClampNeg) S2 d2) h2 (JC_V (n := 2) (lw_G hfl C0 hB) lw_Rm cl_X10 q2244 q2245 q2246 q152 q2247 ⟨rfl, dd_X10_mean⟩ ⟨by decide, by decide⟩ dL_law_1272 z2 rfl (Nat.le_of_ble_eq_true rfl)) (ok_int (l9 := [xs (i + 1).toNatClampNeg, xs (i + 2).toNatClampNeg]) (Or.inl hN2.2.2.2.2)) (fun x hx9 => by rw [List.mem_singleton.mp hx9]; exact okV_long) hN1 hN2 hX3 hS3 hl3.1 hO2 hd1 hd2 (fun ρ4 H4 locs4 hρ4 hP1 hP2 hX4 hS4 => ?_)
  have hl4 : lv_has ls 4 [(0, .ref b), (1, .ref (ρ3 0)), (2, .ref (ρ4 0)), (3, .int i)] := by rw [hρ4 0 (Or.inl hN2.2.2.2.2)]; exact hl3
  refine W.lcmp hx hb dL_law_1275 ?_
  exact lv_if_eq (tgt := 1834) hx hb dL_law_1276 (by decide) (fun _ => next ρ3 ρ4 H4 locs4 ls hP1 hP2 hX4 hS4 hl4) (fun h => absurd (lg_cmp_self _) h)
set_option maxHeartbeats 4000000 in
theorem lc_34 {L : Nat} {xs : Nat → Int32} (hfl : l.flags = flags0) (C0 : lw_At p s m meth c b L xs) (hB : LB dC dI dA oa s) {S1 S2 : Sp} {d1 d2 : Dt} {i : Int32} (n1 : vp_in (i + 1) L) (z1 : isK S1 0 (some 0) = some 0) (z2 : isK S2 9 (some 0) = some 0) {a1 : Int32} {SS1 : Sp} {dd1 : Dt} {dd2 : Dt} (h1 : Ws_faults_2 0 (xs (i + 1).toNatClampNeg) S1 d1 = some (a1, SS1, dd1)) (h2 : Mo_faults 0 (xs (i + 1).toNatClampNeg) S2 d2 = some (a1, dd2)) (hO1 : SS1.1.length ≤ OPQ) (hc1 : SS1.2.2.1 + S2.2.2.1 ≤ 1136687) (hc2 : SS1.2.2.2 + S2.2.2.2 ≤ 5675420) (hO2 : S2.1.length ≤ OPQ) (hd1 : SS1.2.2.1 + S2.2.2.1 ≤ 1136687) (hd2 : SS1.2.2.2 + S2.2.2.2 ≤ 5675420) (next : LW p l e s m below meth c Q dC dI dA oa b SS1 dd1 S2 dd2 i 1834) : LW p l e s m below meth c Q dC dI dA oa b S1 d1 S2 d2 i 1281 := by
  intro ρ1 ρ2 H locs ls hM1 hM2 hX9 hS hl
  have hx := C0.1
  have hb := C0.2.1
  refine lv_aload_n hx hb dL_law_1281 rfl (lv_at hl 1 rfl) ?_
  refine lw_ld (pc := 1282) C0 hS hl rfl (show Int32.ofInt 1 = 1 from by decide) n1 dL_law_1282 dL_law_1283 dL_law_1284 dL_law_1285 dL_law_1286 ?_
  refine lw_call (pc := 1287) (st := [.int (xs (i + 1).toNatClampNeg), va_rf (some 0)]) (st' := []) hfl C0 hB (Ws_faults_2_fn 0 (xs (i + 1).toNatClampNeg) S1 d1) h1 (JC_V (n := 1) (lw_G hfl C0 hB) lw_Rm cl_X0 q1376 q1377 q1378 q137 q1379 ⟨rfl, dd_X0_faults_2⟩ ⟨by decide, by decide⟩ dL_law_1287 z1 rfl (Nat.le_of_ble_eq_true rfl)) (ok_int (l9 := [xs (i + 1).toNatClampNeg]) (Or.inl hM1.2.2.2.2)) (fun _ h => nomatch h) hM1 hM2 hX9 hS hl.1 hO1 hc1 hc2 (fun ρ3 H3 locs3 hρ3 hN1 hN2 hX3 hS3 => ?_)
  have hl3 : lv_has ls 4 [(0, .ref b), (1, .ref (ρ3 0)), (2, .ref (ρ2 0)), (3, .int i)] := by rw [hρ3 0 (Or.inl hM1.2.2.2.2)]; exact hl
  refine lv_aload_n hx hb dL_law_1290 rfl (lv_at hl3 2 rfl) ?_
  refine lw_ld (pc := 1291) C0 hS3 hl3 rfl (show Int32.ofInt 1 = 1 from by decide) n1 dL_law_1291 dL_law_1292 dL_law_1293 dL_law_1294 dL_law_1295 ?_
  refine lw_call2 (pc := 1296) (st := [.int (xs (i + 1).toNatClampNeg), va_rf (some 0), .int a1]) (st' := [.int a1]) hfl C0 hB (Mo_faults_fn 0 (xs (i + 1).toNatClampNeg) S2 d2) h2 (JC_V (n := 1) (lw_G hfl C0 hB) lw_Rm cl_X10 q2251 q2252 q2253 q152 q2254 ⟨rfl, dd_X10_faults⟩ ⟨by decide, by decide⟩ dL_law_1296 z2 rfl (Nat.le_of_ble_eq_true rfl)) (ok_int (l9 := [xs (i + 1).toNatClampNeg]) (Or.inl hN2.2.2.2.2)) (fun x hx9 => by rw [List.mem_singleton.mp hx9]; exact okV_int) hN1 hN2 hX3 hS3 hl3.1 hO2 hd1 hd2 (fun ρ4 H4 locs4 hρ4 hP1 hP2 hX4 hS4 => ?_)
  have hl4 : lv_has ls 4 [(0, .ref b), (1, .ref (ρ3 0)), (2, .ref (ρ4 0)), (3, .int i)] := by rw [hρ4 0 (Or.inl hN2.2.2.2.2)]; exact hl3
  exact lv_icmp_eq (tgt := 1834) hx hb dL_law_1299 (by decide) (fun _ => next ρ3 ρ4 H4 locs4 ls hP1 hP2 hX4 hS4 hl4) (fun h => absurd rfl h)
set_option maxHeartbeats 4000000 in
theorem lc_35 {L : Nat} {xs : Nat → Int32} (hfl : l.flags = flags0) (C0 : lw_At p s m meth c b L xs) (hB : LB dC dI dA oa s) {S1 S2 : Sp} {d1 d2 : Dt} {i : Int32} (n1 : vp_in (i + 1) L) (n2 : vp_in (i + 2) L) (z1 : isK S1 0 (some 0) = some 0) (z2 : isK S2 9 (some 0) = some 0) {a1 : Int32} {SS1 : Sp} {dd1 : Dt} {dd2 : Dt} (h1 : Ws_record 0 (xs (i + 1).toNatClampNeg) (xs (i + 2).toNatClampNeg) S1 d1 = some (a1, SS1, dd1)) (h2 : Mo_record 0 (xs (i + 1).toNatClampNeg) (xs (i + 2).toNatClampNeg) S2 d2 = some (a1, dd2)) (hO1 : SS1.1.length ≤ OPQ) (hc1 : SS1.2.2.1 + S2.2.2.1 ≤ 1136687) (hc2 : SS1.2.2.2 + S2.2.2.2 ≤ 5675420) (hO2 : S2.1.length ≤ OPQ) (hd1 : SS1.2.2.1 + S2.2.2.1 ≤ 1136687) (hd2 : SS1.2.2.2 + S2.2.2.2 ≤ 5675420) (next : LW p l e s m below meth c Q dC dI dA oa b SS1 dd1 S2 dd2 i 1834) : LW p l e s m below meth c Q dC dI dA oa b S1 d1 S2 d2 i 1304 := by
  intro ρ1 ρ2 H locs ls hM1 hM2 hX9 hS hl
  have hx := C0.1
  have hb := C0.2.1
  refine lv_aload_n hx hb dL_law_1304 rfl (lv_at hl 1 rfl) ?_
  refine lw_ld (pc := 1305) C0 hS hl rfl (show Int32.ofInt 1 = 1 from by decide) n1 dL_law_1305 dL_law_1306 dL_law_1307 dL_law_1308 dL_law_1309 ?_
  refine lw_ld (pc := 1310) C0 hS hl rfl (show Int32.ofInt 2 = 2 from by decide) n2 dL_law_1310 dL_law_1311 dL_law_1312 dL_law_1313 dL_law_1314 ?_
  refine lw_call (pc := 1315) (st := [.int (xs (i + 2).toNatClampNeg), .int (xs (i + 1).toNatClampNeg), va_rf (some 0)]) (st' := []) hfl C0 hB (Ws_record_fn 0 (xs (i + 1).toNatClampNeg) (xs (i + 2).toNatClampNeg) S1 d1) h1 (JC_V (n := 2) (lw_G hfl C0 hB) lw_Rm cl_X0 q1380 q1381 q1382 q137 q1383 ⟨rfl, dd_X0_record⟩ ⟨by decide, by decide⟩ dL_law_1315 z1 rfl (Nat.le_of_ble_eq_true rfl)) (ok_int (l9 := [xs (i + 1).toNatClampNeg, xs (i + 2).toNatClampNeg]) (Or.inl hM1.2.2.2.2)) (fun _ h => nomatch h) hM1 hM2 hX9 hS hl.1 hO1 hc1 hc2 (fun ρ3 H3 locs3 hρ3 hN1 hN2 hX3 hS3 => ?_)
  have hl3 : lv_has ls 4 [(0, .ref b), (1, .ref (ρ3 0)), (2, .ref (ρ2 0)), (3, .int i)] := by rw [hρ3 0 (Or.inl hM1.2.2.2.2)]; exact hl
  refine lv_aload_n hx hb dL_law_1318 rfl (lv_at hl3 2 rfl) ?_
  refine lw_ld (pc := 1319) C0 hS3 hl3 rfl (show Int32.ofInt 1 = 1 from by decide) n1 dL_law_1319 dL_law_1320 dL_law_1321 dL_law_1322 dL_law_1323 ?_
  refine lw_ld (pc := 1324) C0 hS3 hl3 rfl (show Int32.ofInt 2 = 2 from by decide) n2 dL_law_1324 dL_law_1325 dL_law_1326 dL_law_1327 dL_law_1328 ?_
  refine lw_call2 (pc := 1329) (st := [.int (xs (i + 2).toNatClampNeg), .int (xs (i + 1).toNatClampNeg), va_rf (some 0), .int a1]) (st' := [.int a1]) hfl C0 hB (Mo_record_fn 0 (xs (i + 1).toNatClampNeg) (xs (i + 2).toNatClampNeg) S2 d2) h2 (JC_V (n := 2) (lw_G hfl C0 hB) lw_Rm cl_X10 q2255 q2256 q2257 q152 q2258 ⟨rfl, dd_X10_record⟩ ⟨by decide, by decide⟩ dL_law_1329 z2 rfl (Nat.le_of_ble_eq_true rfl)) (ok_int (l9 := [xs (i + 1).toNatClampNeg, xs (i + 2).toNatClampNeg]) (Or.inl hN2.2.2.2.2)) (fun x hx9 => by rw [List.mem_singleton.mp hx9]; exact okV_int) hN1 hN2 hX3 hS3 hl3.1 hO2 hd1 hd2 (fun ρ4 H4 locs4 hρ4 hP1 hP2 hX4 hS4 => ?_)
  have hl4 : lv_has ls 4 [(0, .ref b), (1, .ref (ρ3 0)), (2, .ref (ρ4 0)), (3, .int i)] := by rw [hρ4 0 (Or.inl hN2.2.2.2.2)]; exact hl3
  exact lv_icmp_eq (tgt := 1834) hx hb dL_law_1332 (by decide) (fun _ => next ρ3 ρ4 H4 locs4 ls hP1 hP2 hX4 hS4 hl4) (fun h => absurd rfl h)
set_option maxHeartbeats 4000000 in
theorem lc_36 {L : Nat} {xs : Nat → Int32} (hfl : l.flags = flags0) (C0 : lw_At p s m meth c b L xs) (hB : LB dC dI dA oa s) {S1 S2 : Sp} {d1 d2 : Dt} {i : Int32} (n1 : vp_in (i + 1) L) (z1 : isK S1 0 (some 0) = some 0) (z2 : isK S2 9 (some 0) = some 0) {a1 : Int32} {SS1 : Sp} {dd1 : Dt} {dd2 : Dt} (h1 : Ws_ledger 0 (xs (i + 1).toNatClampNeg) S1 d1 = some (a1, SS1, dd1)) (h2 : Mo_ledger 0 (xs (i + 1).toNatClampNeg) S2 d2 = some (a1, dd2)) (hO1 : SS1.1.length ≤ OPQ) (hc1 : SS1.2.2.1 + S2.2.2.1 ≤ 1136687) (hc2 : SS1.2.2.2 + S2.2.2.2 ≤ 5675420) (hO2 : S2.1.length ≤ OPQ) (hd1 : SS1.2.2.1 + S2.2.2.1 ≤ 1136687) (hd2 : SS1.2.2.2 + S2.2.2.2 ≤ 5675420) (next : LW p l e s m below meth c Q dC dI dA oa b SS1 dd1 S2 dd2 i 1834) : LW p l e s m below meth c Q dC dI dA oa b S1 d1 S2 d2 i 1337 := by
  intro ρ1 ρ2 H locs ls hM1 hM2 hX9 hS hl
  have hx := C0.1
  have hb := C0.2.1
  refine lv_aload_n hx hb dL_law_1337 rfl (lv_at hl 1 rfl) ?_
  refine lw_ld (pc := 1338) C0 hS hl rfl (show Int32.ofInt 1 = 1 from by decide) n1 dL_law_1338 dL_law_1339 dL_law_1340 dL_law_1341 dL_law_1342 ?_
  refine lw_call (pc := 1343) (st := [.int (xs (i + 1).toNatClampNeg), va_rf (some 0)]) (st' := []) hfl C0 hB (Ws_ledger_fn 0 (xs (i + 1).toNatClampNeg) S1 d1) h1 (JC_V (n := 1) (lw_G hfl C0 hB) lw_Rm cl_X0 q1384 q1385 q1386 q137 q1387 ⟨rfl, dd_X0_ledger⟩ ⟨by decide, by decide⟩ dL_law_1343 z1 rfl (Nat.le_of_ble_eq_true rfl)) (ok_int (l9 := [xs (i + 1).toNatClampNeg]) (Or.inl hM1.2.2.2.2)) (fun _ h => nomatch h) hM1 hM2 hX9 hS hl.1 hO1 hc1 hc2 (fun ρ3 H3 locs3 hρ3 hN1 hN2 hX3 hS3 => ?_)
  have hl3 : lv_has ls 4 [(0, .ref b), (1, .ref (ρ3 0)), (2, .ref (ρ2 0)), (3, .int i)] := by rw [hρ3 0 (Or.inl hM1.2.2.2.2)]; exact hl
  refine lv_aload_n hx hb dL_law_1346 rfl (lv_at hl3 2 rfl) ?_
  refine lw_ld (pc := 1347) C0 hS3 hl3 rfl (show Int32.ofInt 1 = 1 from by decide) n1 dL_law_1347 dL_law_1348 dL_law_1349 dL_law_1350 dL_law_1351 ?_
  refine lw_call2 (pc := 1352) (st := [.int (xs (i + 1).toNatClampNeg), va_rf (some 0), .int a1]) (st' := [.int a1]) hfl C0 hB (Mo_ledger_fn 0 (xs (i + 1).toNatClampNeg) S2 d2) h2 (JC_V (n := 1) (lw_G hfl C0 hB) lw_Rm cl_X10 q2259 q2260 q2261 q152 q2262 ⟨rfl, dd_X10_ledger⟩ ⟨by decide, by decide⟩ dL_law_1352 z2 rfl (Nat.le_of_ble_eq_true rfl)) (ok_int (l9 := [xs (i + 1).toNatClampNeg]) (Or.inl hN2.2.2.2.2)) (fun x hx9 => by rw [List.mem_singleton.mp hx9]; exact okV_int) hN1 hN2 hX3 hS3 hl3.1 hO2 hd1 hd2 (fun ρ4 H4 locs4 hρ4 hP1 hP2 hX4 hS4 => ?_)
  have hl4 : lv_has ls 4 [(0, .ref b), (1, .ref (ρ3 0)), (2, .ref (ρ4 0)), (3, .int i)] := by rw [hρ4 0 (Or.inl hN2.2.2.2.2)]; exact hl3
  exact lv_icmp_eq (tgt := 1834) hx hb dL_law_1355 (by decide) (fun _ => next ρ3 ρ4 H4 locs4 ls hP1 hP2 hX4 hS4 hl4) (fun h => absurd rfl h)
set_option maxHeartbeats 4000000 in
theorem lc_37 {L : Nat} {xs : Nat → Int32} (hfl : l.flags = flags0) (C0 : lw_At p s m meth c b L xs) (hB : LB dC dI dA oa s) {S1 S2 : Sp} {d1 d2 : Dt} {i : Int32} (n1 : vp_in (i + 1) L) (z1 : isK S1 0 (some 0) = some 0) (z2 : isK S2 9 (some 0) = some 0) {a1 : Int32} {SS1 : Sp} {dd1 : Dt} {dd2 : Dt} (h1 : Ws_kinds 0 (xs (i + 1).toNatClampNeg) S1 d1 = some (a1, SS1, dd1)) (h2 : Mo_kinds 0 (xs (i + 1).toNatClampNeg) S2 d2 = some (a1, dd2)) (hO1 : SS1.1.length ≤ OPQ) (hc1 : SS1.2.2.1 + S2.2.2.1 ≤ 1136687) (hc2 : SS1.2.2.2 + S2.2.2.2 ≤ 5675420) (hO2 : S2.1.length ≤ OPQ) (hd1 : SS1.2.2.1 + S2.2.2.1 ≤ 1136687) (hd2 : SS1.2.2.2 + S2.2.2.2 ≤ 5675420) (next : LW p l e s m below meth c Q dC dI dA oa b SS1 dd1 S2 dd2 i 1834) : LW p l e s m below meth c Q dC dI dA oa b S1 d1 S2 d2 i 1360 := by
  intro ρ1 ρ2 H locs ls hM1 hM2 hX9 hS hl
  have hx := C0.1
  have hb := C0.2.1
  refine lv_aload_n hx hb dL_law_1360 rfl (lv_at hl 1 rfl) ?_
  refine lw_ld (pc := 1361) C0 hS hl rfl (show Int32.ofInt 1 = 1 from by decide) n1 dL_law_1361 dL_law_1362 dL_law_1363 dL_law_1364 dL_law_1365 ?_
  refine lw_call (pc := 1366) (st := [.int (xs (i + 1).toNatClampNeg), va_rf (some 0)]) (st' := []) hfl C0 hB (Ws_kinds_fn 0 (xs (i + 1).toNatClampNeg) S1 d1) h1 (JC_V (n := 1) (lw_G hfl C0 hB) lw_Rm cl_X0 q1437 q1438 q1439 q137 q1440 ⟨rfl, dd_X0_kinds⟩ ⟨by decide, by decide⟩ dL_law_1366 z1 rfl (Nat.le_of_ble_eq_true rfl)) (ok_int (l9 := [xs (i + 1).toNatClampNeg]) (Or.inl hM1.2.2.2.2)) (fun _ h => nomatch h) hM1 hM2 hX9 hS hl.1 hO1 hc1 hc2 (fun ρ3 H3 locs3 hρ3 hN1 hN2 hX3 hS3 => ?_)
  have hl3 : lv_has ls 4 [(0, .ref b), (1, .ref (ρ3 0)), (2, .ref (ρ2 0)), (3, .int i)] := by rw [hρ3 0 (Or.inl hM1.2.2.2.2)]; exact hl
  refine lv_aload_n hx hb dL_law_1369 rfl (lv_at hl3 2 rfl) ?_
  refine lw_ld (pc := 1370) C0 hS3 hl3 rfl (show Int32.ofInt 1 = 1 from by decide) n1 dL_law_1370 dL_law_1371 dL_law_1372 dL_law_1373 dL_law_1374 ?_
  refine lw_call2 (pc := 1375) (st := [.int (xs (i + 1).toNatClampNeg), va_rf (some 0), .int a1]) (st' := [.int a1]) hfl C0 hB (Mo_kinds_fn 0 (xs (i + 1).toNatClampNeg) S2 d2) h2 (JC_V (n := 1) (lw_G hfl C0 hB) lw_Rm cl_X10 q2263 q2264 q2265 q152 q2266 ⟨rfl, dd_X10_kinds⟩ ⟨by decide, by decide⟩ dL_law_1375 z2 rfl (Nat.le_of_ble_eq_true rfl)) (ok_int (l9 := [xs (i + 1).toNatClampNeg]) (Or.inl hN2.2.2.2.2)) (fun x hx9 => by rw [List.mem_singleton.mp hx9]; exact okV_int) hN1 hN2 hX3 hS3 hl3.1 hO2 hd1 hd2 (fun ρ4 H4 locs4 hρ4 hP1 hP2 hX4 hS4 => ?_)
  have hl4 : lv_has ls 4 [(0, .ref b), (1, .ref (ρ3 0)), (2, .ref (ρ4 0)), (3, .int i)] := by rw [hρ4 0 (Or.inl hN2.2.2.2.2)]; exact hl3
  exact lv_icmp_eq (tgt := 1834) hx hb dL_law_1378 (by decide) (fun _ => next ρ3 ρ4 H4 locs4 ls hP1 hP2 hX4 hS4 hl4) (fun h => absurd rfl h)
set_option maxHeartbeats 4000000 in
theorem lc_38 {L : Nat} {xs : Nat → Int32} (hfl : l.flags = flags0) (C0 : lw_At p s m meth c b L xs) (hB : LB dC dI dA oa s) {S1 S2 : Sp} {d1 d2 : Dt} {i : Int32} (n1 : vp_in (i + 1) L) (n2 : vp_in (i + 2) L) (z1 : isK S1 0 (some 0) = some 0) (z2 : isK S2 9 (some 0) = some 0) {a1 : Int32} {SS1 : Sp} {dd1 : Dt} {dd2 : Dt} (h1 : Ws_levels 0 (xs (i + 1).toNatClampNeg) (xs (i + 2).toNatClampNeg) S1 d1 = some (a1, SS1, dd1)) (h2 : Mo_levels 0 (xs (i + 1).toNatClampNeg) (xs (i + 2).toNatClampNeg) S2 d2 = some (a1, dd2)) (hO1 : SS1.1.length ≤ OPQ) (hc1 : SS1.2.2.1 + S2.2.2.1 ≤ 1136687) (hc2 : SS1.2.2.2 + S2.2.2.2 ≤ 5675420) (hO2 : S2.1.length ≤ OPQ) (hd1 : SS1.2.2.1 + S2.2.2.1 ≤ 1136687) (hd2 : SS1.2.2.2 + S2.2.2.2 ≤ 5675420) (next : LW p l e s m below meth c Q dC dI dA oa b SS1 dd1 S2 dd2 i 1834) : LW p l e s m below meth c Q dC dI dA oa b S1 d1 S2 d2 i 1383 := by
  intro ρ1 ρ2 H locs ls hM1 hM2 hX9 hS hl
  have hx := C0.1
  have hb := C0.2.1
  refine lv_aload_n hx hb dL_law_1383 rfl (lv_at hl 1 rfl) ?_
  refine lw_ld (pc := 1384) C0 hS hl rfl (show Int32.ofInt 1 = 1 from by decide) n1 dL_law_1384 dL_law_1385 dL_law_1386 dL_law_1387 dL_law_1388 ?_
  refine lw_ld (pc := 1389) C0 hS hl rfl (show Int32.ofInt 2 = 2 from by decide) n2 dL_law_1389 dL_law_1390 dL_law_1391 dL_law_1392 dL_law_1393 ?_
  refine lw_call (pc := 1394) (st := [.int (xs (i + 2).toNatClampNeg), .int (xs (i + 1).toNatClampNeg), va_rf (some 0)]) (st' := []) hfl C0 hB (Ws_levels_fn 0 (xs (i + 1).toNatClampNeg) (xs (i + 2).toNatClampNeg) S1 d1) h1 (JC_V (n := 2) (lw_G hfl C0 hB) lw_Rm cl_X0 q1442 q1443 q1444 q137 q1445 ⟨rfl, dd_X0_levels⟩ ⟨by decide, by decide⟩ dL_law_1394 z1 rfl (Nat.le_of_ble_eq_true rfl)) (ok_int (l9 := [xs (i + 1).toNatClampNeg, xs (i + 2).toNatClampNeg]) (Or.inl hM1.2.2.2.2)) (fun _ h => nomatch h) hM1 hM2 hX9 hS hl.1 hO1 hc1 hc2 (fun ρ3 H3 locs3 hρ3 hN1 hN2 hX3 hS3 => ?_)
  have hl3 : lv_has ls 4 [(0, .ref b), (1, .ref (ρ3 0)), (2, .ref (ρ2 0)), (3, .int i)] := by rw [hρ3 0 (Or.inl hM1.2.2.2.2)]; exact hl
  refine lv_aload_n hx hb dL_law_1397 rfl (lv_at hl3 2 rfl) ?_
  refine lw_ld (pc := 1398) C0 hS3 hl3 rfl (show Int32.ofInt 1 = 1 from by decide) n1 dL_law_1398 dL_law_1399 dL_law_1400 dL_law_1401 dL_law_1402 ?_
  refine lw_ld (pc := 1403) C0 hS3 hl3 rfl (show Int32.ofInt 2 = 2 from by decide) n2 dL_law_1403 dL_law_1404 dL_law_1405 dL_law_1406 dL_law_1407 ?_
  refine lw_call2 (pc := 1408) (st := [.int (xs (i + 2).toNatClampNeg), .int (xs (i + 1).toNatClampNeg), va_rf (some 0), .int a1]) (st' := [.int a1]) hfl C0 hB (Mo_levels_fn 0 (xs (i + 1).toNatClampNeg) (xs (i + 2).toNatClampNeg) S2 d2) h2 (JC_V (n := 2) (lw_G hfl C0 hB) lw_Rm cl_X10 q2268 q2269 q2270 q152 q2271 ⟨rfl, dd_X10_levels⟩ ⟨by decide, by decide⟩ dL_law_1408 z2 rfl (Nat.le_of_ble_eq_true rfl)) (ok_int (l9 := [xs (i + 1).toNatClampNeg, xs (i + 2).toNatClampNeg]) (Or.inl hN2.2.2.2.2)) (fun x hx9 => by rw [List.mem_singleton.mp hx9]; exact okV_int) hN1 hN2 hX3 hS3 hl3.1 hO2 hd1 hd2 (fun ρ4 H4 locs4 hρ4 hP1 hP2 hX4 hS4 => ?_)
  have hl4 : lv_has ls 4 [(0, .ref b), (1, .ref (ρ3 0)), (2, .ref (ρ4 0)), (3, .int i)] := by rw [hρ4 0 (Or.inl hN2.2.2.2.2)]; exact hl3
  exact lv_icmp_eq (tgt := 1834) hx hb dL_law_1411 (by decide) (fun _ => next ρ3 ρ4 H4 locs4 ls hP1 hP2 hX4 hS4 hl4) (fun h => absurd rfl h)
set_option maxHeartbeats 4000000 in
theorem lc_39 {L : Nat} {xs : Nat → Int32} (hfl : l.flags = flags0) (C0 : lw_At p s m meth c b L xs) (hB : LB dC dI dA oa s) {S1 S2 : Sp} {d1 d2 : Dt} {i : Int32} (z1 : isK S1 0 (some 0) = some 0) (z2 : isK S2 9 (some 0) = some 0) {a1 : Int32} {SS1 : Sp} {dd1 : Dt} {dd2 : Dt} (h1 : Ws_halts 0 S1 d1 = some (a1, SS1, dd1)) (h2 : Mo_halts 0 S2 d2 = some (a1, dd2)) (hO1 : SS1.1.length ≤ OPQ) (hc1 : SS1.2.2.1 + S2.2.2.1 ≤ 1136687) (hc2 : SS1.2.2.2 + S2.2.2.2 ≤ 5675420) (hO2 : S2.1.length ≤ OPQ) (hd1 : SS1.2.2.1 + S2.2.2.1 ≤ 1136687) (hd2 : SS1.2.2.2 + S2.2.2.2 ≤ 5675420) (next : LW p l e s m below meth c Q dC dI dA oa b SS1 dd1 S2 dd2 i 1834) : LW p l e s m below meth c Q dC dI dA oa b S1 d1 S2 d2 i 1416 := by
  intro ρ1 ρ2 H locs ls hM1 hM2 hX9 hS hl
  have hx := C0.1
  have hb := C0.2.1
  refine lv_aload_n hx hb dL_law_1416 rfl (lv_at hl 1 rfl) ?_
  refine lw_call (pc := 1417) (st := [va_rf (some 0)]) (st' := []) hfl C0 hB (Ws_halts_fn 0  S1 d1) h1 (JC_V (n := 0) (lw_G hfl C0 hB) lw_Rm cl_X0 q1446 q1447 q1448 q137 q1449 ⟨rfl, dd_X0_halts⟩ ⟨by decide, by decide⟩ dL_law_1417 z1 rfl (Nat.le_of_ble_eq_true rfl)) (ok_int (l9 := []) (Or.inl hM1.2.2.2.2)) (fun _ h => nomatch h) hM1 hM2 hX9 hS hl.1 hO1 hc1 hc2 (fun ρ3 H3 locs3 hρ3 hN1 hN2 hX3 hS3 => ?_)
  have hl3 : lv_has ls 4 [(0, .ref b), (1, .ref (ρ3 0)), (2, .ref (ρ2 0)), (3, .int i)] := by rw [hρ3 0 (Or.inl hM1.2.2.2.2)]; exact hl
  refine lv_aload_n hx hb dL_law_1420 rfl (lv_at hl3 2 rfl) ?_
  refine lw_call2 (pc := 1421) (st := [va_rf (some 0), .int a1]) (st' := [.int a1]) hfl C0 hB (Mo_halts_fn 0  S2 d2) h2 (JC_V (n := 0) (lw_G hfl C0 hB) lw_Rm cl_X10 q2272 q2273 q2274 q152 q2275 ⟨rfl, dd_X10_halts⟩ ⟨by decide, by decide⟩ dL_law_1421 z2 rfl (Nat.le_of_ble_eq_true rfl)) (ok_int (l9 := []) (Or.inl hN2.2.2.2.2)) (fun x hx9 => by rw [List.mem_singleton.mp hx9]; exact okV_int) hN1 hN2 hX3 hS3 hl3.1 hO2 hd1 hd2 (fun ρ4 H4 locs4 hρ4 hP1 hP2 hX4 hS4 => ?_)
  have hl4 : lv_has ls 4 [(0, .ref b), (1, .ref (ρ3 0)), (2, .ref (ρ4 0)), (3, .int i)] := by rw [hρ4 0 (Or.inl hN2.2.2.2.2)]; exact hl3
  exact lv_icmp_eq (tgt := 1834) hx hb dL_law_1424 (by decide) (fun _ => next ρ3 ρ4 H4 locs4 ls hP1 hP2 hX4 hS4 hl4) (fun h => absurd rfl h)
set_option maxHeartbeats 4000000 in
theorem lc_40 {L : Nat} {xs : Nat → Int32} (hfl : l.flags = flags0) (C0 : lw_At p s m meth c b L xs) (hB : LB dC dI dA oa s) {S1 S2 : Sp} {d1 d2 : Dt} {i : Int32} (n1 : vp_in (i + 1) L) (n2 : vp_in (i + 2) L) (z1 : isK S1 0 (some 0) = some 0) (z2 : isK S2 9 (some 0) = some 0) {a1 : Int32} {SS1 : Sp} {dd1 : Dt} {dd2 : Dt} (h1 : Ws_sleeps 0 (xs (i + 1).toNatClampNeg) (xs (i + 2).toNatClampNeg) S1 d1 = some (a1, SS1, dd1)) (h2 : Mo_sleeps 0 (xs (i + 1).toNatClampNeg) (xs (i + 2).toNatClampNeg) S2 d2 = some (a1, dd2)) (hO1 : SS1.1.length ≤ OPQ) (hc1 : SS1.2.2.1 + S2.2.2.1 ≤ 1136687) (hc2 : SS1.2.2.2 + S2.2.2.2 ≤ 5675420) (hO2 : S2.1.length ≤ OPQ) (hd1 : SS1.2.2.1 + S2.2.2.1 ≤ 1136687) (hd2 : SS1.2.2.2 + S2.2.2.2 ≤ 5675420) (next : LW p l e s m below meth c Q dC dI dA oa b SS1 dd1 S2 dd2 i 1834) : LW p l e s m below meth c Q dC dI dA oa b S1 d1 S2 d2 i 1429 := by
  intro ρ1 ρ2 H locs ls hM1 hM2 hX9 hS hl
  have hx := C0.1
  have hb := C0.2.1
  refine lv_aload_n hx hb dL_law_1429 rfl (lv_at hl 1 rfl) ?_
  refine lw_ld (pc := 1430) C0 hS hl rfl (show Int32.ofInt 1 = 1 from by decide) n1 dL_law_1430 dL_law_1431 dL_law_1432 dL_law_1433 dL_law_1434 ?_
  refine lw_ld (pc := 1435) C0 hS hl rfl (show Int32.ofInt 2 = 2 from by decide) n2 dL_law_1435 dL_law_1436 dL_law_1437 dL_law_1438 dL_law_1439 ?_
  refine lw_call (pc := 1440) (st := [.int (xs (i + 2).toNatClampNeg), .int (xs (i + 1).toNatClampNeg), va_rf (some 0)]) (st' := []) hfl C0 hB (Ws_sleeps_fn 0 (xs (i + 1).toNatClampNeg) (xs (i + 2).toNatClampNeg) S1 d1) h1 (JC_V (n := 2) (lw_G hfl C0 hB) lw_Rm cl_X0 q1450 q1451 q1452 q137 q1453 ⟨rfl, dd_X0_sleeps⟩ ⟨by decide, by decide⟩ dL_law_1440 z1 rfl (Nat.le_of_ble_eq_true rfl)) (ok_int (l9 := [xs (i + 1).toNatClampNeg, xs (i + 2).toNatClampNeg]) (Or.inl hM1.2.2.2.2)) (fun _ h => nomatch h) hM1 hM2 hX9 hS hl.1 hO1 hc1 hc2 (fun ρ3 H3 locs3 hρ3 hN1 hN2 hX3 hS3 => ?_)
  have hl3 : lv_has ls 4 [(0, .ref b), (1, .ref (ρ3 0)), (2, .ref (ρ2 0)), (3, .int i)] := by rw [hρ3 0 (Or.inl hM1.2.2.2.2)]; exact hl
  refine lv_aload_n hx hb dL_law_1443 rfl (lv_at hl3 2 rfl) ?_
  refine lw_ld (pc := 1444) C0 hS3 hl3 rfl (show Int32.ofInt 1 = 1 from by decide) n1 dL_law_1444 dL_law_1445 dL_law_1446 dL_law_1447 dL_law_1448 ?_
  refine lw_ld (pc := 1449) C0 hS3 hl3 rfl (show Int32.ofInt 2 = 2 from by decide) n2 dL_law_1449 dL_law_1450 dL_law_1451 dL_law_1452 dL_law_1453 ?_
  refine lw_call2 (pc := 1454) (st := [.int (xs (i + 2).toNatClampNeg), .int (xs (i + 1).toNatClampNeg), va_rf (some 0), .int a1]) (st' := [.int a1]) hfl C0 hB (Mo_sleeps_fn 0 (xs (i + 1).toNatClampNeg) (xs (i + 2).toNatClampNeg) S2 d2) h2 (JC_V (n := 2) (lw_G hfl C0 hB) lw_Rm cl_X10 q2276 q2277 q2278 q152 q2279 ⟨rfl, dd_X10_sleeps⟩ ⟨by decide, by decide⟩ dL_law_1454 z2 rfl (Nat.le_of_ble_eq_true rfl)) (ok_int (l9 := [xs (i + 1).toNatClampNeg, xs (i + 2).toNatClampNeg]) (Or.inl hN2.2.2.2.2)) (fun x hx9 => by rw [List.mem_singleton.mp hx9]; exact okV_int) hN1 hN2 hX3 hS3 hl3.1 hO2 hd1 hd2 (fun ρ4 H4 locs4 hρ4 hP1 hP2 hX4 hS4 => ?_)
  have hl4 : lv_has ls 4 [(0, .ref b), (1, .ref (ρ3 0)), (2, .ref (ρ4 0)), (3, .int i)] := by rw [hρ4 0 (Or.inl hN2.2.2.2.2)]; exact hl3
  exact lv_icmp_eq (tgt := 1834) hx hb dL_law_1457 (by decide) (fun _ => next ρ3 ρ4 H4 locs4 ls hP1 hP2 hX4 hS4 hl4) (fun h => absurd rfl h)
set_option maxHeartbeats 4000000 in
theorem lc_41 {L : Nat} {xs : Nat → Int32} (hfl : l.flags = flags0) (C0 : lw_At p s m meth c b L xs) (hB : LB dC dI dA oa s) {S1 S2 : Sp} {d1 d2 : Dt} {i : Int32} (n1 : vp_in (i + 1) L) (z1 : isK S1 0 (some 0) = some 0) (z2 : isK S2 9 (some 0) = some 0) {a1 : Int32} {SS1 : Sp} {dd1 : Dt} {dd2 : Dt} (h1 : Ws_caught 0 (xs (i + 1).toNatClampNeg) S1 d1 = some (a1, SS1, dd1)) (h2 : Mo_caught 0 (xs (i + 1).toNatClampNeg) S2 d2 = some (a1, dd2)) (hO1 : SS1.1.length ≤ OPQ) (hc1 : SS1.2.2.1 + S2.2.2.1 ≤ 1136687) (hc2 : SS1.2.2.2 + S2.2.2.2 ≤ 5675420) (hO2 : S2.1.length ≤ OPQ) (hd1 : SS1.2.2.1 + S2.2.2.1 ≤ 1136687) (hd2 : SS1.2.2.2 + S2.2.2.2 ≤ 5675420) (next : LW p l e s m below meth c Q dC dI dA oa b SS1 dd1 S2 dd2 i 1834) : LW p l e s m below meth c Q dC dI dA oa b S1 d1 S2 d2 i 1462 := by
  intro ρ1 ρ2 H locs ls hM1 hM2 hX9 hS hl
  have hx := C0.1
  have hb := C0.2.1
  refine lv_aload_n hx hb dL_law_1462 rfl (lv_at hl 1 rfl) ?_
  refine lw_ld (pc := 1463) C0 hS hl rfl (show Int32.ofInt 1 = 1 from by decide) n1 dL_law_1463 dL_law_1464 dL_law_1465 dL_law_1466 dL_law_1467 ?_
  refine lw_call (pc := 1468) (st := [.int (xs (i + 1).toNatClampNeg), va_rf (some 0)]) (st' := []) hfl C0 hB (Ws_caught_fn 0 (xs (i + 1).toNatClampNeg) S1 d1) h1 (JC_V (n := 1) (lw_G hfl C0 hB) lw_Rm cl_X0 q1454 q1455 q1456 q137 q1457 ⟨rfl, dd_X0_caught⟩ ⟨by decide, by decide⟩ dL_law_1468 z1 rfl (Nat.le_of_ble_eq_true rfl)) (ok_int (l9 := [xs (i + 1).toNatClampNeg]) (Or.inl hM1.2.2.2.2)) (fun _ h => nomatch h) hM1 hM2 hX9 hS hl.1 hO1 hc1 hc2 (fun ρ3 H3 locs3 hρ3 hN1 hN2 hX3 hS3 => ?_)
  have hl3 : lv_has ls 4 [(0, .ref b), (1, .ref (ρ3 0)), (2, .ref (ρ2 0)), (3, .int i)] := by rw [hρ3 0 (Or.inl hM1.2.2.2.2)]; exact hl
  refine lv_aload_n hx hb dL_law_1471 rfl (lv_at hl3 2 rfl) ?_
  refine lw_ld (pc := 1472) C0 hS3 hl3 rfl (show Int32.ofInt 1 = 1 from by decide) n1 dL_law_1472 dL_law_1473 dL_law_1474 dL_law_1475 dL_law_1476 ?_
  refine lw_call2 (pc := 1477) (st := [.int (xs (i + 1).toNatClampNeg), va_rf (some 0), .int a1]) (st' := [.int a1]) hfl C0 hB (Mo_caught_fn 0 (xs (i + 1).toNatClampNeg) S2 d2) h2 (JC_V (n := 1) (lw_G hfl C0 hB) lw_Rm cl_X10 q2280 q2281 q2282 q152 q2283 ⟨rfl, dd_X10_caught⟩ ⟨by decide, by decide⟩ dL_law_1477 z2 rfl (Nat.le_of_ble_eq_true rfl)) (ok_int (l9 := [xs (i + 1).toNatClampNeg]) (Or.inl hN2.2.2.2.2)) (fun x hx9 => by rw [List.mem_singleton.mp hx9]; exact okV_int) hN1 hN2 hX3 hS3 hl3.1 hO2 hd1 hd2 (fun ρ4 H4 locs4 hρ4 hP1 hP2 hX4 hS4 => ?_)
  have hl4 : lv_has ls 4 [(0, .ref b), (1, .ref (ρ3 0)), (2, .ref (ρ4 0)), (3, .int i)] := by rw [hρ4 0 (Or.inl hN2.2.2.2.2)]; exact hl3
  exact lv_icmp_eq (tgt := 1834) hx hb dL_law_1480 (by decide) (fun _ => next ρ3 ρ4 H4 locs4 ls hP1 hP2 hX4 hS4 hl4) (fun h => absurd rfl h)
set_option maxHeartbeats 4000000 in
theorem lc_42 {L : Nat} {xs : Nat → Int32} (hfl : l.flags = flags0) (C0 : lw_At p s m meth c b L xs) (hB : LB dC dI dA oa s) {S1 S2 : Sp} {d1 d2 : Dt} {i : Int32} (n1 : vp_in (i + 1) L) (z1 : isK S1 0 (some 0) = some 0) (z2 : isK S2 9 (some 0) = some 0) {a1 : Int32} {SS1 : Sp} {dd1 : Dt} {dd2 : Dt} (h1 : Ws_without 0 (xs (i + 1).toNatClampNeg) S1 d1 = some (a1, SS1, dd1)) (h2 : Mo_without 0 (xs (i + 1).toNatClampNeg) S2 d2 = some (a1, dd2)) (hO1 : SS1.1.length ≤ OPQ) (hc1 : SS1.2.2.1 + S2.2.2.1 ≤ 1136687) (hc2 : SS1.2.2.2 + S2.2.2.2 ≤ 5675420) (hO2 : S2.1.length ≤ OPQ) (hd1 : SS1.2.2.1 + S2.2.2.1 ≤ 1136687) (hd2 : SS1.2.2.2 + S2.2.2.2 ≤ 5675420) (next : LW p l e s m below meth c Q dC dI dA oa b SS1 dd1 S2 dd2 i 1834) : LW p l e s m below meth c Q dC dI dA oa b S1 d1 S2 d2 i 1485 := by
  intro ρ1 ρ2 H locs ls hM1 hM2 hX9 hS hl
  have hx := C0.1
  have hb := C0.2.1
  refine lv_aload_n hx hb dL_law_1485 rfl (lv_at hl 1 rfl) ?_
  refine lw_ld (pc := 1486) C0 hS hl rfl (show Int32.ofInt 1 = 1 from by decide) n1 dL_law_1486 dL_law_1487 dL_law_1488 dL_law_1489 dL_law_1490 ?_
  refine lw_call (pc := 1491) (st := [.int (xs (i + 1).toNatClampNeg), va_rf (some 0)]) (st' := []) hfl C0 hB (Ws_without_fn 0 (xs (i + 1).toNatClampNeg) S1 d1) h1 (JC_V (n := 1) (lw_G hfl C0 hB) lw_Rm cl_X0 q1466 q1467 q1468 q137 q1469 ⟨rfl, dd_X0_without⟩ ⟨by decide, by decide⟩ dL_law_1491 z1 rfl (Nat.le_of_ble_eq_true rfl)) (ok_int (l9 := [xs (i + 1).toNatClampNeg]) (Or.inl hM1.2.2.2.2)) (fun _ h => nomatch h) hM1 hM2 hX9 hS hl.1 hO1 hc1 hc2 (fun ρ3 H3 locs3 hρ3 hN1 hN2 hX3 hS3 => ?_)
  have hl3 : lv_has ls 4 [(0, .ref b), (1, .ref (ρ3 0)), (2, .ref (ρ2 0)), (3, .int i)] := by rw [hρ3 0 (Or.inl hM1.2.2.2.2)]; exact hl
  refine lv_aload_n hx hb dL_law_1494 rfl (lv_at hl3 2 rfl) ?_
  refine lw_ld (pc := 1495) C0 hS3 hl3 rfl (show Int32.ofInt 1 = 1 from by decide) n1 dL_law_1495 dL_law_1496 dL_law_1497 dL_law_1498 dL_law_1499 ?_
  refine lw_call2 (pc := 1500) (st := [.int (xs (i + 1).toNatClampNeg), va_rf (some 0), .int a1]) (st' := [.int a1]) hfl C0 hB (Mo_without_fn 0 (xs (i + 1).toNatClampNeg) S2 d2) h2 (JC_V (n := 1) (lw_G hfl C0 hB) lw_Rm cl_X10 q2292 q2293 q2294 q152 q2295 ⟨rfl, dd_X10_without⟩ ⟨by decide, by decide⟩ dL_law_1500 z2 rfl (Nat.le_of_ble_eq_true rfl)) (ok_int (l9 := [xs (i + 1).toNatClampNeg]) (Or.inl hN2.2.2.2.2)) (fun x hx9 => by rw [List.mem_singleton.mp hx9]; exact okV_int) hN1 hN2 hX3 hS3 hl3.1 hO2 hd1 hd2 (fun ρ4 H4 locs4 hρ4 hP1 hP2 hX4 hS4 => ?_)
  have hl4 : lv_has ls 4 [(0, .ref b), (1, .ref (ρ3 0)), (2, .ref (ρ4 0)), (3, .int i)] := by rw [hρ4 0 (Or.inl hN2.2.2.2.2)]; exact hl3
  exact lv_icmp_eq (tgt := 1834) hx hb dL_law_1503 (by decide) (fun _ => next ρ3 ρ4 H4 locs4 ls hP1 hP2 hX4 hS4 hl4) (fun h => absurd rfl h)
set_option maxHeartbeats 4000000 in
theorem lc_43 {L : Nat} {xs : Nat → Int32} (hfl : l.flags = flags0) (C0 : lw_At p s m meth c b L xs) (hB : LB dC dI dA oa s) {S1 S2 : Sp} {d1 d2 : Dt} {i : Int32} (z1 : isK S1 0 (some 0) = some 0) (z2 : isK S2 9 (some 0) = some 0) {a1 : Int32} {SS1 : Sp} {dd1 : Dt} {dd2 : Dt} (h1 : Ws_blame 0 S1 d1 = some (a1, SS1, dd1)) (h2 : Mo_blame 0 S2 d2 = some (a1, dd2)) (hO1 : SS1.1.length ≤ OPQ) (hc1 : SS1.2.2.1 + S2.2.2.1 ≤ 1136687) (hc2 : SS1.2.2.2 + S2.2.2.2 ≤ 5675420) (hO2 : S2.1.length ≤ OPQ) (hd1 : SS1.2.2.1 + S2.2.2.1 ≤ 1136687) (hd2 : SS1.2.2.2 + S2.2.2.2 ≤ 5675420) (next : LW p l e s m below meth c Q dC dI dA oa b SS1 dd1 S2 dd2 i 1834) : LW p l e s m below meth c Q dC dI dA oa b S1 d1 S2 d2 i 1508 := by
  intro ρ1 ρ2 H locs ls hM1 hM2 hX9 hS hl
  have hx := C0.1
  have hb := C0.2.1
  refine lv_aload_n hx hb dL_law_1508 rfl (lv_at hl 1 rfl) ?_
  refine lw_call (pc := 1509) (st := [va_rf (some 0)]) (st' := []) hfl C0 hB (Ws_blame_fn 0  S1 d1) h1 (JC_V (n := 0) (lw_G hfl C0 hB) lw_Rm cl_X0 q1470 q1471 q1472 q137 q1473 ⟨rfl, dd_X0_blame⟩ ⟨by decide, by decide⟩ dL_law_1509 z1 rfl (Nat.le_of_ble_eq_true rfl)) (ok_int (l9 := []) (Or.inl hM1.2.2.2.2)) (fun _ h => nomatch h) hM1 hM2 hX9 hS hl.1 hO1 hc1 hc2 (fun ρ3 H3 locs3 hρ3 hN1 hN2 hX3 hS3 => ?_)
  have hl3 : lv_has ls 4 [(0, .ref b), (1, .ref (ρ3 0)), (2, .ref (ρ2 0)), (3, .int i)] := by rw [hρ3 0 (Or.inl hM1.2.2.2.2)]; exact hl
  refine lv_aload_n hx hb dL_law_1512 rfl (lv_at hl3 2 rfl) ?_
  refine lw_call2 (pc := 1513) (st := [va_rf (some 0), .int a1]) (st' := [.int a1]) hfl C0 hB (Mo_blame_fn 0  S2 d2) h2 (JC_V (n := 0) (lw_G hfl C0 hB) lw_Rm cl_X10 q2300 q2301 q2302 q152 q2303 ⟨rfl, dd_X10_blame⟩ ⟨by decide, by decide⟩ dL_law_1513 z2 rfl (Nat.le_of_ble_eq_true rfl)) (ok_int (l9 := []) (Or.inl hN2.2.2.2.2)) (fun x hx9 => by rw [List.mem_singleton.mp hx9]; exact okV_int) hN1 hN2 hX3 hS3 hl3.1 hO2 hd1 hd2 (fun ρ4 H4 locs4 hρ4 hP1 hP2 hX4 hS4 => ?_)
  have hl4 : lv_has ls 4 [(0, .ref b), (1, .ref (ρ3 0)), (2, .ref (ρ4 0)), (3, .int i)] := by rw [hρ4 0 (Or.inl hN2.2.2.2.2)]; exact hl3
  exact lv_icmp_eq (tgt := 1834) hx hb dL_law_1516 (by decide) (fun _ => next ρ3 ρ4 H4 locs4 ls hP1 hP2 hX4 hS4 hl4) (fun h => absurd rfl h)
set_option maxHeartbeats 4000000 in
theorem lc_44 {L : Nat} {xs : Nat → Int32} (hfl : l.flags = flags0) (C0 : lw_At p s m meth c b L xs) (hB : LB dC dI dA oa s) {S1 S2 : Sp} {d1 d2 : Dt} {i : Int32} (n1 : vp_in (i + 1) L) (n2 : vp_in (i + 2) L) (n3 : vp_in (i + 3) L) (z1 : isK S1 0 (some 0) = some 0) (z2 : isK S2 9 (some 0) = some 0) {a1 : Int32} {SS1 : Sp} {dd1 : Dt} {dd2 : Dt} (h1 : Ws_with 0 (xs (i + 1).toNatClampNeg) (xs (i + 2).toNatClampNeg) (xs (i + 3).toNatClampNeg) S1 d1 = some (a1, SS1, dd1)) (h2 : Mo_with 0 (xs (i + 1).toNatClampNeg) (xs (i + 2).toNatClampNeg) (xs (i + 3).toNatClampNeg) S2 d2 = some (a1, dd2)) (hO1 : SS1.1.length ≤ OPQ) (hc1 : SS1.2.2.1 + S2.2.2.1 ≤ 1136687) (hc2 : SS1.2.2.2 + S2.2.2.2 ≤ 5675420) (hO2 : S2.1.length ≤ OPQ) (hd1 : SS1.2.2.1 + S2.2.2.1 ≤ 1136687) (hd2 : SS1.2.2.2 + S2.2.2.2 ≤ 5675420) (next : LW p l e s m below meth c Q dC dI dA oa b SS1 dd1 S2 dd2 i 1834) : LW p l e s m below meth c Q dC dI dA oa b S1 d1 S2 d2 i 1521 := by
  intro ρ1 ρ2 H locs ls hM1 hM2 hX9 hS hl
  have hx := C0.1
  have hb := C0.2.1
  refine lv_aload_n hx hb dL_law_1521 rfl (lv_at hl 1 rfl) ?_
  refine lw_ld (pc := 1522) C0 hS hl rfl (show Int32.ofInt 1 = 1 from by decide) n1 dL_law_1522 dL_law_1523 dL_law_1524 dL_law_1525 dL_law_1526 ?_
  refine lw_ld (pc := 1527) C0 hS hl rfl (show Int32.ofInt 2 = 2 from by decide) n2 dL_law_1527 dL_law_1528 dL_law_1529 dL_law_1530 dL_law_1531 ?_
  refine lw_ld (pc := 1532) C0 hS hl rfl (show Int32.ofInt 3 = 3 from by decide) n3 dL_law_1532 dL_law_1533 dL_law_1534 dL_law_1535 dL_law_1536 ?_
  refine lw_call (pc := 1537) (st := [.int (xs (i + 3).toNatClampNeg), .int (xs (i + 2).toNatClampNeg), .int (xs (i + 1).toNatClampNeg), va_rf (some 0)]) (st' := []) hfl C0 hB (Ws_with_fn 0 (xs (i + 1).toNatClampNeg) (xs (i + 2).toNatClampNeg) (xs (i + 3).toNatClampNeg) S1 d1) h1 (JC_V (n := 3) (lw_G hfl C0 hB) lw_Rm cl_X0 q1474 q1475 q1476 q137 q1477 ⟨rfl, dd_X0_with⟩ ⟨by decide, by decide⟩ dL_law_1537 z1 rfl (Nat.le_of_ble_eq_true rfl)) (ok_int (l9 := [xs (i + 1).toNatClampNeg, xs (i + 2).toNatClampNeg, xs (i + 3).toNatClampNeg]) (Or.inl hM1.2.2.2.2)) (fun _ h => nomatch h) hM1 hM2 hX9 hS hl.1 hO1 hc1 hc2 (fun ρ3 H3 locs3 hρ3 hN1 hN2 hX3 hS3 => ?_)
  have hl3 : lv_has ls 4 [(0, .ref b), (1, .ref (ρ3 0)), (2, .ref (ρ2 0)), (3, .int i)] := by rw [hρ3 0 (Or.inl hM1.2.2.2.2)]; exact hl
  refine lv_aload_n hx hb dL_law_1540 rfl (lv_at hl3 2 rfl) ?_
  refine lw_ld (pc := 1541) C0 hS3 hl3 rfl (show Int32.ofInt 1 = 1 from by decide) n1 dL_law_1541 dL_law_1542 dL_law_1543 dL_law_1544 dL_law_1545 ?_
  refine lw_ld (pc := 1546) C0 hS3 hl3 rfl (show Int32.ofInt 2 = 2 from by decide) n2 dL_law_1546 dL_law_1547 dL_law_1548 dL_law_1549 dL_law_1550 ?_
  refine lw_ld (pc := 1551) C0 hS3 hl3 rfl (show Int32.ofInt 3 = 3 from by decide) n3 dL_law_1551 dL_law_1552 dL_law_1553 dL_law_1554 dL_law_1555 ?_
  refine lw_call2 (pc := 1556) (st := [.int (xs (i + 3).toNatClampNeg), .int (xs (i + 2).toNatClampNeg), .int (xs (i + 1).toNatClampNeg), va_rf (some 0), .int a1]) (st' := [.int a1]) hfl C0 hB (Mo_with_fn 0 (xs (i + 1).toNatClampNeg) (xs (i + 2).toNatClampNeg) (xs (i + 3).toNatClampNeg) S2 d2) h2 (JC_V (n := 3) (lw_G hfl C0 hB) lw_Rm cl_X10 q2304 q2305 q2306 q152 q2307 ⟨rfl, dd_X10_with⟩ ⟨by decide, by decide⟩ dL_law_1556 z2 rfl (Nat.le_of_ble_eq_true rfl)) (ok_int (l9 := [xs (i + 1).toNatClampNeg, xs (i + 2).toNatClampNeg, xs (i + 3).toNatClampNeg]) (Or.inl hN2.2.2.2.2)) (fun x hx9 => by rw [List.mem_singleton.mp hx9]; exact okV_int) hN1 hN2 hX3 hS3 hl3.1 hO2 hd1 hd2 (fun ρ4 H4 locs4 hρ4 hP1 hP2 hX4 hS4 => ?_)
  have hl4 : lv_has ls 4 [(0, .ref b), (1, .ref (ρ3 0)), (2, .ref (ρ4 0)), (3, .int i)] := by rw [hρ4 0 (Or.inl hN2.2.2.2.2)]; exact hl3
  exact lv_icmp_eq (tgt := 1834) hx hb dL_law_1559 (by decide) (fun _ => next ρ3 ρ4 H4 locs4 ls hP1 hP2 hX4 hS4 hl4) (fun h => absurd rfl h)
set_option maxHeartbeats 4000000 in
theorem lc_45 {L : Nat} {xs : Nat → Int32} (hfl : l.flags = flags0) (C0 : lw_At p s m meth c b L xs) (hB : LB dC dI dA oa s) {S1 S2 : Sp} {d1 d2 : Dt} {i : Int32} (n1 : vp_in (i + 1) L) (z1 : isK S1 0 (some 0) = some 0) (z2 : isK S2 9 (some 0) = some 0) {a1 : Int32} {SS1 : Sp} {dd1 : Dt} {dd2 : Dt} (h1 : Ws_tight 0 (xs (i + 1).toNatClampNeg) S1 d1 = some (a1, SS1, dd1)) (h2 : Mo_tight 0 (xs (i + 1).toNatClampNeg) S2 d2 = some (a1, dd2)) (hO1 : SS1.1.length ≤ OPQ) (hc1 : SS1.2.2.1 + S2.2.2.1 ≤ 1136687) (hc2 : SS1.2.2.2 + S2.2.2.2 ≤ 5675420) (hO2 : S2.1.length ≤ OPQ) (hd1 : SS1.2.2.1 + S2.2.2.1 ≤ 1136687) (hd2 : SS1.2.2.2 + S2.2.2.2 ≤ 5675420) (next : LW p l e s m below meth c Q dC dI dA oa b SS1 dd1 S2 dd2 i 1834) : LW p l e s m below meth c Q dC dI dA oa b S1 d1 S2 d2 i 1564 := by
  intro ρ1 ρ2 H locs ls hM1 hM2 hX9 hS hl
  have hx := C0.1
  have hb := C0.2.1
  refine lv_aload_n hx hb dL_law_1564 rfl (lv_at hl 1 rfl) ?_
  refine lw_ld (pc := 1565) C0 hS hl rfl (show Int32.ofInt 1 = 1 from by decide) n1 dL_law_1565 dL_law_1566 dL_law_1567 dL_law_1568 dL_law_1569 ?_
  refine lw_call (pc := 1570) (st := [.int (xs (i + 1).toNatClampNeg), va_rf (some 0)]) (st' := []) hfl C0 hB (Ws_tight_fn 0 (xs (i + 1).toNatClampNeg) S1 d1) h1 (JC_V (n := 1) (lw_G hfl C0 hB) lw_Rm cl_X0 q1491 q1492 q1493 q137 q1494 ⟨rfl, dd_X0_tight⟩ ⟨by decide, by decide⟩ dL_law_1570 z1 rfl (Nat.le_of_ble_eq_true rfl)) (ok_int (l9 := [xs (i + 1).toNatClampNeg]) (Or.inl hM1.2.2.2.2)) (fun _ h => nomatch h) hM1 hM2 hX9 hS hl.1 hO1 hc1 hc2 (fun ρ3 H3 locs3 hρ3 hN1 hN2 hX3 hS3 => ?_)
  have hl3 : lv_has ls 4 [(0, .ref b), (1, .ref (ρ3 0)), (2, .ref (ρ2 0)), (3, .int i)] := by rw [hρ3 0 (Or.inl hM1.2.2.2.2)]; exact hl
  refine lv_aload_n hx hb dL_law_1573 rfl (lv_at hl3 2 rfl) ?_
  refine lw_ld (pc := 1574) C0 hS3 hl3 rfl (show Int32.ofInt 1 = 1 from by decide) n1 dL_law_1574 dL_law_1575 dL_law_1576 dL_law_1577 dL_law_1578 ?_
  refine lw_call2 (pc := 1579) (st := [.int (xs (i + 1).toNatClampNeg), va_rf (some 0), .int a1]) (st' := [.int a1]) hfl C0 hB (Mo_tight_fn 0 (xs (i + 1).toNatClampNeg) S2 d2) h2 (JC_V (n := 1) (lw_G hfl C0 hB) lw_Rm cl_X10 q2314 q2315 q2316 q152 q2317 ⟨rfl, dd_X10_tight⟩ ⟨by decide, by decide⟩ dL_law_1579 z2 rfl (Nat.le_of_ble_eq_true rfl)) (ok_int (l9 := [xs (i + 1).toNatClampNeg]) (Or.inl hN2.2.2.2.2)) (fun x hx9 => by rw [List.mem_singleton.mp hx9]; exact okV_int) hN1 hN2 hX3 hS3 hl3.1 hO2 hd1 hd2 (fun ρ4 H4 locs4 hρ4 hP1 hP2 hX4 hS4 => ?_)
  have hl4 : lv_has ls 4 [(0, .ref b), (1, .ref (ρ3 0)), (2, .ref (ρ4 0)), (3, .int i)] := by rw [hρ4 0 (Or.inl hN2.2.2.2.2)]; exact hl3
  exact lv_icmp_eq (tgt := 1834) hx hb dL_law_1582 (by decide) (fun _ => next ρ3 ρ4 H4 locs4 ls hP1 hP2 hX4 hS4 hl4) (fun h => absurd rfl h)
set_option maxHeartbeats 4000000 in
theorem lc_46 {L : Nat} {xs : Nat → Int32} (hfl : l.flags = flags0) (C0 : lw_At p s m meth c b L xs) (hB : LB dC dI dA oa s) {S1 S2 : Sp} {d1 d2 : Dt} {i : Int32} (n1 : vp_in (i + 1) L) (z1 : isK S1 0 (some 0) = some 0) (z2 : isK S2 9 (some 0) = some 0) {a1 : Int32} {SS1 : Sp} {dd1 : Dt} {dd2 : Dt} (h1 : Ws_loose 0 (xs (i + 1).toNatClampNeg) S1 d1 = some (a1, SS1, dd1)) (h2 : Mo_loose 0 (xs (i + 1).toNatClampNeg) S2 d2 = some (a1, dd2)) (hO1 : SS1.1.length ≤ OPQ) (hc1 : SS1.2.2.1 + S2.2.2.1 ≤ 1136687) (hc2 : SS1.2.2.2 + S2.2.2.2 ≤ 5675420) (hO2 : S2.1.length ≤ OPQ) (hd1 : SS1.2.2.1 + S2.2.2.1 ≤ 1136687) (hd2 : SS1.2.2.2 + S2.2.2.2 ≤ 5675420) (next : LW p l e s m below meth c Q dC dI dA oa b SS1 dd1 S2 dd2 i 1834) : LW p l e s m below meth c Q dC dI dA oa b S1 d1 S2 d2 i 1587 := by
  intro ρ1 ρ2 H locs ls hM1 hM2 hX9 hS hl
  have hx := C0.1
  have hb := C0.2.1
  refine lv_aload_n hx hb dL_law_1587 rfl (lv_at hl 1 rfl) ?_
  refine lw_ld (pc := 1588) C0 hS hl rfl (show Int32.ofInt 1 = 1 from by decide) n1 dL_law_1588 dL_law_1589 dL_law_1590 dL_law_1591 dL_law_1592 ?_
  refine lw_call (pc := 1593) (st := [.int (xs (i + 1).toNatClampNeg), va_rf (some 0)]) (st' := []) hfl C0 hB (Ws_loose_fn 0 (xs (i + 1).toNatClampNeg) S1 d1) h1 (JC_V (n := 1) (lw_G hfl C0 hB) lw_Rm cl_X0 q1495 q1496 q1497 q137 q1498 ⟨rfl, dd_X0_loose⟩ ⟨by decide, by decide⟩ dL_law_1593 z1 rfl (Nat.le_of_ble_eq_true rfl)) (ok_int (l9 := [xs (i + 1).toNatClampNeg]) (Or.inl hM1.2.2.2.2)) (fun _ h => nomatch h) hM1 hM2 hX9 hS hl.1 hO1 hc1 hc2 (fun ρ3 H3 locs3 hρ3 hN1 hN2 hX3 hS3 => ?_)
  have hl3 : lv_has ls 4 [(0, .ref b), (1, .ref (ρ3 0)), (2, .ref (ρ2 0)), (3, .int i)] := by rw [hρ3 0 (Or.inl hM1.2.2.2.2)]; exact hl
  refine lv_aload_n hx hb dL_law_1596 rfl (lv_at hl3 2 rfl) ?_
  refine lw_ld (pc := 1597) C0 hS3 hl3 rfl (show Int32.ofInt 1 = 1 from by decide) n1 dL_law_1597 dL_law_1598 dL_law_1599 dL_law_1600 dL_law_1601 ?_
  refine lw_call2 (pc := 1602) (st := [.int (xs (i + 1).toNatClampNeg), va_rf (some 0), .int a1]) (st' := [.int a1]) hfl C0 hB (Mo_loose_fn 0 (xs (i + 1).toNatClampNeg) S2 d2) h2 (JC_V (n := 1) (lw_G hfl C0 hB) lw_Rm cl_X10 q2318 q2319 q2320 q152 q2321 ⟨rfl, dd_X10_loose⟩ ⟨by decide, by decide⟩ dL_law_1602 z2 rfl (Nat.le_of_ble_eq_true rfl)) (ok_int (l9 := [xs (i + 1).toNatClampNeg]) (Or.inl hN2.2.2.2.2)) (fun x hx9 => by rw [List.mem_singleton.mp hx9]; exact okV_int) hN1 hN2 hX3 hS3 hl3.1 hO2 hd1 hd2 (fun ρ4 H4 locs4 hρ4 hP1 hP2 hX4 hS4 => ?_)
  have hl4 : lv_has ls 4 [(0, .ref b), (1, .ref (ρ3 0)), (2, .ref (ρ4 0)), (3, .int i)] := by rw [hρ4 0 (Or.inl hN2.2.2.2.2)]; exact hl3
  exact lv_icmp_eq (tgt := 1834) hx hb dL_law_1605 (by decide) (fun _ => next ρ3 ρ4 H4 locs4 ls hP1 hP2 hX4 hS4 hl4) (fun h => absurd rfl h)
set_option maxHeartbeats 4000000 in
theorem lc_47 {L : Nat} {xs : Nat → Int32} (hfl : l.flags = flags0) (C0 : lw_At p s m meth c b L xs) (hB : LB dC dI dA oa s) {S1 S2 : Sp} {d1 d2 : Dt} {i : Int32} (n1 : vp_in (i + 1) L) (n2 : vp_in (i + 2) L) (z1 : isK S1 0 (some 0) = some 0) (z2 : isK S2 9 (some 0) = some 0) {a1 : Int32} {SS1 : Sp} {dd1 : Dt} {dd2 : Dt} (h1 : Ws_longest 0 (xs (i + 1).toNatClampNeg) (xs (i + 2).toNatClampNeg) S1 d1 = some (a1, SS1, dd1)) (h2 : Mo_longest 0 (xs (i + 1).toNatClampNeg) (xs (i + 2).toNatClampNeg) S2 d2 = some (a1, dd2)) (hO1 : SS1.1.length ≤ OPQ) (hc1 : SS1.2.2.1 + S2.2.2.1 ≤ 1136687) (hc2 : SS1.2.2.2 + S2.2.2.2 ≤ 5675420) (hO2 : S2.1.length ≤ OPQ) (hd1 : SS1.2.2.1 + S2.2.2.1 ≤ 1136687) (hd2 : SS1.2.2.2 + S2.2.2.2 ≤ 5675420) (next : LW p l e s m below meth c Q dC dI dA oa b SS1 dd1 S2 dd2 i 1834) : LW p l e s m below meth c Q dC dI dA oa b S1 d1 S2 d2 i 1610 := by
  intro ρ1 ρ2 H locs ls hM1 hM2 hX9 hS hl
  have hx := C0.1
  have hb := C0.2.1
  refine lv_aload_n hx hb dL_law_1610 rfl (lv_at hl 1 rfl) ?_
  refine lw_ld (pc := 1611) C0 hS hl rfl (show Int32.ofInt 1 = 1 from by decide) n1 dL_law_1611 dL_law_1612 dL_law_1613 dL_law_1614 dL_law_1615 ?_
  refine lw_ld (pc := 1616) C0 hS hl rfl (show Int32.ofInt 2 = 2 from by decide) n2 dL_law_1616 dL_law_1617 dL_law_1618 dL_law_1619 dL_law_1620 ?_
  refine lw_call (pc := 1621) (st := [.int (xs (i + 2).toNatClampNeg), .int (xs (i + 1).toNatClampNeg), va_rf (some 0)]) (st' := []) hfl C0 hB (Ws_longest_fn 0 (xs (i + 1).toNatClampNeg) (xs (i + 2).toNatClampNeg) S1 d1) h1 (JC_V (n := 2) (lw_G hfl C0 hB) lw_Rm cl_X0 q1499 q1500 q1501 q137 q1502 ⟨rfl, dd_X0_longest⟩ ⟨by decide, by decide⟩ dL_law_1621 z1 rfl (Nat.le_of_ble_eq_true rfl)) (ok_int (l9 := [xs (i + 1).toNatClampNeg, xs (i + 2).toNatClampNeg]) (Or.inl hM1.2.2.2.2)) (fun _ h => nomatch h) hM1 hM2 hX9 hS hl.1 hO1 hc1 hc2 (fun ρ3 H3 locs3 hρ3 hN1 hN2 hX3 hS3 => ?_)
  have hl3 : lv_has ls 4 [(0, .ref b), (1, .ref (ρ3 0)), (2, .ref (ρ2 0)), (3, .int i)] := by rw [hρ3 0 (Or.inl hM1.2.2.2.2)]; exact hl
  refine lv_aload_n hx hb dL_law_1624 rfl (lv_at hl3 2 rfl) ?_
  refine lw_ld (pc := 1625) C0 hS3 hl3 rfl (show Int32.ofInt 1 = 1 from by decide) n1 dL_law_1625 dL_law_1626 dL_law_1627 dL_law_1628 dL_law_1629 ?_
  refine lw_ld (pc := 1630) C0 hS3 hl3 rfl (show Int32.ofInt 2 = 2 from by decide) n2 dL_law_1630 dL_law_1631 dL_law_1632 dL_law_1633 dL_law_1634 ?_
  refine lw_call2 (pc := 1635) (st := [.int (xs (i + 2).toNatClampNeg), .int (xs (i + 1).toNatClampNeg), va_rf (some 0), .int a1]) (st' := [.int a1]) hfl C0 hB (Mo_longest_fn 0 (xs (i + 1).toNatClampNeg) (xs (i + 2).toNatClampNeg) S2 d2) h2 (JC_V (n := 2) (lw_G hfl C0 hB) lw_Rm cl_X10 q2322 q2323 q2324 q152 q2325 ⟨rfl, dd_X10_longest⟩ ⟨by decide, by decide⟩ dL_law_1635 z2 rfl (Nat.le_of_ble_eq_true rfl)) (ok_int (l9 := [xs (i + 1).toNatClampNeg, xs (i + 2).toNatClampNeg]) (Or.inl hN2.2.2.2.2)) (fun x hx9 => by rw [List.mem_singleton.mp hx9]; exact okV_int) hN1 hN2 hX3 hS3 hl3.1 hO2 hd1 hd2 (fun ρ4 H4 locs4 hρ4 hP1 hP2 hX4 hS4 => ?_)
  have hl4 : lv_has ls 4 [(0, .ref b), (1, .ref (ρ3 0)), (2, .ref (ρ4 0)), (3, .int i)] := by rw [hρ4 0 (Or.inl hN2.2.2.2.2)]; exact hl3
  exact lv_icmp_eq (tgt := 1834) hx hb dL_law_1638 (by decide) (fun _ => next ρ3 ρ4 H4 locs4 ls hP1 hP2 hX4 hS4 hl4) (fun h => absurd rfl h)
set_option maxHeartbeats 4000000 in
theorem lc_48 {L : Nat} {xs : Nat → Int32} (hfl : l.flags = flags0) (C0 : lw_At p s m meth c b L xs) (hB : LB dC dI dA oa s) {S1 S2 : Sp} {d1 d2 : Dt} {i : Int32} (n1 : vp_in (i + 1) L) (n2 : vp_in (i + 2) L) (z1 : isK S1 0 (some 0) = some 0) (z2 : isK S2 9 (some 0) = some 0) {a1 : Int32} {SS1 : Sp} {dd1 : Dt} {dd2 : Dt} (h1 : Ws_silent 0 (xs (i + 1).toNatClampNeg) (xs (i + 2).toNatClampNeg) S1 d1 = some (a1, SS1, dd1)) (h2 : Mo_silent 0 (xs (i + 1).toNatClampNeg) (xs (i + 2).toNatClampNeg) S2 d2 = some (a1, dd2)) (hO1 : SS1.1.length ≤ OPQ) (hc1 : SS1.2.2.1 + S2.2.2.1 ≤ 1136687) (hc2 : SS1.2.2.2 + S2.2.2.2 ≤ 5675420) (hO2 : S2.1.length ≤ OPQ) (hd1 : SS1.2.2.1 + S2.2.2.1 ≤ 1136687) (hd2 : SS1.2.2.2 + S2.2.2.2 ≤ 5675420) (next : LW p l e s m below meth c Q dC dI dA oa b SS1 dd1 S2 dd2 i 1834) : LW p l e s m below meth c Q dC dI dA oa b S1 d1 S2 d2 i 1643 := by
  intro ρ1 ρ2 H locs ls hM1 hM2 hX9 hS hl
  have hx := C0.1
  have hb := C0.2.1
  refine lv_aload_n hx hb dL_law_1643 rfl (lv_at hl 1 rfl) ?_
  refine lw_ld (pc := 1644) C0 hS hl rfl (show Int32.ofInt 1 = 1 from by decide) n1 dL_law_1644 dL_law_1645 dL_law_1646 dL_law_1647 dL_law_1648 ?_
  refine lw_ld (pc := 1649) C0 hS hl rfl (show Int32.ofInt 2 = 2 from by decide) n2 dL_law_1649 dL_law_1650 dL_law_1651 dL_law_1652 dL_law_1653 ?_
  refine lw_call (pc := 1654) (st := [.int (xs (i + 2).toNatClampNeg), .int (xs (i + 1).toNatClampNeg), va_rf (some 0)]) (st' := []) hfl C0 hB (Ws_silent_fn 0 (xs (i + 1).toNatClampNeg) (xs (i + 2).toNatClampNeg) S1 d1) h1 (JC_V (n := 2) (lw_G hfl C0 hB) lw_Rm cl_X0 q1527 q1528 q1529 q137 q1530 ⟨rfl, dd_X0_silent⟩ ⟨by decide, by decide⟩ dL_law_1654 z1 rfl (Nat.le_of_ble_eq_true rfl)) (ok_int (l9 := [xs (i + 1).toNatClampNeg, xs (i + 2).toNatClampNeg]) (Or.inl hM1.2.2.2.2)) (fun _ h => nomatch h) hM1 hM2 hX9 hS hl.1 hO1 hc1 hc2 (fun ρ3 H3 locs3 hρ3 hN1 hN2 hX3 hS3 => ?_)
  have hl3 : lv_has ls 4 [(0, .ref b), (1, .ref (ρ3 0)), (2, .ref (ρ2 0)), (3, .int i)] := by rw [hρ3 0 (Or.inl hM1.2.2.2.2)]; exact hl
  refine lv_aload_n hx hb dL_law_1657 rfl (lv_at hl3 2 rfl) ?_
  refine lw_ld (pc := 1658) C0 hS3 hl3 rfl (show Int32.ofInt 1 = 1 from by decide) n1 dL_law_1658 dL_law_1659 dL_law_1660 dL_law_1661 dL_law_1662 ?_
  refine lw_ld (pc := 1663) C0 hS3 hl3 rfl (show Int32.ofInt 2 = 2 from by decide) n2 dL_law_1663 dL_law_1664 dL_law_1665 dL_law_1666 dL_law_1667 ?_
  refine lw_call2 (pc := 1668) (st := [.int (xs (i + 2).toNatClampNeg), .int (xs (i + 1).toNatClampNeg), va_rf (some 0), .int a1]) (st' := [.int a1]) hfl C0 hB (Mo_silent_fn 0 (xs (i + 1).toNatClampNeg) (xs (i + 2).toNatClampNeg) S2 d2) h2 (JC_V (n := 2) (lw_G hfl C0 hB) lw_Rm cl_X10 q2334 q2335 q2336 q152 q2337 ⟨rfl, dd_X10_silent⟩ ⟨by decide, by decide⟩ dL_law_1668 z2 rfl (Nat.le_of_ble_eq_true rfl)) (ok_int (l9 := [xs (i + 1).toNatClampNeg, xs (i + 2).toNatClampNeg]) (Or.inl hN2.2.2.2.2)) (fun x hx9 => by rw [List.mem_singleton.mp hx9]; exact okV_int) hN1 hN2 hX3 hS3 hl3.1 hO2 hd1 hd2 (fun ρ4 H4 locs4 hρ4 hP1 hP2 hX4 hS4 => ?_)
  have hl4 : lv_has ls 4 [(0, .ref b), (1, .ref (ρ3 0)), (2, .ref (ρ4 0)), (3, .int i)] := by rw [hρ4 0 (Or.inl hN2.2.2.2.2)]; exact hl3
  exact lv_icmp_eq (tgt := 1834) hx hb dL_law_1671 (by decide) (fun _ => next ρ3 ρ4 H4 locs4 ls hP1 hP2 hX4 hS4 hl4) (fun h => absurd rfl h)
set_option maxHeartbeats 4000000 in
theorem lc_49 {L : Nat} {xs : Nat → Int32} (hfl : l.flags = flags0) (C0 : lw_At p s m meth c b L xs) (hB : LB dC dI dA oa s) {S1 S2 : Sp} {d1 d2 : Dt} {i : Int32} (n1 : vp_in (i + 1) L) (n2 : vp_in (i + 2) L) (n3 : vp_in (i + 3) L) (n4 : vp_in (i + 4) L) (n5 : vp_in (i + 5) L) (z1 : isK S1 0 (some 0) = some 0) (z2 : isK S2 9 (some 0) = some 0) {a1 : Int32} {SS1 : Sp} {dd1 : Dt} {dd2 : Dt} (h1 : Ws_inject 0 (xs (i + 1).toNatClampNeg) (xs (i + 2).toNatClampNeg) (xs (i + 3).toNatClampNeg) (xs (i + 4).toNatClampNeg) (xs (i + 5).toNatClampNeg) S1 d1 = some (a1, SS1, dd1)) (h2 : Mo_inject 0 (xs (i + 1).toNatClampNeg) (xs (i + 2).toNatClampNeg) (xs (i + 3).toNatClampNeg) (xs (i + 4).toNatClampNeg) (xs (i + 5).toNatClampNeg) S2 d2 = some (a1, dd2)) (hO1 : SS1.1.length ≤ OPQ) (hc1 : SS1.2.2.1 + S2.2.2.1 ≤ 1136687) (hc2 : SS1.2.2.2 + S2.2.2.2 ≤ 5675420) (hO2 : S2.1.length ≤ OPQ) (hd1 : SS1.2.2.1 + S2.2.2.1 ≤ 1136687) (hd2 : SS1.2.2.2 + S2.2.2.2 ≤ 5675420) (next : LW p l e s m below meth c Q dC dI dA oa b SS1 dd1 S2 dd2 i 1834) : LW p l e s m below meth c Q dC dI dA oa b S1 d1 S2 d2 i 1676 := by
  intro ρ1 ρ2 H locs ls hM1 hM2 hX9 hS hl
  have hx := C0.1
  have hb := C0.2.1
  refine lv_aload_n hx hb dL_law_1676 rfl (lv_at hl 1 rfl) ?_
  refine lw_ld (pc := 1677) C0 hS hl rfl (show Int32.ofInt 1 = 1 from by decide) n1 dL_law_1677 dL_law_1678 dL_law_1679 dL_law_1680 dL_law_1681 ?_
  refine lw_ld (pc := 1682) C0 hS hl rfl (show Int32.ofInt 2 = 2 from by decide) n2 dL_law_1682 dL_law_1683 dL_law_1684 dL_law_1685 dL_law_1686 ?_
  refine lw_ld (pc := 1687) C0 hS hl rfl (show Int32.ofInt 3 = 3 from by decide) n3 dL_law_1687 dL_law_1688 dL_law_1689 dL_law_1690 dL_law_1691 ?_
  refine lw_ld (pc := 1692) C0 hS hl rfl (show Int32.ofInt 4 = 4 from by decide) n4 dL_law_1692 dL_law_1693 dL_law_1694 dL_law_1695 dL_law_1696 ?_
  refine lw_ld (pc := 1697) C0 hS hl rfl (show Int32.ofInt 5 = 5 from by decide) n5 dL_law_1697 dL_law_1698 dL_law_1699 dL_law_1700 dL_law_1701 ?_
  refine lw_call (pc := 1702) (st := [.int (xs (i + 5).toNatClampNeg), .int (xs (i + 4).toNatClampNeg), .int (xs (i + 3).toNatClampNeg), .int (xs (i + 2).toNatClampNeg), .int (xs (i + 1).toNatClampNeg), va_rf (some 0)]) (st' := []) hfl C0 hB (Ws_inject_fn 0 (xs (i + 1).toNatClampNeg) (xs (i + 2).toNatClampNeg) (xs (i + 3).toNatClampNeg) (xs (i + 4).toNatClampNeg) (xs (i + 5).toNatClampNeg) S1 d1) h1 (JC_V (n := 5) (lw_G hfl C0 hB) lw_Rm cl_X0 q1531 q1532 q1533 q137 q1534 ⟨rfl, dd_X0_inject⟩ ⟨by decide, by decide⟩ dL_law_1702 z1 rfl (Nat.le_of_ble_eq_true rfl)) (ok_int (l9 := [xs (i + 1).toNatClampNeg, xs (i + 2).toNatClampNeg, xs (i + 3).toNatClampNeg, xs (i + 4).toNatClampNeg, xs (i + 5).toNatClampNeg]) (Or.inl hM1.2.2.2.2)) (fun _ h => nomatch h) hM1 hM2 hX9 hS hl.1 hO1 hc1 hc2 (fun ρ3 H3 locs3 hρ3 hN1 hN2 hX3 hS3 => ?_)
  have hl3 : lv_has ls 4 [(0, .ref b), (1, .ref (ρ3 0)), (2, .ref (ρ2 0)), (3, .int i)] := by rw [hρ3 0 (Or.inl hM1.2.2.2.2)]; exact hl
  refine lv_aload_n hx hb dL_law_1705 rfl (lv_at hl3 2 rfl) ?_
  refine lw_ld (pc := 1706) C0 hS3 hl3 rfl (show Int32.ofInt 1 = 1 from by decide) n1 dL_law_1706 dL_law_1707 dL_law_1708 dL_law_1709 dL_law_1710 ?_
  refine lw_ld (pc := 1711) C0 hS3 hl3 rfl (show Int32.ofInt 2 = 2 from by decide) n2 dL_law_1711 dL_law_1712 dL_law_1713 dL_law_1714 dL_law_1715 ?_
  refine lw_ld (pc := 1716) C0 hS3 hl3 rfl (show Int32.ofInt 3 = 3 from by decide) n3 dL_law_1716 dL_law_1717 dL_law_1718 dL_law_1719 dL_law_1720 ?_
  refine lw_ld (pc := 1721) C0 hS3 hl3 rfl (show Int32.ofInt 4 = 4 from by decide) n4 dL_law_1721 dL_law_1722 dL_law_1723 dL_law_1724 dL_law_1725 ?_
  refine lw_ld (pc := 1726) C0 hS3 hl3 rfl (show Int32.ofInt 5 = 5 from by decide) n5 dL_law_1726 dL_law_1727 dL_law_1728 dL_law_1729 dL_law_1730 ?_
  refine lw_call2 (pc := 1731) (st := [.int (xs (i + 5).toNatClampNeg), .int (xs (i + 4).toNatClampNeg), .int (xs (i + 3).toNatClampNeg), .int (xs (i + 2).toNatClampNeg), .int (xs (i + 1).toNatClampNeg), va_rf (some 0), .int a1]) (st' := [.int a1]) hfl C0 hB (Mo_inject_fn 0 (xs (i + 1).toNatClampNeg) (xs (i + 2).toNatClampNeg) (xs (i + 3).toNatClampNeg) (xs (i + 4).toNatClampNeg) (xs (i + 5).toNatClampNeg) S2 d2) h2 (JC_V (n := 5) (lw_G hfl C0 hB) lw_Rm cl_X10 q2338 q2339 q2340 q152 q2341 ⟨rfl, dd_X10_inject⟩ ⟨by decide, by decide⟩ dL_law_1731 z2 rfl (Nat.le_of_ble_eq_true rfl)) (ok_int (l9 := [xs (i + 1).toNatClampNeg, xs (i + 2).toNatClampNeg, xs (i + 3).toNatClampNeg, xs (i + 4).toNatClampNeg, xs (i + 5).toNatClampNeg]) (Or.inl hN2.2.2.2.2)) (fun x hx9 => by rw [List.mem_singleton.mp hx9]; exact okV_int) hN1 hN2 hX3 hS3 hl3.1 hO2 hd1 hd2 (fun ρ4 H4 locs4 hρ4 hP1 hP2 hX4 hS4 => ?_)
  have hl4 : lv_has ls 4 [(0, .ref b), (1, .ref (ρ3 0)), (2, .ref (ρ4 0)), (3, .int i)] := by rw [hρ4 0 (Or.inl hN2.2.2.2.2)]; exact hl3
  exact lv_icmp_eq (tgt := 1834) hx hb dL_law_1734 (by decide) (fun _ => next ρ3 ρ4 H4 locs4 ls hP1 hP2 hX4 hS4 hl4) (fun h => absurd rfl h)
set_option maxHeartbeats 4000000 in
theorem lc_50 {L : Nat} {xs : Nat → Int32} (hfl : l.flags = flags0) (C0 : lw_At p s m meth c b L xs) (hB : LB dC dI dA oa s) {S1 S2 : Sp} {d1 d2 : Dt} {i : Int32} (z1 : isK S1 0 (some 0) = some 0) (z2 : isK S2 9 (some 0) = some 0) {a1 : Int32} {SS1 : Sp} {dd1 : Dt} {dd2 : Dt} (h1 : Ws_undo 0 S1 d1 = some (a1, SS1, dd1)) (h2 : Mo_undo 0 S2 d2 = some (a1, dd2)) (hO1 : SS1.1.length ≤ OPQ) (hc1 : SS1.2.2.1 + S2.2.2.1 ≤ 1136687) (hc2 : SS1.2.2.2 + S2.2.2.2 ≤ 5675420) (hO2 : S2.1.length ≤ OPQ) (hd1 : SS1.2.2.1 + S2.2.2.1 ≤ 1136687) (hd2 : SS1.2.2.2 + S2.2.2.2 ≤ 5675420) (next : LW p l e s m below meth c Q dC dI dA oa b SS1 dd1 S2 dd2 i 1834) : LW p l e s m below meth c Q dC dI dA oa b S1 d1 S2 d2 i 1739 := by
  intro ρ1 ρ2 H locs ls hM1 hM2 hX9 hS hl
  have hx := C0.1
  have hb := C0.2.1
  refine lv_aload_n hx hb dL_law_1739 rfl (lv_at hl 1 rfl) ?_
  refine lw_call (pc := 1740) (st := [va_rf (some 0)]) (st' := []) hfl C0 hB (Ws_undo_fn 0  S1 d1) h1 (JC_V (n := 0) (lw_G hfl C0 hB) lw_Rm cl_X0 q1541 q1542 q1543 q137 q1544 ⟨rfl, dd_X0_undo⟩ ⟨by decide, by decide⟩ dL_law_1740 z1 rfl (Nat.le_of_ble_eq_true rfl)) (ok_int (l9 := []) (Or.inl hM1.2.2.2.2)) (fun _ h => nomatch h) hM1 hM2 hX9 hS hl.1 hO1 hc1 hc2 (fun ρ3 H3 locs3 hρ3 hN1 hN2 hX3 hS3 => ?_)
  have hl3 : lv_has ls 4 [(0, .ref b), (1, .ref (ρ3 0)), (2, .ref (ρ2 0)), (3, .int i)] := by rw [hρ3 0 (Or.inl hM1.2.2.2.2)]; exact hl
  refine lv_aload_n hx hb dL_law_1743 rfl (lv_at hl3 2 rfl) ?_
  refine lw_call2 (pc := 1744) (st := [va_rf (some 0), .int a1]) (st' := [.int a1]) hfl C0 hB (Mo_undo_fn 0  S2 d2) h2 (JC_V (n := 0) (lw_G hfl C0 hB) lw_Rm cl_X10 q2348 q2349 q2350 q152 q2351 ⟨rfl, dd_X10_undo⟩ ⟨by decide, by decide⟩ dL_law_1744 z2 rfl (Nat.le_of_ble_eq_true rfl)) (ok_int (l9 := []) (Or.inl hN2.2.2.2.2)) (fun x hx9 => by rw [List.mem_singleton.mp hx9]; exact okV_int) hN1 hN2 hX3 hS3 hl3.1 hO2 hd1 hd2 (fun ρ4 H4 locs4 hρ4 hP1 hP2 hX4 hS4 => ?_)
  have hl4 : lv_has ls 4 [(0, .ref b), (1, .ref (ρ3 0)), (2, .ref (ρ4 0)), (3, .int i)] := by rw [hρ4 0 (Or.inl hN2.2.2.2.2)]; exact hl3
  exact lv_icmp_eq (tgt := 1834) hx hb dL_law_1747 (by decide) (fun _ => next ρ3 ρ4 H4 locs4 ls hP1 hP2 hX4 hS4 hl4) (fun h => absurd rfl h)
set_option maxHeartbeats 4000000 in
theorem lc_51 {L : Nat} {xs : Nat → Int32} (hfl : l.flags = flags0) (C0 : lw_At p s m meth c b L xs) (hB : LB dC dI dA oa s) {S1 S2 : Sp} {d1 d2 : Dt} {i : Int32} (z1 : isK S1 0 (some 0) = some 0) (z2 : isK S2 9 (some 0) = some 0) {a1 : Int32} {SS1 : Sp} {dd1 : Dt} {dd2 : Dt} (h1 : Ws_anew 0 S1 d1 = some (a1, SS1, dd1)) (h2 : Mo_anew 0 S2 d2 = some (a1, dd2)) (hO1 : SS1.1.length ≤ OPQ) (hc1 : SS1.2.2.1 + S2.2.2.1 ≤ 1136687) (hc2 : SS1.2.2.2 + S2.2.2.2 ≤ 5675420) (hO2 : S2.1.length ≤ OPQ) (hd1 : SS1.2.2.1 + S2.2.2.1 ≤ 1136687) (hd2 : SS1.2.2.2 + S2.2.2.2 ≤ 5675420) (next : LW p l e s m below meth c Q dC dI dA oa b SS1 dd1 S2 dd2 i 1834) : LW p l e s m below meth c Q dC dI dA oa b S1 d1 S2 d2 i 1752 := by
  intro ρ1 ρ2 H locs ls hM1 hM2 hX9 hS hl
  have hx := C0.1
  have hb := C0.2.1
  refine lv_aload_n hx hb dL_law_1752 rfl (lv_at hl 1 rfl) ?_
  refine lw_call (pc := 1753) (st := [va_rf (some 0)]) (st' := []) hfl C0 hB (Ws_anew_fn 0  S1 d1) h1 (JC_V (n := 0) (lw_G hfl C0 hB) lw_Rm cl_X0 q1545 q1546 q1547 q137 q1548 ⟨rfl, dd_X0_anew⟩ ⟨by decide, by decide⟩ dL_law_1753 z1 rfl (Nat.le_of_ble_eq_true rfl)) (ok_int (l9 := []) (Or.inl hM1.2.2.2.2)) (fun _ h => nomatch h) hM1 hM2 hX9 hS hl.1 hO1 hc1 hc2 (fun ρ3 H3 locs3 hρ3 hN1 hN2 hX3 hS3 => ?_)
  have hl3 : lv_has ls 4 [(0, .ref b), (1, .ref (ρ3 0)), (2, .ref (ρ2 0)), (3, .int i)] := by rw [hρ3 0 (Or.inl hM1.2.2.2.2)]; exact hl
  refine lv_aload_n hx hb dL_law_1756 rfl (lv_at hl3 2 rfl) ?_
  refine lw_call2 (pc := 1757) (st := [va_rf (some 0), .int a1]) (st' := [.int a1]) hfl C0 hB (Mo_anew_fn 0  S2 d2) h2 (JC_V (n := 0) (lw_G hfl C0 hB) lw_Rm cl_X10 q2352 q2353 q2354 q152 q2355 ⟨rfl, dd_X10_anew⟩ ⟨by decide, by decide⟩ dL_law_1757 z2 rfl (Nat.le_of_ble_eq_true rfl)) (ok_int (l9 := []) (Or.inl hN2.2.2.2.2)) (fun x hx9 => by rw [List.mem_singleton.mp hx9]; exact okV_int) hN1 hN2 hX3 hS3 hl3.1 hO2 hd1 hd2 (fun ρ4 H4 locs4 hρ4 hP1 hP2 hX4 hS4 => ?_)
  have hl4 : lv_has ls 4 [(0, .ref b), (1, .ref (ρ3 0)), (2, .ref (ρ4 0)), (3, .int i)] := by rw [hρ4 0 (Or.inl hN2.2.2.2.2)]; exact hl3
  exact lv_icmp_eq (tgt := 1834) hx hb dL_law_1760 (by decide) (fun _ => next ρ3 ρ4 H4 locs4 ls hP1 hP2 hX4 hS4 hl4) (fun h => absurd rfl h)
set_option maxHeartbeats 4000000 in
theorem lc_52 {L : Nat} {xs : Nat → Int32} (hfl : l.flags = flags0) (C0 : lw_At p s m meth c b L xs) (hB : LB dC dI dA oa s) {S1 S2 : Sp} {d1 d2 : Dt} {i : Int32} (n1 : vp_in (i + 1) L) (z1 : isK S1 0 (some 0) = some 0) (z2 : isK S2 9 (some 0) = some 0) {a1 : Int32} (h1 : Ws_count 0 (xs (i + 1).toNatClampNeg) S1 d1 = some a1) (h2 : Mo_count 0 (xs (i + 1).toNatClampNeg) S2 d2 = some a1) (hO1 : S1.1.length ≤ OPQ) (hc1 : S1.2.2.1 + S2.2.2.1 ≤ 1136687) (hc2 : S1.2.2.2 + S2.2.2.2 ≤ 5675420) (hO2 : S2.1.length ≤ OPQ) (hd1 : S1.2.2.1 + S2.2.2.1 ≤ 1136687) (hd2 : S1.2.2.2 + S2.2.2.2 ≤ 5675420) (next : LW p l e s m below meth c Q dC dI dA oa b S1 d1 S2 d2 i 1834) : LW p l e s m below meth c Q dC dI dA oa b S1 d1 S2 d2 i 1765 := by
  intro ρ1 ρ2 H locs ls hM1 hM2 hX9 hS hl
  have hx := C0.1
  have hb := C0.2.1
  refine lv_aload_n hx hb dL_law_1765 rfl (lv_at hl 1 rfl) ?_
  refine lw_ld (pc := 1766) C0 hS hl rfl (show Int32.ofInt 1 = 1 from by decide) n1 dL_law_1766 dL_law_1767 dL_law_1768 dL_law_1769 dL_law_1770 ?_
  refine lw_call (pc := 1771) (st := [.int (xs (i + 1).toNatClampNeg), va_rf (some 0)]) (st' := []) hfl C0 hB (Ws_count_fn 0 (xs (i + 1).toNatClampNeg) S1 d1) h1 (JC_V (n := 1) (lw_G hfl C0 hB) lw_Rm cl_X0 q1549 q1550 q1551 q137 q1552 ⟨rfl, dd_X0_count⟩ ⟨by decide, by decide⟩ dL_law_1771 z1 rfl (Nat.le_of_ble_eq_true rfl)) (ok_int (l9 := [xs (i + 1).toNatClampNeg]) (Or.inl hM1.2.2.2.2)) (fun _ h => nomatch h) hM1 hM2 hX9 hS hl.1 hO1 hc1 hc2 (fun ρ3 H3 locs3 hρ3 hN1 hN2 hX3 hS3 => ?_)
  have hl3 : lv_has ls 4 [(0, .ref b), (1, .ref (ρ3 0)), (2, .ref (ρ2 0)), (3, .int i)] := by rw [hρ3 0 (Or.inl hM1.2.2.2.2)]; exact hl
  refine lv_aload_n hx hb dL_law_1774 rfl (lv_at hl3 2 rfl) ?_
  refine lw_ld (pc := 1775) C0 hS3 hl3 rfl (show Int32.ofInt 1 = 1 from by decide) n1 dL_law_1775 dL_law_1776 dL_law_1777 dL_law_1778 dL_law_1779 ?_
  refine lw_call2 (pc := 1780) (st := [.int (xs (i + 1).toNatClampNeg), va_rf (some 0), .int a1]) (st' := [.int a1]) hfl C0 hB (Mo_count_fn 0 (xs (i + 1).toNatClampNeg) S2 d2) h2 (JC_V (n := 1) (lw_G hfl C0 hB) lw_Rm cl_X10 q2356 q2357 q2358 q152 q2359 ⟨rfl, dd_X10_count⟩ ⟨by decide, by decide⟩ dL_law_1780 z2 rfl (Nat.le_of_ble_eq_true rfl)) (ok_int (l9 := [xs (i + 1).toNatClampNeg]) (Or.inl hN2.2.2.2.2)) (fun x hx9 => by rw [List.mem_singleton.mp hx9]; exact okV_int) hN1 hN2 hX3 hS3 hl3.1 hO2 hd1 hd2 (fun ρ4 H4 locs4 hρ4 hP1 hP2 hX4 hS4 => ?_)
  have hl4 : lv_has ls 4 [(0, .ref b), (1, .ref (ρ3 0)), (2, .ref (ρ4 0)), (3, .int i)] := by rw [hρ4 0 (Or.inl hN2.2.2.2.2)]; exact hl3
  exact lv_icmp_eq (tgt := 1834) hx hb dL_law_1783 (by decide) (fun _ => next ρ3 ρ4 H4 locs4 ls hP1 hP2 hX4 hS4 hl4) (fun h => absurd rfl h)
set_option maxHeartbeats 4000000 in
theorem lc_53 {L : Nat} {xs : Nat → Int32} (hfl : l.flags = flags0) (C0 : lw_At p s m meth c b L xs) (hB : LB dC dI dA oa s) {S1 S2 : Sp} {d1 d2 : Dt} {i : Int32} (n1 : vp_in (i + 1) L) (z1 : isK S1 0 (some 0) = some 0) (z2 : isK S2 9 (some 0) = some 0) {a1 : Int32} {SS1 : Sp} {dd1 : Dt} {dd2 : Dt} (h1 : Ws_image 0 (xs (i + 1).toNatClampNeg) S1 d1 = some (a1, SS1, dd1)) (h2 : Mo_image 0 (xs (i + 1).toNatClampNeg) S2 d2 = some (a1, dd2)) (hO1 : SS1.1.length ≤ OPQ) (hc1 : SS1.2.2.1 + S2.2.2.1 ≤ 1136687) (hc2 : SS1.2.2.2 + S2.2.2.2 ≤ 5675420) (hO2 : S2.1.length ≤ OPQ) (hd1 : SS1.2.2.1 + S2.2.2.1 ≤ 1136687) (hd2 : SS1.2.2.2 + S2.2.2.2 ≤ 5675420) (next : LW p l e s m below meth c Q dC dI dA oa b SS1 dd1 S2 dd2 i 1834) : LW p l e s m below meth c Q dC dI dA oa b S1 d1 S2 d2 i 1788 := by
  intro ρ1 ρ2 H locs ls hM1 hM2 hX9 hS hl
  have hx := C0.1
  have hb := C0.2.1
  refine lv_aload_n hx hb dL_law_1788 rfl (lv_at hl 1 rfl) ?_
  refine lw_ld (pc := 1789) C0 hS hl rfl (show Int32.ofInt 1 = 1 from by decide) n1 dL_law_1789 dL_law_1790 dL_law_1791 dL_law_1792 dL_law_1793 ?_
  refine lw_call (pc := 1794) (st := [.int (xs (i + 1).toNatClampNeg), va_rf (some 0)]) (st' := []) hfl C0 hB (Ws_image_fn 0 (xs (i + 1).toNatClampNeg) S1 d1) h1 (JC_V (n := 1) (lw_G hfl C0 hB) lw_Rm cl_X0 q1553 q1554 q1555 q137 q1556 ⟨rfl, dd_X0_image⟩ ⟨by decide, by decide⟩ dL_law_1794 z1 rfl (Nat.le_of_ble_eq_true rfl)) (ok_int (l9 := [xs (i + 1).toNatClampNeg]) (Or.inl hM1.2.2.2.2)) (fun _ h => nomatch h) hM1 hM2 hX9 hS hl.1 hO1 hc1 hc2 (fun ρ3 H3 locs3 hρ3 hN1 hN2 hX3 hS3 => ?_)
  have hl3 : lv_has ls 4 [(0, .ref b), (1, .ref (ρ3 0)), (2, .ref (ρ2 0)), (3, .int i)] := by rw [hρ3 0 (Or.inl hM1.2.2.2.2)]; exact hl
  refine lv_aload_n hx hb dL_law_1797 rfl (lv_at hl3 2 rfl) ?_
  refine lw_ld (pc := 1798) C0 hS3 hl3 rfl (show Int32.ofInt 1 = 1 from by decide) n1 dL_law_1798 dL_law_1799 dL_law_1800 dL_law_1801 dL_law_1802 ?_
  refine lw_call2 (pc := 1803) (st := [.int (xs (i + 1).toNatClampNeg), va_rf (some 0), .int a1]) (st' := [.int a1]) hfl C0 hB (Mo_image_fn 0 (xs (i + 1).toNatClampNeg) S2 d2) h2 (JC_V (n := 1) (lw_G hfl C0 hB) lw_Rm cl_X10 q1777 q1778 q1779 q152 q1780 ⟨rfl, dd_X10_image⟩ ⟨by decide, by decide⟩ dL_law_1803 z2 rfl (Nat.le_of_ble_eq_true rfl)) (ok_int (l9 := [xs (i + 1).toNatClampNeg]) (Or.inl hN2.2.2.2.2)) (fun x hx9 => by rw [List.mem_singleton.mp hx9]; exact okV_int) hN1 hN2 hX3 hS3 hl3.1 hO2 hd1 hd2 (fun ρ4 H4 locs4 hρ4 hP1 hP2 hX4 hS4 => ?_)
  have hl4 : lv_has ls 4 [(0, .ref b), (1, .ref (ρ3 0)), (2, .ref (ρ4 0)), (3, .int i)] := by rw [hρ4 0 (Or.inl hN2.2.2.2.2)]; exact hl3
  exact lv_icmp_eq (tgt := 1834) hx hb dL_law_1806 (by decide) (fun _ => next ρ3 ρ4 H4 locs4 ls hP1 hP2 hX4 hS4 hl4) (fun h => absurd rfl h)
set_option maxHeartbeats 4000000 in
theorem lc_54 {L : Nat} {xs : Nat → Int32} (hfl : l.flags = flags0) (C0 : lw_At p s m meth c b L xs) (hB : LB dC dI dA oa s) {S1 S2 : Sp} {d1 d2 : Dt} {i : Int32} (n1 : vp_in (i + 1) L) (z1 : isK S1 0 (some 0) = some 0) (z2 : isK S2 9 (some 0) = some 0) {a1 : Int32} {SS1 : Sp} {dd1 : Dt} {dd2 : Dt} (h1 : Ws_back 0 (xs (i + 1).toNatClampNeg) S1 d1 = some (a1, SS1, dd1)) (h2 : Mo_back 0 (xs (i + 1).toNatClampNeg) S2 d2 = some (a1, dd2)) (hO1 : SS1.1.length ≤ OPQ) (hc1 : SS1.2.2.1 + S2.2.2.1 ≤ 1136687) (hc2 : SS1.2.2.2 + S2.2.2.2 ≤ 5675420) (hO2 : S2.1.length ≤ OPQ) (hd1 : SS1.2.2.1 + S2.2.2.1 ≤ 1136687) (hd2 : SS1.2.2.2 + S2.2.2.2 ≤ 5675420) (next : LW p l e s m below meth c Q dC dI dA oa b SS1 dd1 S2 dd2 i 1834) : LW p l e s m below meth c Q dC dI dA oa b S1 d1 S2 d2 i 1811 := by
  intro ρ1 ρ2 H locs ls hM1 hM2 hX9 hS hl
  have hx := C0.1
  have hb := C0.2.1
  refine lv_aload_n hx hb dL_law_1811 rfl (lv_at hl 1 rfl) ?_
  refine lw_ld (pc := 1812) C0 hS hl rfl (show Int32.ofInt 1 = 1 from by decide) n1 dL_law_1812 dL_law_1813 dL_law_1814 dL_law_1815 dL_law_1816 ?_
  refine lw_call (pc := 1817) (st := [.int (xs (i + 1).toNatClampNeg), va_rf (some 0)]) (st' := []) hfl C0 hB (Ws_back_fn 0 (xs (i + 1).toNatClampNeg) S1 d1) h1 (JC_V (n := 1) (lw_G hfl C0 hB) lw_Rm cl_X0 q1579 q1580 q1581 q137 q1582 ⟨rfl, dd_X0_back⟩ ⟨by decide, by decide⟩ dL_law_1817 z1 rfl (Nat.le_of_ble_eq_true rfl)) (ok_int (l9 := [xs (i + 1).toNatClampNeg]) (Or.inl hM1.2.2.2.2)) (fun _ h => nomatch h) hM1 hM2 hX9 hS hl.1 hO1 hc1 hc2 (fun ρ3 H3 locs3 hρ3 hN1 hN2 hX3 hS3 => ?_)
  have hl3 : lv_has ls 4 [(0, .ref b), (1, .ref (ρ3 0)), (2, .ref (ρ2 0)), (3, .int i)] := by rw [hρ3 0 (Or.inl hM1.2.2.2.2)]; exact hl
  refine lv_aload_n hx hb dL_law_1820 rfl (lv_at hl3 2 rfl) ?_
  refine lw_ld (pc := 1821) C0 hS3 hl3 rfl (show Int32.ofInt 1 = 1 from by decide) n1 dL_law_1821 dL_law_1822 dL_law_1823 dL_law_1824 dL_law_1825 ?_
  refine lw_call2 (pc := 1826) (st := [.int (xs (i + 1).toNatClampNeg), va_rf (some 0), .int a1]) (st' := [.int a1]) hfl C0 hB (Mo_back_fn 0 (xs (i + 1).toNatClampNeg) S2 d2) h2 (JC_V (n := 1) (lw_G hfl C0 hB) lw_Rm cl_X10 q1785 q1786 q1787 q152 q1788 ⟨rfl, dd_X10_back⟩ ⟨by decide, by decide⟩ dL_law_1826 z2 rfl (Nat.le_of_ble_eq_true rfl)) (ok_int (l9 := [xs (i + 1).toNatClampNeg]) (Or.inl hN2.2.2.2.2)) (fun x hx9 => by rw [List.mem_singleton.mp hx9]; exact okV_int) hN1 hN2 hX3 hS3 hl3.1 hO2 hd1 hd2 (fun ρ4 H4 locs4 hρ4 hP1 hP2 hX4 hS4 => ?_)
  have hl4 : lv_has ls 4 [(0, .ref b), (1, .ref (ρ3 0)), (2, .ref (ρ4 0)), (3, .int i)] := by rw [hρ4 0 (Or.inl hN2.2.2.2.2)]; exact hl3
  exact lv_icmp_eq (tgt := 1834) hx hb dL_law_1829 (by decide) (fun _ => next ρ3 ρ4 H4 locs4 ls hP1 hP2 hX4 hS4 hl4) (fun h => absurd rfl h)
end
