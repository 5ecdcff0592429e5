/-! STRINGS: the claim's literals are opaque cells; length() and charAt(k) of them -/
set_option maxRecDepth 100000
def isT (o : Option Nat) : Option Nat := o.bind fun v => if OPQ ≤ v ∧ v < OPQ + 24 then some (v - OPQ) else none
theorem isT_at {o : Option Nat} {j : Nat} (h : isT o = some j) : j < 24 ∧ o = some (OPQ + j) := by
  cases o with
  | none => cases h
  | some v =>
    simp only [isT, Option.bind_some] at h
    split at h
    · rename_i q
      have h9 : v - OPQ = j := Option.some.inj h
      subst h9
      exact ⟨by omega, congrArg some (by omega)⟩
    · cases h
theorem isT_of {j : Nat} (h : j < 24) : isT (some (OPQ + j)) = some j := by
  simp [isT, h]
section
variable {α β : Type} {X : CT} {F : α × Sp × Dt} {Λ : β → Sp → Dt → α × Sp × Dt} {S S0 : Sp} {d d0 : Dt} {pc nN fr9 lo9 idx : Nat} {lv : List (Nat × Value)} {st : List Value} {r : Option β} {own : String} {cc : ByteArray} {rv : α → Option Value}
theorem JR_strV (G : Ctx X F own cc nN) {o : Option Nat} {j : Nat} (hv : isT o = some j) (hl : Cond.fieldLink own idx "java/lang/String" "value" "[B" ∈ lw_all) (hd : decode cc pc = .ok (.getfield idx, 3)) (hk : J X F Λ S d (pc + 3) lv (va_rf (some (OPQ + (100 + j))) :: st) r) : J X F Λ S d pc lv (va_rf o :: st) r := by
  refine J.lift (fun _ hs _ => ok_r (okO_some (Or.inr (Nat.le_add_right _ _))) (ok_t hs)) (fun _ h => h) ?_ hk
  obtain _ | ⟨p, l, e, R, s, m, args, below, meth, c, Q, dC, dI, dA, oa, A, nL, c0, s0, ρ0, n0⟩ := X
  · exact trivial
  obtain ⟨hx, hb, hml, hown, hts, hlk, hK, hT, hE, hA, hO, hRc, hRs, hfl, hoa⟩ := G
  intro ρ H locs ls cells slots hW hL k9
  obtain ⟨hj, rfl⟩ := isT_at hv
  have h3 : ρ (OPQ + j) = oa j := (hW.2.2.2 _ (Or.inr (Nat.le_add_right _ _))).trans (hoa j)
  have h4 : ρ (OPQ + (100 + j)) = oa (100 + j) := (hW.2.2.2 _ (Or.inr (Nat.le_add_right _ _))).trans (hoa _)
  rw [List.map_cons, cvV_rf, Option.map_some, h3]
  refine vk_getf hx hb (hE.1.1 j hj).2.2.1 hW.2.2.1 hown (hts _ hl) (fun x h => h) hd ?_
  have h5 := k9 ls hL
  rw [List.map_cons, cvV_rf, Option.map_some, h4] at h5
  exact h5
theorem JR_strC (G : Ctx X F own cc nN) {o : Option Nat} {j : Nat} (hv : isT o = some j) (hl : Cond.fieldLink own idx "java/lang/String" "coder" "B" ∈ lw_all) (hd : decode cc pc = .ok (.getfield idx, 3)) (hk : J X F Λ S d (pc + 3) lv (.int 0 :: st) r) : J X F Λ S d pc lv (va_rf o :: st) r := by
  refine J.lift (fun _ hs _ => ok_i (ok_t hs)) (fun _ h => h) ?_ hk
  obtain _ | ⟨p, l, e, R, s, m, args, below, meth, c, Q, dC, dI, dA, oa, A, nL, c0, s0, ρ0, n0⟩ := X
  · exact trivial
  obtain ⟨hx, hb, hml, hown, hts, hlk, hK, hT, hE, hA, hO, hRc, hRs, hfl, hoa⟩ := G
  intro ρ H locs ls cells slots hW hL k9
  obtain ⟨hj, rfl⟩ := isT_at hv
  have h3 : ρ (OPQ + j) = oa j := (hW.2.2.2 _ (Or.inr (Nat.le_add_right _ _))).trans (hoa j)
  rw [List.map_cons, cvV_rf, Option.map_some, h3]
  exact vk_getf hx hb (hE.1.1 j hj).2.1 hW.2.2.1 hown (hts _ hl) (fun x h => h) hd (k9 ls hL)
theorem JR_strN (G : Ctx X F own cc nN) {j : Nat} (hj : j < 24) (hd : decode cc pc = .ok (.arraylength, 1)) (hk : J X F Λ S d (pc + 1) lv (.int (nI (strL.getD j 0)) :: st) r) : J X F Λ S d pc lv (va_rf (some (OPQ + (100 + j))) :: st) r := by
  refine J.lift (fun _ hs _ => ok_i (ok_t hs)) (fun _ h => h) ?_ hk
  obtain _ | ⟨p, l, e, R, s, m, args, below, meth, c, Q, dC, dI, dA, oa, A, nL, c0, s0, ρ0, n0⟩ := X
  · exact trivial
  obtain ⟨hx, hb, hml, hown, hts, hlk, hK, hT, hE, hA, hO, hRc, hRs, hfl, hoa⟩ := G
  intro ρ H locs ls cells slots hW hL k9
  have h4 : ρ (OPQ + (100 + j)) = oa (100 + j) := (hW.2.2.2 _ (Or.inr (Nat.le_add_right _ _))).trans (hoa _)
  rw [List.map_cons, cvV_rf, Option.map_some, h4]
  exact va_tlen hx hb (hE.1.1 j hj).2.2.2 hW.2.2.1 rfl hd (k9 ls hL)
theorem JR_strB (G : Ctx X F own cc nN) {j : Nat} {i : Int32} (hj : j < 24) (hin : vp_in i (strL.getD j 0)) (hd : decode cc pc = .ok (.baload, 1)) (hk : J X F Λ S d (pc + 1) lv (.int ((strB.getD j []).getD i.toNatClampNeg 0) :: st) r) : J X F Λ S d pc lv (.int i :: va_rf (some (OPQ + (100 + j))) :: st) r := by
  refine J.lift (fun _ hs _ => ok_i (ok_t (ok_t hs))) (fun _ h => h) ?_ hk
  obtain _ | ⟨p, l, e, R, s, m, args, below, meth, c, Q, dC, dI, dA, oa, A, nL, c0, s0, ρ0, n0⟩ := X
  · exact trivial
  obtain ⟨hx, hb, hml, hown, hts, hlk, hK, hT, hE, hA, hO, hRc, hRs, hfl, hoa⟩ := G
  intro ρ H locs ls cells slots hW hL k9
  have h4 : ρ (OPQ + (100 + j)) = oa (100 + j) := (hW.2.2.2 _ (Or.inr (Nat.le_add_right _ _))).trans (hoa _)
  rw [List.map_cons, List.map_cons, cvV_rf, Option.map_some, h4]
  exact va_tb hx hb (hE.1.1 j hj).2.2.2 hW.2.2.1 hin rfl hd (k9 ls hL)
theorem JR_gsCS (G : Ctx X F own cc nN) (hl : Cond.fieldLink own idx "java/lang/String" "COMPACT_STRINGS" "Z" ∈ lw_all) (hd : decode cc pc = .ok (.getstatic idx, 3)) (hk : J X F Λ S d (pc + 3) lv (.int 1 :: st) r) : J X F Λ S d pc lv st r := by
  refine J.lift (fun _ hs _ => ok_i hs) (fun _ h => h) ?_ hk
  obtain _ | ⟨p, l, e, R, s, m, args, below, meth, c, Q, dC, dI, dA, oa, A, nL, c0, s0, ρ0, n0⟩ := X
  · exact trivial
  obtain ⟨hx, hb, hml, hown, hts, hlk, hK, hT, hE, hA, hO, hRc, hRs, hfl, hoa⟩ := G
  intro ρ H locs ls cells slots hW hL k9
  exact va_gets hx hb hE.2.1 hW.2.2.1 hown (hts _ hl) (fun x h => h) hd (k9 ls hL)
/-- a static of which only 'null or a reference' is known: both ways on -/
theorem J.gsQ (k : Nat) (C n ds : String) (hZ : ∀ (p : Program) (l : Launch) (e : Env) (R : Room) (s : State) (m : MethodId) (args : Array Value) (below : List Frame) (meth : Method) (c : Code) (Q : State → Prop) (dC : Nat → ClassId) (dI : Nat → Nat → Nat) (dA : Nat → ClassId) (oa : Nat → Nat) (A : Nat → Prop) (nL c0 s0 : Nat) (ρ0 : Nat → Nat) (n0 : Nat), X = some (p, l, e, R, s, m, args, below, meth, c, Q, dC, dI, dA, oa, A, nL, c0, s0, ρ0, n0) → E0 oa A s s.heap → va_Z C n ds .null A s s.heap ∨ va_Z C n ds (.ref (oa k)) A s s.heap) (G : Ctx X F own cc nN) (hl : Cond.fieldLink own idx C n ds ∈ lw_all) (hd : decode cc pc = .ok (.getstatic idx, 3)) (h1 : J X F Λ S d (pc + 3) lv (va_rf none :: st) r) (h2 : J X F Λ S d (pc + 3) lv (va_rf (some (OPQ + k)) :: st) r) : J X F Λ S d pc lv st r := by
  intro b hr hΛ
  obtain ⟨g1, g2⟩ := h1 b hr hΛ
  obtain ⟨g3, g4⟩ := h2 b hr hΛ
  refine ⟨g1, ?_⟩
  obtain _ | ⟨p, l, e, R, s, m, args, below, meth, c, Q, dC, dI, dA, oa, A, nL, c0, s0, ρ0, n0⟩ := X
  · exact trivial
  obtain ⟨hx, hb, hml, hown, hts, hlk, hK, hT, hE, hA, hO, hRc, hRs, hfl, hoa⟩ := G
  intro hC hs hl9 k1 k2 k3 ρ H locs ls hW hL
  rcases hZ _ _ _ _ _ _ _ _ _ _ _ _ _ _ _ _ _ _ _ _ _ rfl hE with z | z
  · exact va_gets hx hb z hW.2.2.1 hown (hts _ hl) (fun x h => h) hd (g2 hC (ok_r okO_none hs) hl9 k1 k2 k3 ρ H locs ls hW hL)
  · refine va_gets hx hb z hW.2.2.1 hown (hts _ hl) (fun x h => h) hd ?_
    have h4 : ρ (OPQ + k) = oa k := (hW.2.2.2 _ (Or.inr (Nat.le_add_right _ _))).trans (hoa _)
    have h5 := g4 hC (ok_r (okO_some (Or.inr (Nat.le_add_right _ _))) hs) hl9 k1 k2 k3 ρ H locs ls hW hL
    rw [List.map_cons, cvV_rf, Option.map_some, h4] at h5
    exact h5
theorem JR_gsSF (G : Ctx X F own cc nN) (hl : Cond.fieldLink own idx "jdk/internal/util/Preconditions" "SIOOBE_FORMATTER" "Ljava/util/function/BiFunction;" ∈ lw_all) (hd : decode cc pc = .ok (.getstatic idx, 3)) (h1 : J X F Λ S d (pc + 3) lv (va_rf none :: st) r) (h2 : J X F Λ S d (pc + 3) lv (va_rf (some (OPQ + 202)) :: st) r) : J X F Λ S d pc lv st r :=
  J.gsQ 202 _ _ _ (fun _ _ _ _ _ _ _ _ _ _ _ _ _ _ _ _ _ _ _ _ _ _ hE => hE.2.2.2.2.2.2) G hl hd h1 h2
theorem JR_gsUS (G : Ctx X F own cc nN) (hl : Cond.fieldLink own idx "java/lang/Throwable" "UNASSIGNED_STACK" "[Ljava/lang/StackTraceElement;" ∈ lw_all) (hd : decode cc pc = .ok (.getstatic idx, 3)) (h1 : J X F Λ S d (pc + 3) lv (va_rf none :: st) r) (h2 : J X F Λ S d (pc + 3) lv (va_rf (some (OPQ + 200)) :: st) r) : J X F Λ S d pc lv st r :=
  J.gsQ 200 _ _ _ (fun _ _ _ _ _ _ _ _ _ _ _ _ _ _ _ _ _ _ _ _ _ _ hE => hE.2.2.1) G hl hd h1 h2
theorem JR_gsSS (G : Ctx X F own cc nN) (hl : Cond.fieldLink own idx "java/lang/Throwable" "SUPPRESSED_SENTINEL" "Ljava/util/List;" ∈ lw_all) (hd : decode cc pc = .ok (.getstatic idx, 3)) (h1 : J X F Λ S d (pc + 3) lv (va_rf none :: st) r) (h2 : J X F Λ S d (pc + 3) lv (va_rf (some (OPQ + 201)) :: st) r) : J X F Λ S d pc lv st r :=
  J.gsQ 201 _ _ _ (fun _ _ _ _ _ _ _ _ _ _ _ _ _ _ _ _ _ _ _ _ _ _ hE => hE.2.2.2.1) G hl hd h1 h2
theorem JR_i2c (G : Ctx X F own cc nN) {x : Int32} (hd : decode cc pc = .ok (.i2c, 1)) (hk : J X F Λ S d (pc + 1) lv (.int (x.toUInt32 % 65536).toInt32 :: st) r) : J X F Λ S d pc lv (.int x :: st) r := by
  refine J.lift (fun _ hs _ => ok_i (ok_t hs)) (fun _ h => h) ?_ hk
  obtain _ | ⟨p, l, e, R, s, m, args, below, meth, c, Q, dC, dI, dA, oa, A, nL, c0, s0, ρ0, n0⟩ := X
  · exact trivial
  obtain ⟨hx, hb, hml, hown, hts, hlk, hK, hT, hE, hA, hO, hRc, hRs, hfl, hoa⟩ := G
  intro ρ H locs ls cells slots hW hL k9
  exact lv_i2c hx hb hd rfl (k9 ls hL)
/-- an int's return in a method of a smaller type -/
theorem JR_tret (G : Ctx X F own cc nN) {x : Int32} {ty : FieldType} {b : β} (hR : Rt X F (some ty) rv S0 d0) (hd : decode cc pc = .ok (.ireturn, 1)) (hx9 : narrow ty (.int x) = .int x) (h2 : (Λ b S d).2 = (S, d)) (h3 : rv (Λ b S d).1 = some (.int x)) : J X F Λ S d pc lv [.int x] (some b) := by
  refine J.fin hR h2 (fun _ v hv => by rw [h3] at hv; cases hv; exact okV_int) ?_
  rw [h3]
  obtain _ | ⟨p, l, e, R, s, m, args, below, meth, c, Q, dC, dI, dA, oa, A, nL, c0, s0, ρ0, n0⟩ := X
  · exact trivial
  obtain ⟨hx, hb, hml, hown, hts, hlk, hK, hT, hE, hA, hO, hRc, hRs, hfl, hoa⟩ := G
  intro hr Qc free ρ H locs ls cells slots hq hf
  exact W.zret (v := x) hx hb hr hx9 hq hf hd hlk
end
section
variable {α : Type} {X : CT} {F : α × Sp × Dt} {S : Sp} {d : Dt} {pc nN fr9 lo9 idx maxL fr lo n : Nat} {own : String} {cc bytes : ByteArray} {y : MethodName} {ret : Option FieldType} {as st' : List Value}
theorem JC_VT (G : Ctx X F own cc nN) (hRm : Rm X fr9 lo9) (h1 : Cond.methodLink own idx y ∈ lw_all) (h2 : Cond.instanceMethod y ∈ lw_all) (h3 : Cond.selects "java/lang/String" y y ∈ lw_all) (h4 : Cond.initialized "java/lang/String" ∈ lw_all) (h5 : Cond.code y bytes maxL ret ∈ lw_all) (hdd : y.cls = "java/lang/String" ∧ y.cls ≠ "java/lang/invoke/MethodHandle" ∧ y.cls ≠ "java/lang/invoke/VarHandle" ∧ (parseMethodDescriptor y.desc).map (fun d => d.parameters.length) = some n) (hroom : fr + 1 ≤ fr9 ∧ 8 + (maxL + 11) + lo ≤ lo9) (hd : decode cc pc = .ok (.invokevirtual idx, 3)) {o : Option Nat} {j : Nat} (hv : isT o = some j) (hn : as.length = n) (hst9 : st'.length ≤ 4) : JCall X S d pc 3 y (ws_ y bytes maxL ret) fr lo (va_rf o :: as) (as.reverse ++ va_rf o :: st') st' := by
  obtain _ | ⟨p, l, e, R, s, m, args, below, meth, c, Q, dC, dI, dA, oa, A, nL, c0, s0, ρ0, n0⟩ := X
  · exact trivial
  obtain ⟨hx, hb, hml, hown, hts, hlk, hK, hT, hE, hA, hO, hRc, hRs, hfl, hoa⟩ := G
  obtain ⟨hR1, hR2⟩ := hRm
  intro mc ms Qc free ρ H locs ls cells slots hM r1 r2 hW hsz hpre
  obtain ⟨hj, rfl⟩ := isT_at hv
  have h9 : ρ (OPQ + j) = oa j := (hW.2.2.2 _ (Or.inr (Nat.le_add_right _ _))).trans (hoa j)
  have hrc : ∃ cell : Cell, H[oa j]? = some cell ∧ cell.vm.isStatics = false ∧ s.vm.findClass "java/lang/String" = some cell.cls := vk_recv hE.1 hj hW.2.2.1
  rw [← h9] at hrc
  have hr : va_Run p l e R s m args below meth c H locs cells slots mc ms (F0 m pc ls ((as.reverse ++ va_rf (some (OPQ + j)) :: st').map (cvV ρ))) (st'.map (cvV ρ)) (Qc ((va_rf (some (OPQ + j)) :: as).map (cvV ρ)).toArray) free := va_runV (As := as.map (cvV ρ)) (rest := st'.map (cvV ρ)) ⟨hx, hb, hml.1, hown, hts⟩ hM (cwV n hts (lw_V h1 h2 h3 h4 h5) rfl rfl rfl hdd ⟨by rw [hR1]; exact hroom.1, by rw [hR2]; exact hroom.2⟩) ⟨FPre.blind, hrc, fun U hU hW9 => hpre U hU hW9⟩ rfl (by rw [List.length_map]; exact hn) hsz stk_cv (lv_room (cat_le _ (by rw [List.length_map]; exact hst9))) hd ⟨r1, r2⟩
  intro T hT9 X0
  obtain ⟨v9, st₀, t, T', L, g0, X', hL, e1, e2, q, stp⟩ := hr T hT9 X0
  exact ⟨v9, st₀, t, T', L, g0, X', hL, e1, e2, q, fun tg h => stp tg h⟩
end
/-! the methods -/
def Js_coder (o : Option Nat) (_ : Sp) (_ : Dt) : Option Int32 := (isT o).bind fun _ => some 0
theorem Js_coder_fn (o : Option Nat) (S : Sp) (d : Dt) : Fn yJ6_coder (ws_ yJ6_coder cJ6_coder 1 (some .byte)) 0 0 [va_rf o] S d rvI Λp (Js_coder o S d) := by
  refine Fn.ofJ (own := RJ6) (lv := [(0, va_rf o)]) (by decide +kernel) rfl (by simp [rf_cat]) (by simp [lv_args, rf_cat]) ?_
  intro X F G hRm hR hI
  unfold Js_coder
  refine J_bd (fun j hj => ?_)
  refine JR_gsCS (pc := 0) G q666 dJ6_coder_0 ?_
  refine J_eq (r' := if (1 : Int32) = 0 then none else some 0) rfl ?_
  refine JR_if_eq (pc := 3) (tgt := 13) G dJ6_coder_3 (by decide) (fun c => absurd c (by decide)) (fun c => ?_)
  refine JR_aload_n (pc := 6) (k := 0) (i := 0) (o := o) G rfl rfl dJ6_coder_6 ?_
  refine JR_strC (pc := 7) G hj q2403 dJ6_coder_7 ?_
  refine JR_goto (pc := 10) (tgt := 14) G dJ6_coder_10 (by decide) ?_
  exact JR_tret (pc := 14) G hR dJ6_coder_14 rfl rfl rfl
def Js_isLatin1 (o : Option Nat) (_ : Sp) (_ : Dt) : Option Int32 := (isT o).bind fun _ => some 1
theorem Js_isLatin1_fn (o : Option Nat) (S : Sp) (d : Dt) : Fn yJ6_isLatin1 (ws_ yJ6_isLatin1 cJ6_isLatin1 1 (some .boolean)) 0 0 [va_rf o] S d rvI Λp (Js_isLatin1 o S d) := by
  refine Fn.ofJ (own := RJ6) (lv := [(0, va_rf o)]) (by decide +kernel) rfl (by simp [rf_cat]) (by simp [lv_args, rf_cat]) ?_
  intro X F G hRm hR hI
  unfold Js_isLatin1
  refine J_bd (fun j hj => ?_)
  refine JR_gsCS (pc := 0) G q666 dJ6_isLatin1_0 ?_
  refine J_eq (r' := if (1 : Int32) = 0 then none else some 1) rfl ?_
  refine JR_if_eq (pc := 3) (tgt := 17) G dJ6_isLatin1_3 (by decide) (fun c => absurd c (by decide)) (fun c => ?_)
  refine JR_aload_n (pc := 6) (k := 0) (i := 0) (o := o) G rfl rfl dJ6_isLatin1_6 ?_
  refine JR_strC (pc := 7) G hj q2403 dJ6_isLatin1_7 ?_
  refine J_eq (r' := if ¬ (0 : Int32) = 0 then none else some 1) rfl ?_
  refine JR_if_ne (pc := 10) (tgt := 17) G dJ6_isLatin1_10 (by decide) (fun c => absurd rfl c) (fun c => ?_)
  refine JR_iconst (pc := 13) G ci_1 dJ6_isLatin1_13 ?_
  refine JR_goto (pc := 14) (tgt := 18) G dJ6_isLatin1_14 (by decide) ?_
  exact JR_zret (pc := 18) G hR dJ6_isLatin1_18 (Or.inr rfl) rfl rfl
def Js_length (o : Option Nat) (_ : Sp) (_ : Dt) : Option Int32 := (isT o).bind fun j => some (nI (strL.getD j 0))
theorem strL_shr : ∀ j, j < 24 → nI (strL.getD j 0) >>> ((0 : Int32) &&& 31) = nI (strL.getD j 0) := by decide +kernel
theorem Js_length_fn (o : Option Nat) (S : Sp) (d : Dt) : Fn yJ6_length (ws_ yJ6_length cJ6_length 1 (some .int)) 1 20 [va_rf o] S d rvI Λp (Js_length o S d) := by
  refine Fn.ofJ (own := RJ6) (lv := [(0, va_rf o)]) (by decide +kernel) rfl (by simp [rf_cat]) (by simp [lv_args, rf_cat]) ?_
  intro X F G hRm hR hI
  unfold Js_length
  refine J_bd (fun j hj => ?_)
  have hj2 := (isT_at hj).1
  refine J_eq (r' := (Js_coder o S d).bind fun r => some (nI (strL.getD j 0) >>> (r &&& 31))) (by unfold Js_coder; rw [hj]; simp only [Option.bind_some]; rw [strL_shr j hj2]) ?_
  refine JR_aload_n (pc := 0) (k := 0) (i := 0) (o := o) G rfl rfl dJ6_length_0 ?_
  refine JR_strV (pc := 1) G hj q2402 dJ6_length_1 ?_
  refine JR_strN (pc := 4) G hj2 dJ6_length_4 ?_
  refine JR_aload_n (pc := 5) (k := 0) (i := 0) (o := o) G rfl rfl dJ6_length_5 ?_
  refine JPV_I (pc := 6) (as := []) (st' := [.int (nI (strL.getD j 0))]) (o := o) G (Js_coder_fn o S d) (JC_VT (n := 0) G hRm q662 q663 q664 q155 q665 ⟨rfl, dd_J6_coder⟩ ⟨by decide, by decide⟩ dJ6_length_6 hj rfl (Nat.le_of_ble_eq_true rfl)) rfl (fun r hr => ?_)
  refine JR_ishr (pc := 9) G dJ6_length_9 ?_
  exact JR_iret (pc := 10) G hR dJ6_length_10 rfl rfl
def Js_checkIndex (p0 p1 : Int32) (S : Sp) (d : Dt) : Option Unit := (Jp_checkIndex p0 p1 none S d).bind fun _ => some ()
theorem Jp_checkIndex_any (p0 p1 : Int32) (o o' : Option Nat) (S : Sp) (d : Dt) : Jp_checkIndex p0 p1 o S d = Jp_checkIndex p0 p1 o' S d := rfl
theorem Js_checkIndex_fn (p0 p1 : Int32) (S : Sp) (d : Dt) : Fn yJ6_checkIndex (ws_ yJ6_checkIndex cJ6_checkIndex 2 none) 1 22 [.int p0, .int p1] S d rvU Λp (Js_checkIndex p0 p1 S d) := by
  refine Fn.ofJ (own := RJ6) (lv := [(0, .int p0), (1, .int p1)]) (by decide +kernel) rfl (by simp [cat_i]) (by simp [lv_args, cat_i]) ?_
  intro X F G hRm hR hI
  unfold Js_checkIndex
  refine JR_iload_n (pc := 0) (k := 0) (i := 0) G rfl rfl dJ6_checkIndex_0 ?_
  refine JR_iload_n (pc := 1) (k := 1) (i := 1) G rfl rfl dJ6_checkIndex_1 ?_
  have hgo : ∀ o : Option Nat, J X F Λp S d 5 [(0, .int p0), (1, .int p1)] [va_rf o, .int p1, .int p0] ((Jp_checkIndex p0 p1 none S d).bind fun _ => some ()) := by
    intro o
    rw [Jp_checkIndex_any p0 p1 none o S d]
    refine JPS_I (pc := 5) (as := [.int p0, .int p1, va_rf o]) (st' := []) G (Jp_checkIndex_fn p0 p1 o S d) (JC_S (n := 3) G hRm q684 q443 q151 q444 dd_J4_checkIndex ⟨by decide, by decide⟩ dJ6_checkIndex_5 rfl (Nat.le_of_ble_eq_true rfl)) rfl (fun r hr => ?_)
    refine JR_pop (pc := 8) G rfl dJ6_checkIndex_8 ?_
    exact JR_vret (pc := 9) G hR dJ6_checkIndex_9 rfl rfl
  exact JR_gsSF (pc := 2) G q682 dJ6_checkIndex_2 (hgo _) (hgo _)
/-- the char at a place of a literal -/
def strC (j k : Nat) : Int32 := (strB.getD j []).getD k 0
theorem strC_c : ∀ j, j < 24 → ∀ k, k < 10 → ((strC j k &&& 255).toUInt32 % 65536).toInt32 = strC j k ∧ narrow .char (.int (strC j k)) = .int (strC j k) := by decide +kernel
theorem strL_le : ∀ j, j < 24 → strL.getD j 0 < 10 := by decide +kernel
/-- of a literal's bytes -/
def Jsl_charAt (j : Nat) (i : Int32) (S : Sp) (d : Dt) : Option Int32 := if j < 24 then (Js_checkIndex i (nI (strL.getD j 0)) S d).bind fun _ => if i < 0 ∨ strL.getD j 0 ≤ i.toNatClampNeg then none else some (strC j i.toNatClampNeg) else none
theorem Jsl_charAt_fn (j : Nat) (i : Int32) (S : Sp) (d : Dt) : Fn yJ7_charAt (ws_ yJ7_charAt cJ7_charAt 2 (some .char)) 2 43 [va_rf (some (OPQ + (100 + j))), .int i] S d rvI Λp (Jsl_charAt j i S d) := by
  refine Fn.ofJ (own := RJ7) (lv := [(0, va_rf (some (OPQ + (100 + j)))), (1, .int i)]) (by decide +kernel) rfl (by simp [cat_i, rf_cat]) (by simp [lv_args, cat_i, rf_cat]) ?_
  intro X F G hRm hR hI
  unfold Jsl_charAt
  refine J_if (fun hj => ?_) (fun _ => J_no)
  refine JR_iload_n (pc := 0) (k := 1) (i := 1) G rfl rfl dJ7_charAt_0 ?_
  refine JR_aload_n (pc := 1) (k := 0) (i := 0) (o := some (OPQ + (100 + j))) G rfl rfl dJ7_charAt_1 ?_
  refine JR_strN (pc := 2) G hj dJ7_charAt_2 ?_
  refine JPS_U (pc := 3) (as := [.int i, .int (nI (strL.getD j 0))]) (st' := []) G (Js_checkIndex_fn i (nI (strL.getD j 0)) S d) (JC_S (n := 2) G hRm q679 q680 q155 q681 dd_J6_checkIndex ⟨by decide, by decide⟩ dJ7_charAt_3 rfl (Nat.le_of_ble_eq_true rfl)) rfl (fun _ hr => ?_)
  refine J_if (fun _ => J_no) (fun hin => ?_)
  refine JR_aload_n (pc := 6) (k := 0) (i := 0) (o := some (OPQ + (100 + j))) G rfl rfl dJ7_charAt_6 ?_
  refine JR_iload_n (pc := 7) (k := 1) (i := 1) G rfl rfl dJ7_charAt_7 ?_
  refine JR_strB (pc := 8) G hj hin dJ7_charAt_8 ?_
  refine JR_sipush (pc := 9) (v := 255) G (by decide) dJ7_charAt_9 ?_
  refine JR_iand (pc := 12) G dJ7_charAt_12 ?_
  refine JR_i2c (pc := 13) G dJ7_charAt_13 ?_
  have hlt : i.toNatClampNeg < 10 := by
    have h1 := strL_le j hj
    have h2 : ¬ strL.getD j 0 ≤ i.toNatClampNeg := fun q => hin (Or.inr q)
    omega
  have hc := strC_c j hj _ hlt
  refine J_stk (st' := [.int (strC j i.toNatClampNeg)]) (by rw [← hc.1]; rfl) ?_
  exact JR_tret (pc := 14) G hR dJ7_charAt_14 hc.2 rfl rfl
def Js_charAt (o : Option Nat) (i : Int32) (S : Sp) (d : Dt) : Option Int32 := (isT o).bind fun j => (Js_isLatin1 o S d).bind fun r => if r = 0 then none else (Jsl_charAt j i S d).bind fun c => some c
theorem Jsl_nar {j : Nat} {i : Int32} {S : Sp} {d : Dt} {c : Int32} (h : Jsl_charAt j i S d = some c) : narrow .char (.int c) = .int c := by
  unfold Jsl_charAt at h
  split at h
  · rename_i hj
    cases hq : Js_checkIndex i (nI (strL.getD j 0)) S d with
    | none => rw [hq] at h; cases h
    | some u =>
      rw [hq, Option.bind_some] at h
      split at h
      · cases h
      · rename_i hin
        have hlt : i.toNatClampNeg < 10 := by
          have h1 := strL_le j hj
          have h2 : ¬ strL.getD j 0 ≤ i.toNatClampNeg := fun q => hin (Or.inr q)
          omega
        have h9 : strC j i.toNatClampNeg = c := Option.some.inj h
        rw [← h9]
        exact (strC_c j hj _ hlt).2
  · cases h
theorem Js_charAt_fn (o : Option Nat) (i : Int32) (S : Sp) (d : Dt) : Fn yJ6_charAt (ws_ yJ6_charAt cJ6_charAt 2 (some .char)) 3 64 [va_rf o, .int i] S d rvI Λp (Js_charAt o i S d) := by
  refine Fn.ofJ (own := RJ6) (lv := [(0, va_rf o), (1, .int i)]) (by decide +kernel) rfl (by simp [cat_i, rf_cat]) (by simp [lv_args, cat_i, rf_cat]) ?_
  intro X F G hRm hR hI
  unfold Js_charAt
  refine J_bd (fun j hj => ?_)
  refine JR_aload_n (pc := 0) (k := 0) (i := 0) (o := o) G rfl rfl dJ6_charAt_0 ?_
  refine JPV_I (pc := 1) (as := []) (st' := []) (o := o) G (Js_isLatin1_fn o S d) (JC_VT (n := 0) G hRm q672 q673 q674 q155 q675 ⟨rfl, dd_J6_isLatin1⟩ ⟨by decide, by decide⟩ dJ6_charAt_1 hj rfl (Nat.le_of_ble_eq_true rfl)) rfl (fun r hr => ?_)
  refine JR_if_eq (pc := 4) (tgt := 16) G dJ6_charAt_4 (by decide) (fun _ => J_no) (fun c => ?_)
  refine JR_aload_n (pc := 7) (k := 0) (i := 0) (o := o) G rfl rfl dJ6_charAt_7 ?_
  refine JR_strV (pc := 8) G hj q2402 dJ6_charAt_8 ?_
  refine JR_iload_n (pc := 11) (k := 1) (i := 1) G rfl rfl dJ6_charAt_11 ?_
  refine JPS_I (pc := 12) (as := [va_rf (some (OPQ + (100 + j))), .int i]) (st' := []) G (Jsl_charAt_fn j i S d) (JC_S (n := 2) G hRm q676 q677 q156 q678 dd_J7_charAt ⟨by decide, by decide⟩ dJ6_charAt_12 rfl (Nat.le_of_ble_eq_true rfl)) rfl (fun c2 hc2 => ?_)
  exact JR_tret (pc := 15) G hR dJ6_charAt_15 (Jsl_nar hc2) rfl rfl
