/-! CALLS THAT RETURN OR THROW; METHODS WITH HANDLERS; RUNGS -/
set_option maxRecDepth 100000
section
variable {α : Type} {X : CT} {F : α × Sp × Dt} {S : Sp} {d : Dt} {pc nN fr9 lo9 idx maxL fr lo n : Nat} {own : String} {cc bytes : ByteArray} {y : MethodName} {ret : Option FieldType} {as st' : List Value}
theorem JXC_V (G : Ctx X F own cc nN) (hRm : Rm X fr9 lo9) {C : String} {T : u_T} {N cn : Nat} (hc : mmCl[cn]? = some (C, T, N)) (h1 : Cond.methodLink own idx y ∈ lw_all) (h2 : Cond.instanceMethod y ∈ lw_all) (h3 : Cond.selects C y y ∈ lw_all) (h4 : Cond.initialized C ∈ lw_all) (h5 : Cond.code y bytes maxL ret ∈ lw_all) (hdd : y.cls = C ∧ y.cls ≠ "java/lang/invoke/MethodHandle" ∧ y.cls ≠ "java/lang/invoke/VarHandle" ∧ (parseMethodDescriptor y.desc).map (fun d => d.parameters.length) = some n) (hroom : fr + 1 ≤ fr9 ∧ 8 + (maxL + 11) + lo ≤ lo9) (hd : decode cc pc = .ok (.invokevirtual idx, 3)) {o : Option Nat} {v : Nat} (hv : isK S cn o = some v) (hn : as.length = n) (hst9 : st'.length ≤ 4) : JCallX X S d pc y (ws_ y bytes maxL ret) fr lo (va_rf o :: as) (as.reverse ++ va_rf o :: st') st' := by
  obtain _ | ⟨p, l, e, R, s, m, args, below, meth, c, Q, dC, dI, dA, oa, A, nL, c0, s0, ρ0, n0⟩ := X
  · exact trivial
  obtain ⟨hx, hb, hml, hown, hts, hlk, hK, hT, hE, hA, hO, hRc, hRs, hfl, hoa⟩ := G
  obtain ⟨hR1, hR2⟩ := hRm
  intro mc ms Qc XC free ρ H locs ls cells slots hM r1 r2 hW hsz hpre
  obtain ⟨rfl, n9, hs⟩ := isK_at hv
  obtain ⟨hc1, hc2⟩ := mm_cl hc
  have hws := mmW_get (dA := dA) (ρ := ρ) (d := d) hs
  rw [mmE_obj hc1] at hws
  have hr : vq_Run p l e R s m args below meth c H locs cells slots mc ms (F0 m pc ls ((as.reverse ++ va_rf (some v) :: st').map (cvV ρ))) (st'.map (cvV ρ)) (Qc ((va_rf (some v) :: as).map (cvV ρ)).toArray) XC free := vq_runV (As := as.map (cvV ρ)) (rest := st'.map (cvV ρ)) ⟨hx, hb, hml.1, hown, hts⟩ hM (cwV n hts (lw_V h1 h2 h3 h4 h5) rfl rfl rfl hdd ⟨by rw [hR1]; exact hroom.1, by rw [hR2]; exact hroom.2⟩) ⟨FPre.blind, va_recv hK hW.1 hc hws, fun U hU hW9 => hpre U hU hW9⟩ rfl (by rw [List.length_map]; exact hn) hsz stk_cv (lv_room (cat_le _ (by rw [List.length_map]; exact hst9))) hd ⟨r1, r2⟩
  exact hr
theorem JXC_Vs (G : Ctx X F own cc nN) (hRm : Rm X fr9 lo9) {C : String} {T : u_T} {N cn : Nat} (hc : mmCl[cn]? = some (C, T, N)) (h1 : Cond.methodLink own idx y ∈ lw_all) (h2 : Cond.instanceMethod y ∈ lw_all) (h3 : Cond.selects C y y ∈ lw_all) (h4 : Cond.initialized C ∈ lw_all) (h5 : Cond.code y bytes maxL ret ∈ lw_all) (hdd : y.cls = C ∧ y.cls ≠ "java/lang/invoke/MethodHandle" ∧ y.cls ≠ "java/lang/invoke/VarHandle" ∧ (parseMethodDescriptor y.desc).map (fun d => d.parameters.length) = some n) (hroom : fr + 1 ≤ fr9 ∧ 8 + (maxL + 11) + lo ≤ lo9) (hd : decode cc pc = .ok (.invokevirtual idx, 3)) {o : Option Nat} {v : Nat} (hv : isK S cn o = some v) (hn : as.length = n) (hst9 : (st'.map Value.category).sum ≤ 8) : JCallX X S d pc y (ws_ y bytes maxL ret) fr lo (va_rf o :: as) (as.reverse ++ va_rf o :: st') st' := by
  obtain _ | ⟨p, l, e, R, s, m, args, below, meth, c, Q, dC, dI, dA, oa, A, nL, c0, s0, ρ0, n0⟩ := X
  · exact trivial
  obtain ⟨hx, hb, hml, hown, hts, hlk, hK, hT, hE, hA, hO, hRc, hRs, hfl, hoa⟩ := G
  obtain ⟨hR1, hR2⟩ := hRm
  intro mc ms Qc XC free ρ H locs ls cells slots hM r1 r2 hW hsz hpre
  obtain ⟨rfl, n9, hs⟩ := isK_at hv
  obtain ⟨hc1, hc2⟩ := mm_cl hc
  have hws := mmW_get (dA := dA) (ρ := ρ) (d := d) hs
  rw [mmE_obj hc1] at hws
  have hr : vq_Run p l e R s m args below meth c H locs cells slots mc ms (F0 m pc ls ((as.reverse ++ va_rf (some v) :: st').map (cvV ρ))) (st'.map (cvV ρ)) (Qc ((va_rf (some v) :: as).map (cvV ρ)).toArray) XC free := vq_runV (As := as.map (cvV ρ)) (rest := st'.map (cvV ρ)) ⟨hx, hb, hml.1, hown, hts⟩ hM (cwV n hts (lw_V h1 h2 h3 h4 h5) rfl rfl rfl hdd ⟨by rw [hR1]; exact hroom.1, by rw [hR2]; exact hroom.2⟩) ⟨FPre.blind, va_recv hK hW.1 hc hws, fun U hU hW9 => hpre U hU hW9⟩ rfl (by rw [List.length_map]; exact hn) hsz stk_cv (lv_room (by rw [cat_cv]; exact hst9)) hd ⟨r1, r2⟩
  exact hr
theorem JXC_O (G : Ctx X F own cc nN) (hRm : Rm X fr9 lo9) {C : String} {T : u_T} {N cn : Nat} (hc : mmCl[cn]? = some (C, T, N)) {x : MethodName} {owner : String} {b0 : ByteArray} {m0 : Nat} {r0 : Option FieldType} (h1 : Cond.methodLink own idx x ∈ lw_all) (h2 : Cond.sameMethod x.cls owner x.name x.desc ∈ lw_all) (h3 : Cond.instanceMethod ⟨owner, x.name, x.desc⟩ ∈ lw_all) (h4 : Cond.selects C x y ∈ lw_all) (h5 : Cond.instanceMethod y ∈ lw_all) (h6 : Cond.initialized y.cls ∈ lw_all) (h7 : Cond.code y bytes maxL ret ∈ lw_all) (h0 : Cond.code ⟨owner, x.name, x.desc⟩ b0 m0 r0 ∈ lw_all) (hdd : owner ≠ "java/lang/invoke/MethodHandle" ∧ owner ≠ "java/lang/invoke/VarHandle" ∧ (parseMethodDescriptor x.desc).map (fun d => d.parameters.length) = some n) (hroom : fr + 1 ≤ fr9 ∧ 8 + (maxL + 11) + lo ≤ lo9) (hd : decode cc pc = .ok (.invokevirtual idx, 3)) {o : Option Nat} {v : Nat} (hv : isK S cn o = some v) (hn : as.length = n) (hst9 : st'.length ≤ 4) : JCallX X S d pc y (ws_ y bytes maxL ret) fr lo (va_rf o :: as) (as.reverse ++ va_rf o :: st') st' := by
  obtain _ | ⟨p, l, e, R, s, m, args, below, meth, c, Q, dC, dI, dA, oa, A, nL, c0, s0, ρ0, n0⟩ := X
  · exact trivial
  obtain ⟨hx, hb, hml, hown, hts, hlk, hK, hT, hE, hA, hO, hRc, hRs, hfl, hoa⟩ := G
  obtain ⟨hR1, hR2⟩ := hRm
  intro mc ms Qc XC free ρ H locs ls cells slots hM r1 r2 hW hsz hpre
  obtain ⟨rfl, n9, hs⟩ := isK_at hv
  obtain ⟨hc1, hc2⟩ := mm_cl hc
  have hws := mmW_get (dA := dA) (ρ := ρ) (d := d) hs
  rw [mmE_obj hc1] at hws
  have hr : vq_Run p l e R s m args below meth c H locs cells slots mc ms (F0 m pc ls ((as.reverse ++ va_rf (some v) :: st').map (cvV ρ))) (st'.map (cvV ρ)) (Qc ((va_rf (some v) :: as).map (cvV ρ)).toArray) XC free := vq_runU (As := as.map (cvV ρ)) (rest := st'.map (cvV ρ)) ⟨hx, hb, hml.1, hown, hts⟩ hM (va_cwO n hts (lw_app (List.forall_mem_cons.mpr ⟨h1, List.forall_mem_cons.mpr ⟨h2, List.forall_mem_cons.mpr ⟨h3, List.forall_mem_cons.mpr ⟨h4, List.forall_mem_cons.mpr ⟨h5, List.forall_mem_cons.mpr ⟨h6, fun _ h => nomatch h⟩⟩⟩⟩⟩⟩) (lw_meth h7)) rfl rfl rfl h0 hdd ⟨by rw [hR1]; exact hroom.1, by rw [hR2]; exact hroom.2⟩) ⟨FPre.blind, va_recv hK hW.1 hc hws, fun U hU hW9 => hpre U hU hW9⟩ rfl (by rw [List.length_map]; exact hn) hsz stk_cv (lv_room (cat_le _ (by rw [List.length_map]; exact hst9))) hd ⟨r1, r2⟩
  exact hr
theorem JC_VW (G : Ctx X F own cc nN) (hRm : Rm X fr9 lo9) {hh : List (Nat × Nat × Nat × Nat)} {C : String} {T : u_T} {N cn : Nat} (hc : mmCl[cn]? = some (C, T, N)) (h1 : Cond.methodLink own idx y ∈ lw_all) (h2 : Cond.instanceMethod y ∈ lw_all) (h3 : Cond.selects C y y ∈ lw_all) (h4 : Cond.initialized C ∈ lw_all) (h5 : Cond.codeWith y bytes maxL ret hh ∈ lw_all) (hdd : y.cls = C ∧ y.cls ≠ "java/lang/invoke/MethodHandle" ∧ y.cls ≠ "java/lang/invoke/VarHandle" ∧ (parseMethodDescriptor y.desc).map (fun d => d.parameters.length) = some n) (hroom : fr + 1 ≤ fr9 ∧ 8 + (maxL + 11) + lo ≤ lo9) (hd : decode cc pc = .ok (.invokevirtual idx, 3)) {o : Option Nat} {v : Nat} (hv : isK S cn o = some v) (hn : as.length = n) (hst9 : st'.length ≤ 4) : JCall X S d pc 3 y (wsW_ y bytes maxL ret hh) fr lo (va_rf o :: as) (as.reverse ++ va_rf o :: st') st' := by
  obtain _ | ⟨p, l, e, R, s, m, args, below, meth, c, Q, dC, dI, dA, oa, A, nL, c0, s0, ρ0, n0⟩ := X
  · exact trivial
  obtain ⟨hx, hb, hml, hown, hts, hlk, hK, hT, hE, hA, hO, hRc, hRs, hfl, hoa⟩ := G
  obtain ⟨hR1, hR2⟩ := hRm
  intro mc ms Qc free ρ H locs ls cells slots hM r1 r2 hW hsz hpre
  obtain ⟨rfl, n9, hs⟩ := isK_at hv
  obtain ⟨hc1, hc2⟩ := mm_cl hc
  have hws := mmW_get (dA := dA) (ρ := ρ) (d := d) hs
  rw [mmE_obj hc1] at hws
  have hr : va_Run p l e R s m args below meth c H locs cells slots mc ms (F0 m pc ls ((as.reverse ++ va_rf (some v) :: st').map (cvV ρ))) (st'.map (cvV ρ)) (Qc ((va_rf (some v) :: as).map (cvV ρ)).toArray) free := vq_runVW (hh := hh) (As := as.map (cvV ρ)) (rest := st'.map (cvV ρ)) ⟨hx, hb, hml.1, hown, hts⟩ hM (vq_cwVW n hts (lw_VW h1 h2 h3 h4 h5) rfl rfl rfl hdd ⟨by rw [hR1]; exact hroom.1, by rw [hR2]; exact hroom.2⟩) ⟨FPre.blind, va_recv hK hW.1 hc hws, fun U hU hW9 => hpre U hU hW9⟩ rfl (by rw [List.length_map]; exact hn) hsz stk_cv (lv_room (cat_le _ (by rw [List.length_map]; exact hst9))) hd ⟨r1, r2⟩
  intro T hT9 X0
  obtain ⟨v9, st₀, t, T', L, g0, X', hL, e1, e2, q, stp⟩ := hr T hT9 X0
  exact ⟨v9, st₀, t, T', L, g0, X', hL, e1, e2, q, fun tg h => stp tg h⟩
theorem JC_Is (G : Ctx X F own cc nN) (hRm : Rm X fr9 lo9) (h1 : Cond.methodLink own idx y ∈ lw_all) (h2 : Cond.instanceMethod y ∈ lw_all) (h3 : Cond.initialized y.cls ∈ lw_all) (h4 : Cond.code y bytes maxL none ∈ lw_all) (hy1 : y.name = "<init>") (hdd : y.cls ≠ "java/lang/invoke/MethodHandle" ∧ y.cls ≠ "java/lang/invoke/VarHandle" ∧ (parseMethodDescriptor y.desc).map (fun d => d.parameters.length) = some n) (hroom : fr + 1 ≤ fr9 ∧ 8 + (maxL + 11) + lo ≤ lo9) (hd : decode cc pc = .ok (.invokespecial idx, 3)) {v : Nat} (hn : as.length = n) (hst9 : (st'.map Value.category).sum ≤ 8) : JCall X S d pc 3 y (ws_ y bytes maxL none) fr lo (va_rf (some v) :: as) (as.reverse ++ va_rf (some v) :: st') st' := by
  obtain _ | ⟨p, l, e, R, s, m, args, below, meth, c, Q, dC, dI, dA, oa, A, nL, c0, s0, ρ0, n0⟩ := X
  · exact trivial
  obtain ⟨hx, hb, hml, hown, hts, hlk, hK, hT, hE, hA, hO, hRc, hRs, hfl, hoa⟩ := G
  obtain ⟨hR1, hR2⟩ := hRm
  intro mc ms Qc free ρ H locs ls cells slots hM r1 r2 hW hsz hpre
  have hr : va_Run p l e R s m args below meth c H locs cells slots mc ms (F0 m pc ls ((as.reverse ++ va_rf (some v) :: st').map (cvV ρ))) (st'.map (cvV ρ)) (Qc ((va_rf (some v) :: as).map (cvV ρ)).toArray) free := va_runI (As := as.map (cvV ρ)) (rest := st'.map (cvV ρ)) ⟨hx, hb, hml.1, hown, hts⟩ hM (cwI n hts (lw_meth h4) rfl rfl rfl (hts _ h3) (hts _ h1) (hts _ h2) hy1 hdd ⟨by rw [hR1]; exact hroom.1, by rw [hR2]; exact hroom.2⟩) ⟨FPre.blind, fun U hU hW9 => hpre U hU hW9⟩ rfl (by rw [List.length_map]; exact hn) hsz stk_cv (lv_room (by rw [cat_cv]; exact hst9)) hd ⟨r1, r2⟩
  intro T hT9 X0
  obtain ⟨v9, st₀, t, T', L, g0, X', hL, e1, e2, q, stp⟩ := hr T hT9 X0
  exact ⟨v9, st₀, t, T', L, g0, X', hL, e1, e2, q, fun tg h => stp tg h⟩
theorem JC_INs (G : Ctx X F own cc nN) (hRm : Rm X fr9 lo9) {host : String} (h1 : Cond.methodLinkNest own idx y host ∈ lw_tbl) (h2 : Cond.instanceMethod y ∈ lw_all) (h3 : Cond.initialized y.cls ∈ lw_all) (h4 : Cond.code y bytes maxL none ∈ lw_all) (hy1 : y.name = "<init>") (hdd : y.cls ≠ "java/lang/invoke/MethodHandle" ∧ y.cls ≠ "java/lang/invoke/VarHandle" ∧ (parseMethodDescriptor y.desc).map (fun d => d.parameters.length) = some n) (hroom : fr + 1 ≤ fr9 ∧ 8 + (maxL + 11) + lo ≤ lo9) (hd : decode cc pc = .ok (.invokespecial idx, 3)) {v : Nat} (hn : as.length = n) (hst9 : (st'.map Value.category).sum ≤ 8) : JCall X S d pc 3 y (ws_ y bytes maxL none) fr lo (va_rf (some v) :: as) (as.reverse ++ va_rf (some v) :: st') st' := by
  obtain _ | ⟨p, l, e, R, s, m, args, below, meth, c, Q, dC, dI, dA, oa, A, nL, c0, s0, ρ0, n0⟩ := X
  · exact trivial
  obtain ⟨hx, hb, hml, hown, hts, hlk, hK, hT, hE, hA, hO, hRc, hRs, hfl, hoa⟩ := G
  obtain ⟨hR1, hR2⟩ := hRm
  intro mc ms Qc free ρ H locs ls cells slots hM r1 r2 hW hsz hpre
  have hr : va_Run p l e R s m args below meth c H locs cells slots mc ms (F0 m pc ls ((as.reverse ++ va_rf (some v) :: st').map (cvV ρ))) (st'.map (cvV ρ)) (Qc ((va_rf (some v) :: as).map (cvV ρ)).toArray) free := va_runIN (As := as.map (cvV ρ)) (rest := st'.map (cvV ρ)) ⟨hx, hb, hml.1, hown, hts⟩ hM ⟨va_cnB n hts (lw_meth h4) rfl rfl rfl (tb_word hT h1 rfl) (hts _ h3) hdd ⟨by rw [hR1]; exact hroom.1, by rw [hR2]; exact hroom.2⟩, hy1, hts _ h2⟩ ⟨FPre.blind, fun U hU hW9 => hpre U hU hW9⟩ rfl (by rw [List.length_map]; exact hn) hsz stk_cv (lv_room (by rw [cat_cv]; exact hst9)) hd ⟨r1, r2⟩
  intro T hT9 X0
  obtain ⟨v9, st₀, t, T', L, g0, X', hL, e1, e2, q, stp⟩ := hr T hT9 X0
  exact ⟨v9, st₀, t, T', L, g0, X', hL, e1, e2, q, fun tg h => stp tg h⟩
end
section
variable {α β γ : Type} {X : CT} {F : α × Sp × Dt} {Λ : β → Sp → Dt → α × Sp × Dt} {S S0 : Sp} {d d0 : Dt} {pc nN n fr lo : Nat} {lv : List (Nat × Value)} {st st' as : List Value} {own EX : String} {cc : ByteArray} {y : MethodName} {ws : List Cond} {o : Option Nat} {ret : Option FieldType}
theorem JXV_I (G : Ctx X F own cc nN) {rc : Option ((Int32 ⊕ Nat) × Sp × Dt)} {f9 : Int32 → Sp → Dt → Option β} {g9 : Nat → Sp → Dt → Option β} (hF : FnX y ws fr lo (va_rf o :: as) S d rvI EX rc) (row : JCallX X S d pc y ws fr lo (va_rf o :: as) (as.reverse ++ va_rf o :: st') st') (hs9 : st = as.reverse ++ va_rf o :: st') (hΛ : ∀ b S' d', Λ b S' d' = Λ b S d) (hk : ∀ a S' d', rc = some (.inl a, S', d') → J X F Λ S' d' (pc + 3) lv (.int a :: st') (f9 a S' d')) (hx : ∀ v S' d', rc = some (.inr v, S', d') → JX X F Λ S' d' pc lv st' v EX (g9 v S' d')) : J X F Λ S d pc lv st (bindX rc f9 g9) := by
  subst hs9
  exact J.callX G hF row (fun h => (sk_V h).1) (fun h => (sk_V h).2) hΛ hk hx
theorem JXV_R (G : Ctx X F own cc nN) {rc : Option (((Option Nat) ⊕ Nat) × Sp × Dt)} {f9 : (Option Nat) → Sp → Dt → Option β} {g9 : Nat → Sp → Dt → Option β} (hF : FnX y ws fr lo (va_rf o :: as) S d rvR EX rc) (row : JCallX X S d pc y ws fr lo (va_rf o :: as) (as.reverse ++ va_rf o :: st') st') (hs9 : st = as.reverse ++ va_rf o :: st') (hΛ : ∀ b S' d', Λ b S' d' = Λ b S d) (hk : ∀ a S' d', rc = some (.inl a, S', d') → J X F Λ S' d' (pc + 3) lv (va_rf a :: st') (f9 a S' d')) (hx : ∀ v S' d', rc = some (.inr v, S', d') → JX X F Λ S' d' pc lv st' v EX (g9 v S' d')) : J X F Λ S d pc lv st (bindX rc f9 g9) := by
  subst hs9
  exact J.callX G hF row (fun h => (sk_V h).1) (fun h => (sk_V h).2) hΛ hk hx
theorem JXV_U (G : Ctx X F own cc nN) {rc : Option ((Unit ⊕ Nat) × Sp × Dt)} {f9 : Unit → Sp → Dt → Option β} {g9 : Nat → Sp → Dt → Option β} (hF : FnX y ws fr lo (va_rf o :: as) S d rvU EX rc) (row : JCallX X S d pc y ws fr lo (va_rf o :: as) (as.reverse ++ va_rf o :: st') st') (hs9 : st = as.reverse ++ va_rf o :: st') (hΛ : ∀ b S' d', Λ b S' d' = Λ b S d) (hk : ∀ a S' d', rc = some (.inl a, S', d') → J X F Λ S' d' (pc + 3) lv (st') (f9 a S' d')) (hx : ∀ v S' d', rc = some (.inr v, S', d') → JX X F Λ S' d' pc lv st' v EX (g9 v S' d')) : J X F Λ S d pc lv st (bindX rc f9 g9) := by
  subst hs9
  exact J.callX G hF row (fun h => (sk_V h).1) (fun h => (sk_V h).2) hΛ hk hx
theorem J.finX {F : (γ ⊕ Nat) × Sp × Dt} {rv : γ → Option Value} {a : γ} (hR : RtX X F ret rv S0 d0 EX) (hok : (∀ x ∈ st, okV S x) → ∀ v, rv a = some v → okV S v) (row : JRet X pc st (rv a) ret) : J X F Λa S d pc lv st (some (.inl a, S, d)) := by
  intro b' hr hΛ
  cases hr
  subst hΛ
  refine ⟨Le.rf, ?_⟩
  obtain _ | ⟨p, l, e, R, s, m, args, below, meth, c, Q, dC, dI, dA, oa, A, nL, c0, s0, ρ0, n0⟩ := X
  · exact trivial
  obtain ⟨hr, rfl, rfl, rfl, rfl, rfl, htb⟩ := hR
  intro hC hs hl k1 k2 k3 ρ H locs ls hW hL
  exact vq_ret (row hr _ _ ρ H locs ls _ _ (fun t ht hwm => ⟨⟨ρ, fun x hx => hW.2.2.2 x hx, rfl, by rw [ht]; exact hW.1, hW.2.1, hC, hok hs⟩, hW.2.2.1.F ht⟩) hW.2.2.1.2.2)
theorem JRX_iret {F : (Int32 ⊕ Nat) × Sp × Dt} (G : Ctx X F own cc nN) {x : Int32} (hR : RtX X F (some .int) rvI S0 d0 EX) (hd : decode cc pc = .ok (.ireturn, 1)) : J X F Λa S d pc lv [.int x] (some (.inl x, S, d)) := by
  refine J.finX hR (fun _ v hv => by cases hv; exact okV_int) ?_
  obtain _ | ⟨p, l, e, R, s, m, args, below, meth, c, Q, dC, dI, dA, oa, A, nL, c0, s0, ρ0, n0⟩ := X
  · exact trivial
  obtain ⟨hx, hb, hml, hown, hts, hlk, hK, hT, hE, hA, hO, hRc, hRs, hfl, hoa⟩ := G
  intro hr Qc free ρ H locs ls cells slots hq hf
  exact W.iret (v := x) hx hb hr hq hf hd hlk
theorem JRX_vret {F : (Unit ⊕ Nat) × Sp × Dt} (G : Ctx X F own cc nN) (hR : RtX X F none rvU S0 d0 EX) (hd : decode cc pc = .ok (.return_, 1)) : J X F Λa S d pc lv [] (some (.inl (), S, d)) := by
  refine J.finX hR (fun _ v hv => nomatch hv) ?_
  obtain _ | ⟨p, l, e, R, s, m, args, below, meth, c, Q, dC, dI, dA, oa, A, nL, c0, s0, ρ0, n0⟩ := X
  · exact trivial
  obtain ⟨hx, hb, hml, hown, hts, hlk, hK, hT, hE, hA, hO, hRc, hRs, hfl, hoa⟩ := G
  intro hr Qc free ρ H locs ls cells slots hq hf
  exact W.vret hx hb hr hq hf hd hlk
theorem JRX_aret {F : (Option Nat ⊕ Nat) × Sp × Dt} (G : Ctx X F own cc nN) (hR : RtX X F ret rvR S0 d0 EX) (hret : ∃ t, ret = some t ∧ ((∃ n, t = .object n) ∨ ∃ u, t = .array u)) (hd : decode cc pc = .ok (.areturn, 1)) : J X F Λa S d pc lv [va_rf o] (some (.inl o, S, d)) := by
  refine J.finX hR (fun hs v hv => by cases hv; exact ok_h hs) ?_
  obtain _ | ⟨p, l, e, R, s, m, args, below, meth, c, Q, dC, dI, dA, oa, A, nL, c0, s0, ρ0, n0⟩ := X
  · exact trivial
  obtain ⟨hx, hb, hml, hown, hts, hlk, hK, hT, hE, hA, hO, hRc, hRs, hfl, hoa⟩ := G
  obtain ⟨t, rfl, ht⟩ := hret
  intro hr Qc free ρ H locs ls cells slots hq hf
  exact W.aret (v := cvV ρ (va_rf o)) hx hb hr ht (by rw [cvV_rf]; cases o.map ρ with | none => exact Or.inl rfl | some a => exact Or.inr ⟨a, rfl⟩) hq hf hd hlk
end
/-- a rung of the class a or of an heir of it -/
def isRg (S : Sp) (a : Nat) (o : Option Nat) : Option Nat := o.bind fun v => match S.1[v]? with
  | some sh => if a ≤ sh.1 ∧ sh.1 ≤ 5 then some v else none
  | none => none
theorem isRg_at {S : Sp} {a v : Nat} {o : Option Nat} (h : isRg S a o = some v) : ∃ cn, (a ≤ cn ∧ cn ≤ 5) ∧ isK S cn o = some v := by
  cases o with
  | none => cases h
  | some w =>
    simp only [isRg, Option.bind_some] at h
    split at h
    · rename_i sh hs
      split at h
      · rename_i hc
        cases h
        exact ⟨sh.1, hc, isK_of (n := sh.2) hs⟩
      · cases h
    · cases h
theorem isRg_of {S : Sp} {a cn v n : Nat} (h : S.1[v]? = some (cn, n)) (h1 : a ≤ cn) (h2 : cn ≤ 5) : isRg S a (some v) = some v := by
  simp only [isRg, Option.bind_some, h]
  exact if_pos ⟨h1, h2⟩
theorem isRg_e {S : Sp} {a v : Nat} {o : Option Nat} (h : isRg S a o = some v) : o = some v := by
  obtain ⟨cn, -, h2⟩ := isRg_at h
  exact (isK_at h2).1
theorem isRg_s {S : Sp} {a v : Nat} {o : Option Nat} (h : isRg S a o = some v) : isRg S a (some v) = some v := by
  have e := isRg_e h
  rw [e] at h
  exact h
theorem isRg_le {S : Sp} {a b v : Nat} {o : Option Nat} (h : isRg S a o = some v) (hb : b ≤ a) : isRg S b o = some v := by
  obtain ⟨cn, h1, h2⟩ := isRg_at h
  obtain ⟨rfl, n, h3⟩ := isK_at h2
  exact isRg_of h3 (by omega) h1.2
section
variable {α β : Type} {X : CT} {F : α × Sp × Dt} {Λ : β → Sp → Dt → α × Sp × Dt} {S : Sp} {d : Dt} {pc nN idx fr lo fr9 lo9 : Nat} {lv : List (Nat × Value)} {st st' as : List Value} {own : String} {cc : ByteArray} {r : Option β}
theorem JR_g2 (G : Ctx X F own cc nN) (hl : Cond.fieldLink own idx RX2 "this$0" "LWatchStack;" ∈ lw_all) {o : Option Nat} {v : Nat} (hv : isRg S 2 o = some v) (hd : decode cc pc = .ok (.getfield idx, 3)) (hk : J X F Λ S d (pc + 3) lv (va_rf (S.2.1 v 0) :: st) r) : J X F Λ S d pc lv (va_rf o :: st) r := by
  obtain ⟨cn, h1, h2⟩ := isRg_at hv
  obtain rfl | rfl | rfl | rfl : cn = 2 ∨ cn = 3 ∨ cn = 4 ∨ cn = 5 := by omega
  · exact JR_gR (k := 0) G cl_X2 in_X2 (by decide) (by decide) rfl (Or.inl rfl) hl h2 hd hk
  · exact JR_gR (k := 0) G cl_X3 in_X3 (by decide) (by decide) rfl (Or.inl rfl) hl h2 hd hk
  · exact JR_gR (k := 0) G cl_X4 in_X4 (by decide) (by decide) rfl (Or.inl rfl) hl h2 hd hk
  · exact JR_gR (k := 0) G cl_X5 in_X5 (by decide) (by decide) rfl (Or.inl rfl) hl h2 hd hk
theorem JR_g3 (G : Ctx X F own cc nN) (hl : Cond.fieldLink own idx RX3 "this$0" "LWatchStack;" ∈ lw_all) {o : Option Nat} {v : Nat} (hv : isRg S 3 o = some v) (hd : decode cc pc = .ok (.getfield idx, 3)) (hk : J X F Λ S d (pc + 3) lv (va_rf (S.2.1 v 1) :: st) r) : J X F Λ S d pc lv (va_rf o :: st) r := by
  obtain ⟨cn, h1, h2⟩ := isRg_at hv
  obtain rfl | rfl | rfl : cn = 3 ∨ cn = 4 ∨ cn = 5 := by omega
  · exact JR_gR (k := 1) G cl_X3 in_X3 (by decide) (by decide) rfl (Or.inl rfl) hl h2 hd hk
  · exact JR_gR (k := 1) G cl_X4 in_X4 (by decide) (by decide) rfl (Or.inl rfl) hl h2 hd hk
  · exact JR_gR (k := 1) G cl_X5 in_X5 (by decide) (by decide) rfl (Or.inl rfl) hl h2 hd hk
theorem JR_g4 (G : Ctx X F own cc nN) (hl : Cond.fieldLink own idx RX4 "this$0" "LWatchStack;" ∈ lw_all) {o : Option Nat} {v : Nat} (hv : isRg S 4 o = some v) (hd : decode cc pc = .ok (.getfield idx, 3)) (hk : J X F Λ S d (pc + 3) lv (va_rf (S.2.1 v 2) :: st) r) : J X F Λ S d pc lv (va_rf o :: st) r := by
  obtain ⟨cn, h1, h2⟩ := isRg_at hv
  obtain rfl | rfl : cn = 4 ∨ cn = 5 := by omega
  · exact JR_gR (k := 2) G cl_X4 in_X4 (by decide) (by decide) rfl (Or.inl rfl) hl h2 hd hk
  · exact JR_gR (k := 2) G cl_X5 in_X5 (by decide) (by decide) rfl (Or.inl rfl) hl h2 hd hk
theorem JR_g5 (G : Ctx X F own cc nN) (hl : Cond.fieldLink own idx RX5 "this$0" "LWatchStack;" ∈ lw_all) {o : Option Nat} {v : Nat} (hv : isRg S 5 o = some v) (hd : decode cc pc = .ok (.getfield idx, 3)) (hk : J X F Λ S d (pc + 3) lv (va_rf (S.2.1 v 3) :: st) r) : J X F Λ S d pc lv (va_rf o :: st) r := by
  obtain ⟨cn, h1, h2⟩ := isRg_at hv
  obtain rfl : cn = 5 := by omega
  · exact JR_gR (k := 3) G cl_X5 in_X5 (by decide) (by decide) rfl (Or.inl rfl) hl h2 hd hk
theorem JW_pO2 (G : Ctx X F RX2 cc nN) (hI : XI X) (hl : Cond.fieldLink RX2 idx RX2 "this$0" "LWatchStack;" ∈ lw_all) {w o : Option Nat} {v : Nat} (hv : isRg S 2 o = some v) (hΛ : ∀ b, Λ b (S.1, u2 S.2.1 v 0 w, S.2.2) d = Λ b S d) (hd : decode cc pc = .ok (.putfield idx, 3)) (hk : J X F Λ (S.1, u2 S.2.1 v 0 w, S.2.2) d (pc + 3) lv st r) : J X F Λ S d pc lv (va_rf w :: va_rf o :: st) r := by
  obtain ⟨cn, h1, h2⟩ := isRg_at hv
  obtain rfl | rfl | rfl | rfl : cn = 2 ∨ cn = 3 ∨ cn = 4 ∨ cn = 5 := by omega
  · exact JW_pRo (k := 0) G cl_X2 in_X2 tyX2_ok (by decide +kernel) (by decide +kernel) (by decide) (by decide) rfl (Or.inl rfl) rfl hI rfl hl h2 hΛ hd hk
  · exact JW_pRo (k := 0) G cl_X3 in_X3 tyX3_ok (by decide +kernel) (by decide +kernel) (by decide) (by decide) rfl (Or.inl rfl) rfl hI rfl hl h2 hΛ hd hk
  · exact JW_pRo (k := 0) G cl_X4 in_X4 tyX4_ok (by decide +kernel) (by decide +kernel) (by decide) (by decide) rfl (Or.inl rfl) rfl hI rfl hl h2 hΛ hd hk
  · exact JW_pRo (k := 0) G cl_X5 in_X5 tyX5_ok (by decide +kernel) (by decide +kernel) (by decide) (by decide) rfl (Or.inl rfl) rfl hI rfl hl h2 hΛ hd hk
theorem JW_pO3 (G : Ctx X F RX3 cc nN) (hI : XI X) (hl : Cond.fieldLink RX3 idx RX3 "this$0" "LWatchStack;" ∈ lw_all) {w o : Option Nat} {v : Nat} (hv : isRg S 3 o = some v) (hΛ : ∀ b, Λ b (S.1, u2 S.2.1 v 1 w, S.2.2) d = Λ b S d) (hd : decode cc pc = .ok (.putfield idx, 3)) (hk : J X F Λ (S.1, u2 S.2.1 v 1 w, S.2.2) d (pc + 3) lv st r) : J X F Λ S d pc lv (va_rf w :: va_rf o :: st) r := by
  obtain ⟨cn, h1, h2⟩ := isRg_at hv
  obtain rfl | rfl | rfl : cn = 3 ∨ cn = 4 ∨ cn = 5 := by omega
  · exact JW_pRo (k := 1) G cl_X3 in_X3 tyX3_ok (by decide +kernel) (by decide +kernel) (by decide) (by decide) rfl (Or.inl rfl) rfl hI rfl hl h2 hΛ hd hk
  · exact JW_pRo (k := 1) G cl_X4 in_X4 tyX4_ok (by decide +kernel) (by decide +kernel) (by decide) (by decide) rfl (Or.inl rfl) rfl hI rfl hl h2 hΛ hd hk
  · exact JW_pRo (k := 1) G cl_X5 in_X5 tyX5_ok (by decide +kernel) (by decide +kernel) (by decide) (by decide) rfl (Or.inl rfl) rfl hI rfl hl h2 hΛ hd hk
theorem JW_pO4 (G : Ctx X F RX4 cc nN) (hI : XI X) (hl : Cond.fieldLink RX4 idx RX4 "this$0" "LWatchStack;" ∈ lw_all) {w o : Option Nat} {v : Nat} (hv : isRg S 4 o = some v) (hΛ : ∀ b, Λ b (S.1, u2 S.2.1 v 2 w, S.2.2) d = Λ b S d) (hd : decode cc pc = .ok (.putfield idx, 3)) (hk : J X F Λ (S.1, u2 S.2.1 v 2 w, S.2.2) d (pc + 3) lv st r) : J X F Λ S d pc lv (va_rf w :: va_rf o :: st) r := by
  obtain ⟨cn, h1, h2⟩ := isRg_at hv
  obtain rfl | rfl : cn = 4 ∨ cn = 5 := by omega
  · exact JW_pRo (k := 2) G cl_X4 in_X4 tyX4_ok (by decide +kernel) (by decide +kernel) (by decide) (by decide) rfl (Or.inl rfl) rfl hI rfl hl h2 hΛ hd hk
  · exact JW_pRo (k := 2) G cl_X5 in_X5 tyX5_ok (by decide +kernel) (by decide +kernel) (by decide) (by decide) rfl (Or.inl rfl) rfl hI rfl hl h2 hΛ hd hk
theorem JW_pO5 (G : Ctx X F RX5 cc nN) (hI : XI X) (hl : Cond.fieldLink RX5 idx RX5 "this$0" "LWatchStack;" ∈ lw_all) {w o : Option Nat} {v : Nat} (hv : isRg S 5 o = some v) (hΛ : ∀ b, Λ b (S.1, u2 S.2.1 v 3 w, S.2.2) d = Λ b S d) (hd : decode cc pc = .ok (.putfield idx, 3)) (hk : J X F Λ (S.1, u2 S.2.1 v 3 w, S.2.2) d (pc + 3) lv st r) : J X F Λ S d pc lv (va_rf w :: va_rf o :: st) r := by
  obtain ⟨cn, h1, h2⟩ := isRg_at hv
  obtain rfl : cn = 5 := by omega
  · exact JW_pRo (k := 3) G cl_X5 in_X5 tyX5_ok (by decide +kernel) (by decide +kernel) (by decide) (by decide) rfl (Or.inl rfl) rfl hI rfl hl h2 hΛ hd hk
theorem JC_res (G : Ctx X F own cc nN) (hRm : Rm X fr9 lo9) (h1 : Cond.methodLink own idx yX2_restarts ∈ lw_all) (hroom : fr + 1 ≤ fr9 ∧ 8 + (2 + 11) + lo ≤ lo9) (hd : decode cc pc = .ok (.invokevirtual idx, 3)) {o : Option Nat} {v : Nat} (hv : isRg S 2 o = some v) (hn : as.length = 1) (hst9 : st'.length ≤ 4) : JCall X S d pc 3 yX2_restarts (ws_ yX2_restarts cX2_restarts 2 none) fr lo (va_rf o :: as) (as.reverse ++ va_rf o :: st') st' := by
  obtain ⟨cn, h8, h9⟩ := isRg_at hv
  obtain rfl | rfl | rfl | rfl : cn = 2 ∨ cn = 3 ∨ cn = 4 ∨ cn = 5 := by omega
  · exact JC_U (n := 1) (owner := RX2) G hRm cl_X2 h1 q1232 q1231 q1230 q142 q1236 rfl dd_X2_restarts hroom hd h9 hn hst9
  · exact JC_U (n := 1) (owner := RX2) G hRm cl_X3 h1 q1232 q1234 q1230 q142 q1236 rfl dd_X2_restarts hroom hd h9 hn hst9
  · exact JC_U (n := 1) (owner := RX2) G hRm cl_X4 h1 q1232 q1235 q1230 q142 q1236 rfl dd_X2_restarts hroom hd h9 hn hst9
  · exact JC_U (n := 1) (owner := RX2) G hRm cl_X5 h1 q1232 q1233 q1230 q142 q1236 rfl dd_X2_restarts hroom hd h9 hn hst9
theorem JC_sup2 (G : Ctx X F RX3 cc nN) (hRm : Rm X fr9 lo9) (h1 : Cond.methodLink RX3 idx yX2_acts ∈ lw_all) (hroom : fr + 1 ≤ fr9 ∧ 8 + (3 + 11) + lo ≤ lo9) (hd : decode cc pc = .ok (.invokespecial idx, 3)) {o : Option Nat} {v : Nat} (hv : isRg S 3 o = some v) (hn : as.length = 2) (hst9 : st'.length ≤ 4) : JCall X S d pc 3 yX2_acts (ws_ yX2_acts cX2_acts 3 none) fr lo (va_rf o :: as) (as.reverse ++ va_rf o :: st') st' := by
  obtain ⟨cn, h8, h9⟩ := isRg_at hv
  obtain rfl | rfl | rfl : cn = 3 ∨ cn = 4 ∨ cn = 5 := by omega
  · exact JC_SU (n := 2) G hRm cl_X3 h1 q1211 q287 q1209 q142 q1228 ⟨by decide +kernel, by decide +kernel⟩ hroom hd h9 hn hst9
  · exact JC_SU (n := 2) G hRm cl_X4 h1 q1211 q287 q1209 q142 q1228 ⟨by decide +kernel, by decide +kernel⟩ hroom hd h9 hn hst9
  · exact JC_SU (n := 2) G hRm cl_X5 h1 q1211 q287 q1209 q142 q1228 ⟨by decide +kernel, by decide +kernel⟩ hroom hd h9 hn hst9
theorem JC_sup3 (G : Ctx X F RX4 cc nN) (hRm : Rm X fr9 lo9) (h1 : Cond.methodLink RX4 idx yX3_acts ∈ lw_all) (hroom : fr + 1 ≤ fr9 ∧ 8 + (4 + 11) + lo ≤ lo9) (hd : decode cc pc = .ok (.invokespecial idx, 3)) {o : Option Nat} {v : Nat} (hv : isRg S 4 o = some v) (hn : as.length = 2) (hst9 : st'.length ≤ 4) : JCall X S d pc 3 yX3_acts (ws_ yX3_acts cX3_acts 4 none) fr lo (va_rf o :: as) (as.reverse ++ va_rf o :: st') st' := by
  obtain ⟨cn, h8, h9⟩ := isRg_at hv
  obtain rfl | rfl : cn = 4 ∨ cn = 5 := by omega
  · exact JC_SU (n := 2) G hRm cl_X4 h1 q2362 q299 q1223 q143 q1224 ⟨by decide +kernel, by decide +kernel⟩ hroom hd h9 hn hst9
  · exact JC_SU (n := 2) G hRm cl_X5 h1 q2362 q299 q1223 q143 q1224 ⟨by decide +kernel, by decide +kernel⟩ hroom hd h9 hn hst9
theorem JC_sup4 (G : Ctx X F RX5 cc nN) (hRm : Rm X fr9 lo9) (h1 : Cond.methodLink RX5 idx yX4_acts ∈ lw_all) (hroom : fr + 1 ≤ fr9 ∧ 8 + (4 + 11) + lo ≤ lo9) (hd : decode cc pc = .ok (.invokespecial idx, 3)) {o : Option Nat} {v : Nat} (hv : isRg S 5 o = some v) (hn : as.length = 2) (hst9 : st'.length ≤ 4) : JCall X S d pc 3 yX4_acts (ws_ yX4_acts cX4_acts 4 none) fr lo (va_rf o :: as) (as.reverse ++ va_rf o :: st') st' := by
  obtain ⟨cn, h8, h9⟩ := isRg_at hv
  obtain rfl : cn = 5 := by omega
  · exact JC_SU (n := 2) G hRm cl_X5 h1 q2361 q312 q1216 q144 q1217 ⟨by decide +kernel, by decide +kernel⟩ hroom hd h9 hn hst9
end
