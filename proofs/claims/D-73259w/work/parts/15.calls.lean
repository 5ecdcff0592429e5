/-! CALL ROWS -/
set_option maxRecDepth 100000
theorem cat_le (l : List Value) (h : l.length ≤ 4) : (l.map fun v => v.category).sum ≤ 8 := by
  have h1 : ∀ l : List Value, (l.map fun v => v.category).sum ≤ 2 * l.length := by
    intro l
    induction l with
    | nil => exact Nat.le_refl _
    | cons v l ih =>
      rw [List.map_cons, List.sum_cons, List.length_cons]
      have h2 : v.category ≤ 2 := by rcases lv_cat v with h | h <;> omega
      omega
  have h2 := h1 l
  omega
theorem stk_cv {ρ : Nat → Nat} {as st' : List Value} {v : Nat} : (as.reverse ++ va_rf (some v) :: st').map (cvV ρ) = (as.map (cvV ρ)).reverse ++ .ref (ρ v) :: st'.map (cvV ρ) := by
  rw [List.map_append, List.map_reverse]
  rfl
theorem stk_cs {ρ : Nat → Nat} {as st' : List Value} : (as.reverse ++ st').map (cvV ρ) = (as.map (cvV ρ)).reverse ++ st'.map (cvV ρ) := by
  rw [List.map_append, List.map_reverse]
section
variable {α : Type} {X : CT} {F : α × Sp × Dt} {S : Sp} {d : Dt} {pc nN fr9 lo9 idx maxL fr lo n : Nat} {own : String} {cc bytes : ByteArray} {y : MethodName} {ret : Option FieldType} {as st' : List Value}
theorem JC_V (G : Ctx X F own cc nN) (hRm : Rm X fr9 lo9) {C : String} {T : u_T} {N cn : Nat} (hc : mmCl[cn]? = some (C, T, N)) (h1 : Cond.methodLink own idx y ∈ lw_all) (h2 : Cond.instanceMethod y ∈ lw_all) (h3 : Cond.selects C y y ∈ lw_all) (h4 : Cond.initialized C ∈ lw_all) (h5 : Cond.code y bytes maxL ret ∈ lw_all) (hdd : y.cls = C ∧ y.cls ≠ "java/lang/invoke/MethodHandle" ∧ y.cls ≠ "java/lang/invoke/VarHandle" ∧ (parseMethodDescriptor y.desc).map (fun d => d.parameters.length) = some n) (hroom : fr + 1 ≤ fr9 ∧ 8 + (maxL + 11) + lo ≤ lo9) (hd : decode cc pc = .ok (.invokevirtual idx, 3)) {o : Option Nat} {v : Nat} (hv : isK S cn o = some v) (hn : as.length = n) (hst9 : st'.length ≤ 4) : JCall X S d pc 3 y (ws_ y bytes maxL ret) fr lo (va_rf o :: as) (as.reverse ++ va_rf o :: st') st' := by
  obtain _ | ⟨p, l, e, R, s, m, args, below, meth, c, Q, dC, dI, dA, oa, A, nL, c0, s0, ρ0, n0⟩ := X
  · exact trivial
  obtain ⟨hx, hb, hml, hown, hts, hlk, hK, hT, hE, hA, hO, hRc, hRs, hfl, hoa⟩ := G
  obtain ⟨hR1, hR2⟩ := hRm
  intro mc ms Qc free ρ H locs ls cells slots hM r1 r2 hW hsz hpre
  obtain ⟨rfl, n9, hs⟩ := isK_at hv
  obtain ⟨hc1, hc2⟩ := mm_cl hc
  have hws := mmW_get (dA := dA) (ρ := ρ) (d := d) hs
  rw [mmE_obj hc1] at hws
  have hr : va_Run p l e R s m args below meth c H locs cells slots mc ms (F0 m pc ls ((as.reverse ++ va_rf (some v) :: st').map (cvV ρ))) (st'.map (cvV ρ)) (Qc ((va_rf (some v) :: as).map (cvV ρ)).toArray) free := va_runV (As := as.map (cvV ρ)) (rest := st'.map (cvV ρ)) ⟨hx, hb, hml.1, hown, hts⟩ hM (cwV n hts (lw_V h1 h2 h3 h4 h5) rfl rfl rfl hdd ⟨by rw [hR1]; exact hroom.1, by rw [hR2]; exact hroom.2⟩) ⟨FPre.blind, va_recv hK hW.1 hc hws, fun U hU hW9 => hpre U hU hW9⟩ rfl (by rw [List.length_map]; exact hn) hsz stk_cv (lv_room (cat_le _ (by rw [List.length_map]; exact hst9))) hd ⟨r1, r2⟩
  intro T hT9 X0
  obtain ⟨v9, st₀, t, T', L, g0, X', hL, e1, e2, q, stp⟩ := hr T hT9 X0
  exact ⟨v9, st₀, t, T', L, g0, X', hL, e1, e2, q, fun tg h => stp tg h⟩
theorem JC_S (G : Ctx X F own cc nN) (hRm : Rm X fr9 lo9) (h1 : Cond.methodLink own idx y ∈ lw_all) (h2 : Cond.static y ∈ lw_all) (h3 : Cond.initialized y.cls ∈ lw_all) (h4 : Cond.code y bytes maxL ret ∈ lw_all) (hdd : y.cls ≠ "java/lang/invoke/MethodHandle" ∧ y.cls ≠ "java/lang/invoke/VarHandle" ∧ (parseMethodDescriptor y.desc).map (fun d => d.parameters.length) = some n) (hroom : fr + 1 ≤ fr9 ∧ 8 + (maxL + 11) + lo ≤ lo9) (hd : decode cc pc = .ok (.invokestatic idx, 3)) (hn : as.length = n) (hst9 : st'.length ≤ 4) : JCall X S d pc 3 y (ws_ y bytes maxL ret) fr lo (as) (as.reverse ++ st') st' := by
  obtain _ | ⟨p, l, e, R, s, m, args, below, meth, c, Q, dC, dI, dA, oa, A, nL, c0, s0, ρ0, n0⟩ := X
  · exact trivial
  obtain ⟨hx, hb, hml, hown, hts, hlk, hK, hT, hE, hA, hO, hRc, hRs, hfl, hoa⟩ := G
  obtain ⟨hR1, hR2⟩ := hRm
  intro mc ms Qc free ρ H locs ls cells slots hM r1 r2 hW hsz hpre
  have hr : va_Run p l e R s m args below meth c H locs cells slots mc ms (F0 m pc ls ((as.reverse ++ st').map (cvV ρ))) (st'.map (cvV ρ)) (Qc ((as).map (cvV ρ)).toArray) free := va_runS (As := as.map (cvV ρ)) (rest := st'.map (cvV ρ)) ⟨hx, hb, hml.1, hown, hts⟩ hM (va_cwS n hts (lw_S h1 h2 h3 h4) rfl rfl rfl hdd ⟨by rw [hR1]; exact hroom.1, by rw [hR2]; exact hroom.2⟩) ⟨FPre.blind, fun U hU hW9 => hpre U hU hW9⟩ rfl (by rw [List.length_map]; exact hn) hsz stk_cs (lv_room (cat_le _ (by rw [List.length_map]; exact hst9))) hd ⟨r1, r2⟩
  intro T hT9 X0
  obtain ⟨v9, st₀, t, T', L, g0, X', hL, e1, e2, q, stp⟩ := hr T hT9 X0
  exact ⟨v9, st₀, t, T', L, g0, X', hL, e1, e2, q, fun tg h => stp tg h⟩
theorem JC_VN (G : Ctx X F own cc nN) (hRm : Rm X fr9 lo9) {C : String} {T : u_T} {N cn : Nat} (hc : mmCl[cn]? = some (C, T, N)) {host : String} (h1 : Cond.methodLinkNest own idx y host ∈ lw_tbl) (h2 : Cond.instanceMethod y ∈ lw_all) (h3 : Cond.selects C y y ∈ lw_all) (h4 : Cond.initialized y.cls ∈ lw_all) (h5 : Cond.code y bytes maxL ret ∈ lw_all) (hdd : y.cls ≠ "java/lang/invoke/MethodHandle" ∧ y.cls ≠ "java/lang/invoke/VarHandle" ∧ (parseMethodDescriptor y.desc).map (fun d => d.parameters.length) = some n) (hroom : fr + 1 ≤ fr9 ∧ 8 + (maxL + 11) + lo ≤ lo9) (hd : decode cc pc = .ok (.invokevirtual idx, 3)) {o : Option Nat} {v : Nat} (hv : isK S cn o = some v) (hn : as.length = n) (hst9 : st'.length ≤ 4) : JCall X S d pc 3 y (ws_ y bytes maxL ret) fr lo (va_rf o :: as) (as.reverse ++ va_rf o :: st') st' := by
  obtain _ | ⟨p, l, e, R, s, m, args, below, meth, c, Q, dC, dI, dA, oa, A, nL, c0, s0, ρ0, n0⟩ := X
  · exact trivial
  obtain ⟨hx, hb, hml, hown, hts, hlk, hK, hT, hE, hA, hO, hRc, hRs, hfl, hoa⟩ := G
  obtain ⟨hR1, hR2⟩ := hRm
  intro mc ms Qc free ρ H locs ls cells slots hM r1 r2 hW hsz hpre
  obtain ⟨rfl, n9, hs⟩ := isK_at hv
  obtain ⟨hc1, hc2⟩ := mm_cl hc
  have hws := mmW_get (dA := dA) (ρ := ρ) (d := d) hs
  rw [mmE_obj hc1] at hws
  have hr : va_Run p l e R s m args below meth c H locs cells slots mc ms (F0 m pc ls ((as.reverse ++ va_rf (some v) :: st').map (cvV ρ))) (st'.map (cvV ρ)) (Qc ((va_rf (some v) :: as).map (cvV ρ)).toArray) free := va_runVN (As := as.map (cvV ρ)) (rest := st'.map (cvV ρ)) ⟨hx, hb, hml.1, hown, hts⟩ hM ⟨va_cnB n hts (lw_meth h5) rfl rfl rfl (tb_word hT h1 rfl) (hts _ h4) hdd ⟨by rw [hR1]; exact hroom.1, by rw [hR2]; exact hroom.2⟩, hts _ h2, hts _ h3⟩ ⟨FPre.blind, va_recv hK hW.1 hc hws, fun U hU hW9 => hpre U hU hW9⟩ rfl (by rw [List.length_map]; exact hn) hsz stk_cv (lv_room (cat_le _ (by rw [List.length_map]; exact hst9))) hd ⟨r1, r2⟩
  intro T hT9 X0
  obtain ⟨v9, st₀, t, T', L, g0, X', hL, e1, e2, q, stp⟩ := hr T hT9 X0
  exact ⟨v9, st₀, t, T', L, g0, X', hL, e1, e2, q, fun tg h => stp tg h⟩
theorem JC_SN (G : Ctx X F own cc nN) (hRm : Rm X fr9 lo9) {host : String} (h1 : Cond.methodLinkNest own idx y host ∈ lw_tbl) (h2 : Cond.static y ∈ lw_all) (h3 : Cond.initialized y.cls ∈ lw_all) (h4 : Cond.code y bytes maxL ret ∈ lw_all) (hdd : y.cls ≠ "java/lang/invoke/MethodHandle" ∧ y.cls ≠ "java/lang/invoke/VarHandle" ∧ (parseMethodDescriptor y.desc).map (fun d => d.parameters.length) = some n) (hroom : fr + 1 ≤ fr9 ∧ 8 + (maxL + 11) + lo ≤ lo9) (hd : decode cc pc = .ok (.invokestatic idx, 3)) (hn : as.length = n) (hst9 : st'.length ≤ 4) : JCall X S d pc 3 y (ws_ y bytes maxL ret) fr lo (as) (as.reverse ++ st') st' := by
  obtain _ | ⟨p, l, e, R, s, m, args, below, meth, c, Q, dC, dI, dA, oa, A, nL, c0, s0, ρ0, n0⟩ := X
  · exact trivial
  obtain ⟨hx, hb, hml, hown, hts, hlk, hK, hT, hE, hA, hO, hRc, hRs, hfl, hoa⟩ := G
  obtain ⟨hR1, hR2⟩ := hRm
  intro mc ms Qc free ρ H locs ls cells slots hM r1 r2 hW hsz hpre
  have hr : va_Run p l e R s m args below meth c H locs cells slots mc ms (F0 m pc ls ((as.reverse ++ st').map (cvV ρ))) (st'.map (cvV ρ)) (Qc ((as).map (cvV ρ)).toArray) free := va_runSN (As := as.map (cvV ρ)) (rest := st'.map (cvV ρ)) ⟨hx, hb, hml.1, hown, hts⟩ hM ⟨va_cnB n hts (lw_meth h4) rfl rfl rfl (tb_word hT h1 rfl) (hts _ h3) hdd ⟨by rw [hR1]; exact hroom.1, by rw [hR2]; exact hroom.2⟩, hts _ h2, trivial⟩ ⟨FPre.blind, fun U hU hW9 => hpre U hU hW9⟩ rfl (by rw [List.length_map]; exact hn) hsz stk_cs (lv_room (cat_le _ (by rw [List.length_map]; exact hst9))) hd ⟨r1, r2⟩
  intro T hT9 X0
  obtain ⟨v9, st₀, t, T', L, g0, X', hL, e1, e2, q, stp⟩ := hr T hT9 X0
  exact ⟨v9, st₀, t, T', L, g0, X', hL, e1, e2, q, fun tg h => stp tg h⟩
theorem JC_U (G : Ctx X F own cc nN) (hRm : Rm X fr9 lo9) {C : String} {T : u_T} {N cn : Nat} (hc : mmCl[cn]? = some (C, T, N)) {x : MethodName} {owner : String} (h1 : Cond.methodLink own idx x ∈ lw_all) (h2 : Cond.sameMethod x.cls owner x.name x.desc ∈ lw_all) (h3 : Cond.selects C x y ∈ lw_all) (h4 : Cond.instanceMethod y ∈ lw_all) (h5 : Cond.initialized y.cls ∈ lw_all) (h6 : Cond.code y bytes maxL ret ∈ lw_all) (hyx : y = ⟨owner, x.name, x.desc⟩) (hdd : owner ≠ "java/lang/invoke/MethodHandle" ∧ owner ≠ "java/lang/invoke/VarHandle" ∧ (parseMethodDescriptor x.desc).map (fun d => d.parameters.length) = some n) (hroom : fr + 1 ≤ fr9 ∧ 8 + (maxL + 11) + lo ≤ lo9) (hd : decode cc pc = .ok (.invokevirtual idx, 3)) {o : Option Nat} {v : Nat} (hv : isK S cn o = some v) (hn : as.length = n) (hst9 : st'.length ≤ 4) : JCall X S d pc 3 y (ws_ y bytes maxL ret) fr lo (va_rf o :: as) (as.reverse ++ va_rf o :: st') st' := by
  obtain _ | ⟨p, l, e, R, s, m, args, below, meth, c, Q, dC, dI, dA, oa, A, nL, c0, s0, ρ0, n0⟩ := X
  · exact trivial
  obtain ⟨hx, hb, hml, hown, hts, hlk, hK, hT, hE, hA, hO, hRc, hRs, hfl, hoa⟩ := G
  obtain ⟨hR1, hR2⟩ := hRm
  intro mc ms Qc free ρ H locs ls cells slots hM r1 r2 hW hsz hpre
  obtain ⟨rfl, n9, hs⟩ := isK_at hv
  obtain ⟨hc1, hc2⟩ := mm_cl hc
  have hws := mmW_get (dA := dA) (ρ := ρ) (d := d) hs
  rw [mmE_obj hc1] at hws
  have hr : va_Run p l e R s m args below meth c H locs cells slots mc ms (F0 m pc ls ((as.reverse ++ va_rf (some v) :: st').map (cvV ρ))) (st'.map (cvV ρ)) (Qc ((va_rf (some v) :: as).map (cvV ρ)).toArray) free := va_runU (As := as.map (cvV ρ)) (rest := st'.map (cvV ρ)) ⟨hx, hb, hml.1, hown, hts⟩ hM (va_cwU n hts (lw_app (List.forall_mem_cons.mpr ⟨h1, List.forall_mem_cons.mpr ⟨h2, List.forall_mem_cons.mpr ⟨h3, List.forall_mem_cons.mpr ⟨h4, List.forall_mem_cons.mpr ⟨h5, fun _ h => nomatch h⟩⟩⟩⟩⟩) (lw_meth h6)) rfl rfl rfl hyx hdd ⟨by rw [hR1]; exact hroom.1, by rw [hR2]; exact hroom.2⟩) ⟨FPre.blind, va_recv hK hW.1 hc hws, fun U hU hW9 => hpre U hU hW9⟩ rfl (by rw [List.length_map]; exact hn) hsz stk_cv (lv_room (cat_le _ (by rw [List.length_map]; exact hst9))) hd ⟨r1, r2⟩
  intro T hT9 X0
  obtain ⟨v9, st₀, t, T', L, g0, X', hL, e1, e2, q, stp⟩ := hr T hT9 X0
  exact ⟨v9, st₀, t, T', L, g0, X', hL, e1, e2, q, fun tg h => stp tg h⟩
theorem JC_O (G : Ctx X F own cc nN) (hRm : Rm X fr9 lo9) {C : String} {T : u_T} {N cn : Nat} (hc : mmCl[cn]? = some (C, T, N)) {x : MethodName} {owner : String} {b0 : ByteArray} {m0 : Nat} {r0 : Option FieldType} (h1 : Cond.methodLink own idx x ∈ lw_all) (h2 : Cond.sameMethod x.cls owner x.name x.desc ∈ lw_all) (h3 : Cond.instanceMethod ⟨owner, x.name, x.desc⟩ ∈ lw_all) (h4 : Cond.selects C x y ∈ lw_all) (h5 : Cond.instanceMethod y ∈ lw_all) (h6 : Cond.initialized y.cls ∈ lw_all) (h7 : Cond.code y bytes maxL ret ∈ lw_all) (h0 : Cond.code ⟨owner, x.name, x.desc⟩ b0 m0 r0 ∈ lw_all) (hdd : owner ≠ "java/lang/invoke/MethodHandle" ∧ owner ≠ "java/lang/invoke/VarHandle" ∧ (parseMethodDescriptor x.desc).map (fun d => d.parameters.length) = some n) (hroom : fr + 1 ≤ fr9 ∧ 8 + (maxL + 11) + lo ≤ lo9) (hd : decode cc pc = .ok (.invokevirtual idx, 3)) {o : Option Nat} {v : Nat} (hv : isK S cn o = some v) (hn : as.length = n) (hst9 : st'.length ≤ 4) : JCall X S d pc 3 y (ws_ y bytes maxL ret) fr lo (va_rf o :: as) (as.reverse ++ va_rf o :: st') st' := by
  obtain _ | ⟨p, l, e, R, s, m, args, below, meth, c, Q, dC, dI, dA, oa, A, nL, c0, s0, ρ0, n0⟩ := X
  · exact trivial
  obtain ⟨hx, hb, hml, hown, hts, hlk, hK, hT, hE, hA, hO, hRc, hRs, hfl, hoa⟩ := G
  obtain ⟨hR1, hR2⟩ := hRm
  intro mc ms Qc free ρ H locs ls cells slots hM r1 r2 hW hsz hpre
  obtain ⟨rfl, n9, hs⟩ := isK_at hv
  obtain ⟨hc1, hc2⟩ := mm_cl hc
  have hws := mmW_get (dA := dA) (ρ := ρ) (d := d) hs
  rw [mmE_obj hc1] at hws
  have hr : va_Run p l e R s m args below meth c H locs cells slots mc ms (F0 m pc ls ((as.reverse ++ va_rf (some v) :: st').map (cvV ρ))) (st'.map (cvV ρ)) (Qc ((va_rf (some v) :: as).map (cvV ρ)).toArray) free := va_runU (As := as.map (cvV ρ)) (rest := st'.map (cvV ρ)) ⟨hx, hb, hml.1, hown, hts⟩ hM (va_cwO n hts (lw_app (List.forall_mem_cons.mpr ⟨h1, List.forall_mem_cons.mpr ⟨h2, List.forall_mem_cons.mpr ⟨h3, List.forall_mem_cons.mpr ⟨h4, List.forall_mem_cons.mpr ⟨h5, List.forall_mem_cons.mpr ⟨h6, fun _ h => nomatch h⟩⟩⟩⟩⟩⟩) (lw_meth h7)) rfl rfl rfl h0 hdd ⟨by rw [hR1]; exact hroom.1, by rw [hR2]; exact hroom.2⟩) ⟨FPre.blind, va_recv hK hW.1 hc hws, fun U hU hW9 => hpre U hU hW9⟩ rfl (by rw [List.length_map]; exact hn) hsz stk_cv (lv_room (cat_le _ (by rw [List.length_map]; exact hst9))) hd ⟨r1, r2⟩
  intro T hT9 X0
  obtain ⟨v9, st₀, t, T', L, g0, X', hL, e1, e2, q, stp⟩ := hr T hT9 X0
  exact ⟨v9, st₀, t, T', L, g0, X', hL, e1, e2, q, fun tg h => stp tg h⟩
theorem JC_SU (G : Ctx X F own cc nN) (hRm : Rm X fr9 lo9) {C : String} {T : u_T} {N cn : Nat} (hc : mmCl[cn]? = some (C, T, N)) (h1 : Cond.methodLink own idx y ∈ lw_all) (h2 : Cond.sameMethod y.cls y.cls y.name y.desc ∈ lw_all) (h3 : Cond.superclass own y.cls ∈ lw_all) (h4 : Cond.instanceMethod y ∈ lw_all) (h5 : Cond.initialized y.cls ∈ lw_all) (h6 : Cond.code y bytes maxL ret ∈ lw_all) (hdd : y.name ≠ "<init>" ∧ (parseMethodDescriptor y.desc).map (fun d => d.parameters.length) = some n) (hroom : fr + 1 ≤ fr9 ∧ 8 + (maxL + 11) + lo ≤ lo9) (hd : decode cc pc = .ok (.invokespecial idx, 3)) {o : Option Nat} {v : Nat} (hv : isK S cn o = some v) (hn : as.length = n) (hst9 : st'.length ≤ 4) : JCall X S d pc 3 y (ws_ y bytes maxL ret) fr lo (va_rf o :: as) (as.reverse ++ va_rf o :: st') st' := by
  obtain _ | ⟨p, l, e, R, s, m, args, below, meth, c, Q, dC, dI, dA, oa, A, nL, c0, s0, ρ0, n0⟩ := X
  · exact trivial
  obtain ⟨hx, hb, hml, hown, hts, hlk, hK, hT, hE, hA, hO, hRc, hRs, hfl, hoa⟩ := G
  obtain ⟨hR1, hR2⟩ := hRm
  intro mc ms Qc free ρ H locs ls cells slots hM r1 r2 hW hsz hpre
  obtain ⟨rfl, n9, hs⟩ := isK_at hv
  obtain ⟨hc1, hc2⟩ := mm_cl hc
  have hws := mmW_get (dA := dA) (ρ := ρ) (d := d) hs
  rw [mmE_obj hc1] at hws
  have hr : va_Run p l e R s m args below meth c H locs cells slots mc ms (F0 m pc ls ((as.reverse ++ va_rf (some v) :: st').map (cvV ρ))) (st'.map (cvV ρ)) (Qc ((va_rf (some v) :: as).map (cvV ρ)).toArray) free := va_runSU (As := as.map (cvV ρ)) (rest := st'.map (cvV ρ)) (hK.1 cn _ hc).2 ⟨hx, hb, hml.1, hown, hts⟩ hM (va_cwSU n hts (lw_app (List.forall_mem_cons.mpr ⟨h1, List.forall_mem_cons.mpr ⟨h2, List.forall_mem_cons.mpr ⟨h3, List.forall_mem_cons.mpr ⟨h4, List.forall_mem_cons.mpr ⟨h5, fun _ h => nomatch h⟩⟩⟩⟩⟩) (lw_meth h6)) rfl rfl rfl hdd ⟨by rw [hR1]; exact hroom.1, by rw [hR2]; exact hroom.2⟩) ⟨FPre.blind, va_recv hK hW.1 hc hws, fun U hU hW9 => hpre U hU hW9⟩ rfl (by rw [List.length_map]; exact hn) hsz stk_cv (lv_room (cat_le _ (by rw [List.length_map]; exact hst9))) hd ⟨r1, r2⟩
  intro T hT9 X0
  obtain ⟨v9, st₀, t, T', L, g0, X', hL, e1, e2, q, stp⟩ := hr T hT9 X0
  exact ⟨v9, st₀, t, T', L, g0, X', hL, e1, e2, q, fun tg h => stp tg h⟩
theorem JC_F (G : Ctx X F own cc nN) (hRm : Rm X fr9 lo9) {C : String} {T : u_T} {N cn : Nat} (hc : mmCl[cn]? = some (C, T, N)) {cnt : Nat} (hC : C = "java/util/ArrayList") (h1 : Cond.methodLink own idx ⟨"java/util/Collection", "toArray", "()[Ljava/lang/Object;"⟩ ∈ lw_all) (h2 : Cond.selects C ⟨"java/util/Collection", "toArray", "()[Ljava/lang/Object;"⟩ ⟨"java/util/ArrayList", "toArray", "()[Ljava/lang/Object;"⟩ ∈ lw_all) (h3 : Cond.instanceMethod ⟨"java/util/ArrayList", "toArray", "()[Ljava/lang/Object;"⟩ ∈ lw_all) (h4 : Cond.initialized "java/util/ArrayList" ∈ lw_all) (h6 : Cond.code ⟨"java/util/ArrayList", "toArray", "()[Ljava/lang/Object;"⟩ bytes maxL ret ∈ lw_all) (hn0 : n = 0) (hroom : fr + 1 ≤ fr9 ∧ 8 + (maxL + 11) + lo ≤ lo9) (hd : decode cc pc = .ok (.invokeinterface idx cnt, 5)) {o : Option Nat} {v : Nat} (hv : isK S cn o = some v) (hn : as.length = n) (hst9 : st'.length ≤ 4) : JCall X S d pc 5 ⟨"java/util/ArrayList", "toArray", "()[Ljava/lang/Object;"⟩ (ws_ ⟨"java/util/ArrayList", "toArray", "()[Ljava/lang/Object;"⟩ bytes maxL ret) fr lo (va_rf o :: as) (as.reverse ++ va_rf o :: st') st' := by
  obtain _ | ⟨p, l, e, R, s, m, args, below, meth, c, Q, dC, dI, dA, oa, A, nL, c0, s0, ρ0, n0⟩ := X
  · exact trivial
  obtain ⟨hx, hb, hml, hown, hts, hlk, hK, hT, hE, hA, hO, hRc, hRs, hfl, hoa⟩ := G
  obtain ⟨hR1, hR2⟩ := hRm
  intro mc ms Qc free ρ H locs ls cells slots hM r1 r2 hW hsz hpre
  obtain ⟨rfl, n9, hs⟩ := isK_at hv
  obtain ⟨hc1, hc2⟩ := mm_cl hc
  have hws := mmW_get (dA := dA) (ρ := ρ) (d := d) hs
  rw [mmE_obj hc1] at hws
  have hr : va_Run5 p l e R s m args below meth c H locs cells slots mc ms (F0 m pc ls ((as.reverse ++ va_rf (some v) :: st').map (cvV ρ))) (st'.map (cvV ρ)) (Qc ((va_rf (some v) :: as).map (cvV ρ)).toArray) free := (by subst hC; subst hn0; exact va_runF (As := as.map (cvV ρ)) (rest := st'.map (cvV ρ)) (hK.1 cn _ hc).2 ⟨hx, hb, hml.1, hown, hts⟩ hM (va_cwF 0 hts (lw_app (List.forall_mem_cons.mpr ⟨h1, List.forall_mem_cons.mpr ⟨h2, List.forall_mem_cons.mpr ⟨h3, List.forall_mem_cons.mpr ⟨h4, fun _ h => nomatch h⟩⟩⟩⟩) (lw_meth h6)) rfl rfl rfl hT.2.2.1 ⟨by decide, by decide, by decide +kernel⟩ ⟨by rw [hR1]; exact hroom.1, by rw [hR2]; exact hroom.2⟩) ⟨FPre.blind, va_recv hK hW.1 hc hws, fun U hU hW9 => hpre U hU hW9⟩ rfl (by rw [List.length_map]; exact hn) hsz stk_cv (lv_room (cat_le _ (by rw [List.length_map]; exact hst9))) hd ⟨r1, r2⟩)
  intro T hT9 X0
  obtain ⟨v9, st₀, t, T', L, g0, X', hL, e1, e2, q, stp⟩ := hr T hT9 X0
  exact ⟨v9, st₀, t, T', L, g0, X', hL, e1, e2, q, fun tg h => stp tg h⟩
theorem JC_I (G : Ctx X F own cc nN) (hRm : Rm X fr9 lo9) (h1 : Cond.methodLink own idx y ∈ lw_all) (h2 : Cond.instanceMethod y ∈ lw_all) (h3 : Cond.initialized y.cls ∈ lw_all) (h4 : Cond.code y bytes maxL none ∈ lw_all) (hy1 : y.name = "<init>") (hdd : y.cls ≠ "java/lang/invoke/MethodHandle" ∧ y.cls ≠ "java/lang/invoke/VarHandle" ∧ (parseMethodDescriptor y.desc).map (fun d => d.parameters.length) = some n) (hroom : fr + 1 ≤ fr9 ∧ 8 + (maxL + 11) + lo ≤ lo9) (hd : decode cc pc = .ok (.invokespecial idx, 3)) {v : Nat} (hn : as.length = n) (hst9 : st'.length ≤ 4) : JCall X S d pc 3 y (ws_ y bytes maxL none) fr lo (va_rf (some v) :: as) (as.reverse ++ va_rf (some v) :: st') st' := by
  obtain _ | ⟨p, l, e, R, s, m, args, below, meth, c, Q, dC, dI, dA, oa, A, nL, c0, s0, ρ0, n0⟩ := X
  · exact trivial
  obtain ⟨hx, hb, hml, hown, hts, hlk, hK, hT, hE, hA, hO, hRc, hRs, hfl, hoa⟩ := G
  obtain ⟨hR1, hR2⟩ := hRm
  intro mc ms Qc free ρ H locs ls cells slots hM r1 r2 hW hsz hpre
  have hr : va_Run p l e R s m args below meth c H locs cells slots mc ms (F0 m pc ls ((as.reverse ++ va_rf (some v) :: st').map (cvV ρ))) (st'.map (cvV ρ)) (Qc ((va_rf (some v) :: as).map (cvV ρ)).toArray) free := va_runI (As := as.map (cvV ρ)) (rest := st'.map (cvV ρ)) ⟨hx, hb, hml.1, hown, hts⟩ hM (cwI n hts (lw_meth h4) rfl rfl rfl (hts _ h3) (hts _ h1) (hts _ h2) hy1 hdd ⟨by rw [hR1]; exact hroom.1, by rw [hR2]; exact hroom.2⟩) ⟨FPre.blind, fun U hU hW9 => hpre U hU hW9⟩ rfl (by rw [List.length_map]; exact hn) hsz stk_cv (lv_room (cat_le _ (by rw [List.length_map]; exact hst9))) hd ⟨r1, r2⟩
  intro T hT9 X0
  obtain ⟨v9, st₀, t, T', L, g0, X', hL, e1, e2, q, stp⟩ := hr T hT9 X0
  exact ⟨v9, st₀, t, T', L, g0, X', hL, e1, e2, q, fun tg h => stp tg h⟩
theorem JC_IN (G : Ctx X F own cc nN) (hRm : Rm X fr9 lo9) {host : String} (h1 : Cond.methodLinkNest own idx y host ∈ lw_tbl) (h2 : Cond.instanceMethod y ∈ lw_all) (h3 : Cond.initialized y.cls ∈ lw_all) (h4 : Cond.code y bytes maxL none ∈ lw_all) (hy1 : y.name = "<init>") (hdd : y.cls ≠ "java/lang/invoke/MethodHandle" ∧ y.cls ≠ "java/lang/invoke/VarHandle" ∧ (parseMethodDescriptor y.desc).map (fun d => d.parameters.length) = some n) (hroom : fr + 1 ≤ fr9 ∧ 8 + (maxL + 11) + lo ≤ lo9) (hd : decode cc pc = .ok (.invokespecial idx, 3)) {v : Nat} (hn : as.length = n) (hst9 : st'.length ≤ 4) : JCall X S d pc 3 y (ws_ y bytes maxL none) fr lo (va_rf (some v) :: as) (as.reverse ++ va_rf (some v) :: st') st' := by
  obtain _ | ⟨p, l, e, R, s, m, args, below, meth, c, Q, dC, dI, dA, oa, A, nL, c0, s0, ρ0, n0⟩ := X
  · exact trivial
  obtain ⟨hx, hb, hml, hown, hts, hlk, hK, hT, hE, hA, hO, hRc, hRs, hfl, hoa⟩ := G
  obtain ⟨hR1, hR2⟩ := hRm
  intro mc ms Qc free ρ H locs ls cells slots hM r1 r2 hW hsz hpre
  have hr : va_Run p l e R s m args below meth c H locs cells slots mc ms (F0 m pc ls ((as.reverse ++ va_rf (some v) :: st').map (cvV ρ))) (st'.map (cvV ρ)) (Qc ((va_rf (some v) :: as).map (cvV ρ)).toArray) free := va_runIN (As := as.map (cvV ρ)) (rest := st'.map (cvV ρ)) ⟨hx, hb, hml.1, hown, hts⟩ hM ⟨va_cnB n hts (lw_meth h4) rfl rfl rfl (tb_word hT h1 rfl) (hts _ h3) hdd ⟨by rw [hR1]; exact hroom.1, by rw [hR2]; exact hroom.2⟩, hy1, hts _ h2⟩ ⟨FPre.blind, fun U hU hW9 => hpre U hU hW9⟩ rfl (by rw [List.length_map]; exact hn) hsz stk_cv (lv_room (cat_le _ (by rw [List.length_map]; exact hst9))) hd ⟨r1, r2⟩
  intro T hT9 X0
  obtain ⟨v9, st₀, t, T', L, g0, X', hL, e1, e2, q, stp⟩ := hr T hT9 X0
  exact ⟨v9, st₀, t, T', L, g0, X', hL, e1, e2, q, fun tg h => stp tg h⟩
end
section
variable {α β : Type} {X : CT} {F : α × Sp × Dt} {Λ : β → Sp → Dt → α × Sp × Dt} {S : Sp} {d : Dt} {pc nN fr9 lo9 idx : Nat} {lv : List (Nat × Value)} {st : List Value} {r : Option β} {own : String} {cc : ByteArray}
theorem JR_objInit (G : Ctx X F own cc nN) (hRm : Rm X fr9 lo9) (h1 : Cond.methodLink own idx Lib.objectInit ∈ lw_all) (h2 : Cond.instanceMethod Lib.objectInit ∈ lw_all) (h3 : Cond.code Lib.objectInit ⟨#[0xb1]⟩ 1 none ∈ lw_all) (hroom : 1 ≤ fr9 ∧ 20 ≤ lo9) (hst9 : st.length ≤ 4) (hd : decode cc pc = .ok (.invokespecial idx, 3)) {v : Nat} (hk : J X F Λ S d (pc + 3) lv st r) : J X F Λ S d pc lv (va_rf (some v) :: st) r := by
  refine J.lift (fun _ hs _ => ok_t hs) (fun _ h => h) ?_ hk
  obtain _ | ⟨p, l, e, R, s, m, args, below, meth, c, Q, dC, dI, dA, oa, A, nL, c0, s0, ρ0, n0⟩ := X
  · exact trivial
  obtain ⟨hx, hb, hml, hown, hts, hlk, hK, hT, hE, hA, hO, hRc, hRs, hfl, hoa⟩ := G
  obtain ⟨hR1, hR2⟩ := hRm
  intro ρ H locs ls cells slots hW hL k9
  have hcat := cat_le (st.map (cvV ρ)) (by rw [List.length_map]; exact hst9)
  refine W.objInit hx hb hown (hts _ h1) (hts _ h2) (hts _ h3) rfl (by rw [hml.1]; exact hL.1) rfl hd (by rw [hR1]; exact hroom.1) (by rw [hR2]; show 2 * 0 + _ + 12 ≤ _; have h9 := hroom.2; omega) ?_
  exact k9 ls hL
end
section
variable {α β δ : Type} {X : CT} {F : α × Sp × Dt} {Λ : β → Sp → Dt → α × Sp × Dt} {S : Sp} {d : Dt} {pc nN fr lo n : Nat} {own : String} {cc : ByteArray} {y : MethodName} {ws : List Cond} {lv : List (Nat × Value)} {st st' av : List Value}
theorem JP_I (G : Ctx X F own cc nN) {rc : Option Int32} {kf : Int32 → Option β} (hF : Fn y ws fr lo av S d rvI Λp rc) (row : JCall X S d pc n y ws fr lo av st st') (hav : (∀ x ∈ st, okV S x) → ∀ x ∈ av, okV S x) (hst : (∀ x ∈ st, okV S x) → ∀ x ∈ st', okV S x)
    (hk : ∀ a, rc = some a → J X F Λ S d (pc + n) lv (.int a :: st') (kf a)) : J X F Λ S d pc lv st (rc.bind kf) := J.call G hF row hav hst (fun _ _ => rfl) hk
theorem JQ_I (G : Ctx X F own cc nN) {rc : Option (Int32 × Dt)} {kf : Int32 × Dt → Option β} (hF : Fn y ws fr lo av S d rvI Λw rc) (row : JCall X S d pc n y ws fr lo av st st') (hav : (∀ x ∈ st, okV S x) → ∀ x ∈ av, okV S x) (hst : (∀ x ∈ st, okV S x) → ∀ x ∈ st', okV S x) (hΛ : ∀ b d', Λ b S d' = Λ b S d)
    (hk : ∀ a d', rc = some (a, d') → J X F Λ S d' (pc + n) lv (.int a :: st') (kf (a, d'))) : J X F Λ S d pc lv st (rc.bind kf) := J.call G hF row hav hst (fun _ _ => hΛ _ _) (fun b hb => hk b.1 b.2 hb)
theorem JA_I (G : Ctx X F own cc nN) {rc : Option (Int32 × Sp × Dt)} {kf : Int32 × Sp × Dt → Option β} (hF : Fn y ws fr lo av S d rvI Λa rc) (row : JCall X S d pc n y ws fr lo av st st') (hav : (∀ x ∈ st, okV S x) → ∀ x ∈ av, okV S x) (hst : (∀ x ∈ st, okV S x) → ∀ x ∈ st', okV S x) (hΛ : ∀ b S' d', Λ b S' d' = Λ b S d)
    (hk : ∀ a S' d', rc = some (a, S', d') → J X F Λ S' d' (pc + n) lv (.int a :: st') (kf (a, S', d'))) : J X F Λ S d pc lv st (rc.bind kf) := J.call G hF row hav hst (fun _ _ => hΛ _ _ _) (fun b hb => hk b.1 b.2.1 b.2.2 hb)
theorem JP_L (G : Ctx X F own cc nN) {rc : Option Int64} {kf : Int64 → Option β} (hF : Fn y ws fr lo av S d rvL Λp rc) (row : JCall X S d pc n y ws fr lo av st st') (hav : (∀ x ∈ st, okV S x) → ∀ x ∈ av, okV S x) (hst : (∀ x ∈ st, okV S x) → ∀ x ∈ st', okV S x)
    (hk : ∀ a, rc = some a → J X F Λ S d (pc + n) lv (.long a :: st') (kf a)) : J X F Λ S d pc lv st (rc.bind kf) := J.call G hF row hav hst (fun _ _ => rfl) hk
theorem JQ_L (G : Ctx X F own cc nN) {rc : Option (Int64 × Dt)} {kf : Int64 × Dt → Option β} (hF : Fn y ws fr lo av S d rvL Λw rc) (row : JCall X S d pc n y ws fr lo av st st') (hav : (∀ x ∈ st, okV S x) → ∀ x ∈ av, okV S x) (hst : (∀ x ∈ st, okV S x) → ∀ x ∈ st', okV S x) (hΛ : ∀ b d', Λ b S d' = Λ b S d)
    (hk : ∀ a d', rc = some (a, d') → J X F Λ S d' (pc + n) lv (.long a :: st') (kf (a, d'))) : J X F Λ S d pc lv st (rc.bind kf) := J.call G hF row hav hst (fun _ _ => hΛ _ _) (fun b hb => hk b.1 b.2 hb)
theorem JA_L (G : Ctx X F own cc nN) {rc : Option (Int64 × Sp × Dt)} {kf : Int64 × Sp × Dt → Option β} (hF : Fn y ws fr lo av S d rvL Λa rc) (row : JCall X S d pc n y ws fr lo av st st') (hav : (∀ x ∈ st, okV S x) → ∀ x ∈ av, okV S x) (hst : (∀ x ∈ st, okV S x) → ∀ x ∈ st', okV S x) (hΛ : ∀ b S' d', Λ b S' d' = Λ b S d)
    (hk : ∀ a S' d', rc = some (a, S', d') → J X F Λ S' d' (pc + n) lv (.long a :: st') (kf (a, S', d'))) : J X F Λ S d pc lv st (rc.bind kf) := J.call G hF row hav hst (fun _ _ => hΛ _ _ _) (fun b hb => hk b.1 b.2.1 b.2.2 hb)
theorem JP_R (G : Ctx X F own cc nN) {rc : Option (Option Nat)} {kf : Option Nat → Option β} (hF : Fn y ws fr lo av S d rvR Λp rc) (row : JCall X S d pc n y ws fr lo av st st') (hav : (∀ x ∈ st, okV S x) → ∀ x ∈ av, okV S x) (hst : (∀ x ∈ st, okV S x) → ∀ x ∈ st', okV S x)
    (hk : ∀ a, rc = some a → J X F Λ S d (pc + n) lv (va_rf a :: st') (kf a)) : J X F Λ S d pc lv st (rc.bind kf) := J.call G hF row hav hst (fun _ _ => rfl) hk
theorem JQ_R (G : Ctx X F own cc nN) {rc : Option (Option Nat × Dt)} {kf : Option Nat × Dt → Option β} (hF : Fn y ws fr lo av S d rvR Λw rc) (row : JCall X S d pc n y ws fr lo av st st') (hav : (∀ x ∈ st, okV S x) → ∀ x ∈ av, okV S x) (hst : (∀ x ∈ st, okV S x) → ∀ x ∈ st', okV S x) (hΛ : ∀ b d', Λ b S d' = Λ b S d)
    (hk : ∀ a d', rc = some (a, d') → J X F Λ S d' (pc + n) lv (va_rf a :: st') (kf (a, d'))) : J X F Λ S d pc lv st (rc.bind kf) := J.call G hF row hav hst (fun _ _ => hΛ _ _) (fun b hb => hk b.1 b.2 hb)
theorem JA_R (G : Ctx X F own cc nN) {rc : Option (Option Nat × Sp × Dt)} {kf : Option Nat × Sp × Dt → Option β} (hF : Fn y ws fr lo av S d rvR Λa rc) (row : JCall X S d pc n y ws fr lo av st st') (hav : (∀ x ∈ st, okV S x) → ∀ x ∈ av, okV S x) (hst : (∀ x ∈ st, okV S x) → ∀ x ∈ st', okV S x) (hΛ : ∀ b S' d', Λ b S' d' = Λ b S d)
    (hk : ∀ a S' d', rc = some (a, S', d') → J X F Λ S' d' (pc + n) lv (va_rf a :: st') (kf (a, S', d'))) : J X F Λ S d pc lv st (rc.bind kf) := J.call G hF row hav hst (fun _ _ => hΛ _ _ _) (fun b hb => hk b.1 b.2.1 b.2.2 hb)
theorem JP_U (G : Ctx X F own cc nN) {rc : Option Unit} {kf : Unit → Option β} (hF : Fn y ws fr lo av S d rvU Λp rc) (row : JCall X S d pc n y ws fr lo av st st') (hav : (∀ x ∈ st, okV S x) → ∀ x ∈ av, okV S x) (hst : (∀ x ∈ st, okV S x) → ∀ x ∈ st', okV S x)
    (hk : ∀ a, rc = some a → J X F Λ S d (pc + n) lv (st') (kf a)) : J X F Λ S d pc lv st (rc.bind kf) := J.call G hF row hav hst (fun _ _ => rfl) hk
theorem JQ_U (G : Ctx X F own cc nN) {rc : Option (Unit × Dt)} {kf : Unit × Dt → Option β} (hF : Fn y ws fr lo av S d rvU Λw rc) (row : JCall X S d pc n y ws fr lo av st st') (hav : (∀ x ∈ st, okV S x) → ∀ x ∈ av, okV S x) (hst : (∀ x ∈ st, okV S x) → ∀ x ∈ st', okV S x) (hΛ : ∀ b d', Λ b S d' = Λ b S d)
    (hk : ∀ a d', rc = some (a, d') → J X F Λ S d' (pc + n) lv (st') (kf (a, d'))) : J X F Λ S d pc lv st (rc.bind kf) := J.call G hF row hav hst (fun _ _ => hΛ _ _) (fun b hb => hk b.1 b.2 hb)
theorem JA_U (G : Ctx X F own cc nN) {rc : Option (Unit × Sp × Dt)} {kf : Unit × Sp × Dt → Option β} (hF : Fn y ws fr lo av S d rvU Λa rc) (row : JCall X S d pc n y ws fr lo av st st') (hav : (∀ x ∈ st, okV S x) → ∀ x ∈ av, okV S x) (hst : (∀ x ∈ st, okV S x) → ∀ x ∈ st', okV S x) (hΛ : ∀ b S' d', Λ b S' d' = Λ b S d)
    (hk : ∀ a S' d', rc = some (a, S', d') → J X F Λ S' d' (pc + n) lv (st') (kf (a, S', d'))) : J X F Λ S d pc lv st (rc.bind kf) := J.call G hF row hav hst (fun _ _ => hΛ _ _ _) (fun b hb => hk b.1 b.2.1 b.2.2 hb)
/-- a call's stack: its values are of this memory -/
theorem sk_V {S : Sp} {as st' : List Value} {o : Option Nat} (h : ∀ x ∈ as.reverse ++ va_rf o :: st', okV S x) : (∀ x ∈ va_rf o :: as, okV S x) ∧ ∀ x ∈ st', okV S x :=
  ⟨fun x hx => h x (by rcases List.mem_cons.mp hx with e | e
                       · rw [e]; simp
                       · simp [e]), fun x hx => h x (by simp [hx])⟩
theorem sk_S {S : Sp} {as st' : List Value} (h : ∀ x ∈ as.reverse ++ st', okV S x) : (∀ x ∈ as, okV S x) ∧ ∀ x ∈ st', okV S x :=
  ⟨fun x hx => h x (by simp [hx]), fun x hx => h x (by simp [hx])⟩
end
