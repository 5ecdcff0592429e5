/-! ROWS that change cells, or make them -/
set_option maxRecDepth 100000
section
variable {α β : Type} {X : CT} {F : α × Sp × Dt} {Λ : β → Sp → Dt → α × Sp × Dt} {S : Sp} {d : Dt} {pc nN : Nat} {lv lv' : List (Nat × Value)} {st : List Value} {r : Option β} {own : String} {cc : ByteArray}
theorem z2_self {α : Type} {f : Nat → Nat → α} {a : Nat} {x : α} : z2 f a x a = fun _ => x := funext fun _ => if_pos rfl
theorem mm_fc {vm : Vm} {n : String} {c : ClassId} (h : vm.findClass n = some c) : ∃ k, vm.classes[c]? = some k := by
  unfold Vm.findClass at h
  obtain ⟨h1, -⟩ := Array.findIdx?_eq_some_iff_getElem.mp h
  exact ⟨_, Array.getElem?_eq_getElem h1⟩
theorem mm_strcls {N : Nat} {len : List Nat} {byt : List (List Int32)} {adK adV : Nat → Nat} {A : Nat → Prop} {U : State} {H : Heap} {i : Nat} (h : vk_S N len byt adK adV A U H) (hi : i < N) : ∃ (c : ClassId) (k : Class), U.vm.findClass "java/lang/String" = some c ∧ U.vm.classes[c]? = some k ∧ U.vm.assignable c c = true := by
  obtain ⟨cell, -, -, h3, -⟩ := (h.1 i hi).1
  obtain ⟨k, hk⟩ := mm_fc h3
  exact ⟨_, k, h3, hk, va_asg _ _⟩
/-- the body is a constructor's -/
def XI (X : CT) : Prop := match X with
  | none => True
  | some (_, _, _, _, _, _, _, _, meth, _, _, _, _, _, _, _, _, _, _, _, _) => meth.name = "<init>"
theorem mm_rfty {t : FieldType} {o : Option Nat} (h : mmK t = 3) : narrow t (va_rf o) = va_rf o ∧ fits t (va_rf o) = true := by
  cases t <;> first | (cases h; done) | (cases o <;> exact ⟨rfl, rfl⟩)
theorem mm_fty {t : FieldType} {x : UInt32} (h : mmK t = 1) : narrow t (.float x) = .float x ∧ fits t (.float x) = true := by
  cases t <;> first | (cases h; done) | exact ⟨rfl, rfl⟩
theorem mm_dty {t : FieldType} {x : UInt64} (h : mmK t = 2) : narrow t (.double x) = .double x ∧ fits t (.double x) = true := by
  cases t <;> first | (cases h; done) | exact ⟨rfl, rfl⟩
theorem Cl_put {S : Sp} {v k : Nat} {w : Option Nat} (h : Cl S) (hw : okO S w) : Cl (S.1, u2 S.2.1 v k w, S.2.2) := by
  intro a j t e
  simp only [u2] at e
  split at e
  · exact hw t e
  · exact h a j t e
theorem Le_put {S : Sp} {f : Nat → Nat → Option Nat} : Le S (S.1, f, S.2.2) := ⟨List.prefix_refl _, Nat.le_refl _, Nat.le_refl _⟩

theorem JW_pI (G : Ctx X F own cc nN) {C ref : String} {T : u_T} {N cn k idx : Nat} (hc : mmCl[cn]? = some (C, T, N)) (hin : ∀ w ∈ u_ws C T N, w ∈ lw_all) (hty : ∀ k, k < N → parseFieldDescriptor (T k).2.2.1 = some (mmTy cn k)) (hnm : ∀ a, a < N → ∀ b, b < N → a ≠ b → (T a).2.1 ≠ (T b).2.1) (hk9 : k < N) (hr9 : ¬ (50 ≤ cn ∧ cn ≤ 5)) (ht9 : mmK (mmTy cn k) = 0) (hsm : ref = (T k).1 ∨ Cond.sameField ref (T k).1 (T k).2.1 (T k).2.2.1 ∈ lw_all) (hfin : (T k).2.2.2 = false) (hl : Cond.fieldLink own idx ref (T k).2.1 (T k).2.2.1 ∈ lw_all) {x : Int32} (hnr : narrow (mmTy cn k) (.int x) = .int x) (hft : fits (mmTy cn k) (.int x) = true) {o : Option Nat} {v : Nat} (hv : isK S cn o = some v) (hΛ : ∀ b, Λ b S (u2 d.1 v k x, d.2) = Λ b S d) (hd : decode cc pc = .ok (.putfield idx, 3)) (hk : J X F Λ S (u2 d.1 v k x, d.2) (pc + 3) lv (st) r) : J X F Λ S d pc lv (.int x :: va_rf o :: st) r := by
  refine J.chg G hΛ (Le.rf) (fun hC _ => hC) (fun _ hs => ok_t (ok_t hs)) ?_ hk
  obtain _ | ⟨p, l, e, R, s, m, args, below, meth, c, Q, dC, dI, dA, oa, A, nL, c0, s0, ρ0, n0⟩ := X
  · exact trivial
  obtain ⟨hx, hb, hml, hown, hts, hlk, hK, hT, hE, hA, hO, hRc, hRs, hfl, hoa⟩ := G
  intro ρ H locs ls cells slots hC hs9 hn0 hn1 hr1 hr2 hW hL k9
  obtain ⟨rfl, n, hs⟩ := isK_at hv
  obtain ⟨hc1, hc2⟩ := mm_cl hc
  have hws := mmW_get (dA := dA) (ρ := ρ) (d := d) hs
  rw [mmE_obj hc1] at hws
  rw [List.map_cons, List.map_cons, cvV_rf]
  refine va_put (D := (dC, dI)) hx hb hts hin (mmTy cn) hty hnm hown hK hW.1 hW.2.1 hW.2.2.1 v hws hc k hk9 (hts _ hl) (fun x hx9 => hsm.elim (fun q => by rw [q]; exact hx9) (fun q => u_same (hts _ q) x hx9)) hfin (hty k hk9) hnr hft (by rw [mmF_len, hc2]; exact hk9) hd (fun H1 locs1 g1 g2 g3 => ?_)
  have e9 := mmW_putI (dA := dA) (ρ := ρ) (d := d) (x := x) hs hc1 hr9 (by rw [hc2]; exact hk9) ht9
  have h2 := k9 ρ H1 locs1 (fun _ _ => rfl) (by rw [e9]; exact g1) (by rw [e9]; exact g2) g3
  simp only [Nat.sub_self, Nat.add_zero] at h2
  exact h2
theorem JW_pIN (G : Ctx X F own cc nN) {C ref : String} {T : u_T} {N cn k idx : Nat} (hc : mmCl[cn]? = some (C, T, N)) (hin : ∀ w ∈ u_ws C T N, w ∈ lw_all) (hty : ∀ k, k < N → parseFieldDescriptor (T k).2.2.1 = some (mmTy cn k)) (hnm : ∀ a, a < N → ∀ b, b < N → a ≠ b → (T a).2.1 ≠ (T b).2.1) (hk9 : k < N) (hr9 : ¬ (50 ≤ cn ∧ cn ≤ 5)) (ht9 : mmK (mmTy cn k) = 0) (hsm : ref = (T k).1 ∨ Cond.sameField ref (T k).1 (T k).2.1 (T k).2.2.1 ∈ lw_all) (hfin : (T k).2.2.2 = false) {host : String} (hl : Cond.fieldLinkNest own idx ref (T k).2.1 (T k).2.2.1 host ∈ lw_tbl) {x : Int32} (hnr : narrow (mmTy cn k) (.int x) = .int x) (hft : fits (mmTy cn k) (.int x) = true) {o : Option Nat} {v : Nat} (hv : isK S cn o = some v) (hΛ : ∀ b, Λ b S (u2 d.1 v k x, d.2) = Λ b S d) (hd : decode cc pc = .ok (.putfield idx, 3)) (hk : J X F Λ S (u2 d.1 v k x, d.2) (pc + 3) lv (st) r) : J X F Λ S d pc lv (.int x :: va_rf o :: st) r := by
  refine J.chg G hΛ (Le.rf) (fun hC _ => hC) (fun _ hs => ok_t (ok_t hs)) ?_ hk
  obtain _ | ⟨p, l, e, R, s, m, args, below, meth, c, Q, dC, dI, dA, oa, A, nL, c0, s0, ρ0, n0⟩ := X
  · exact trivial
  obtain ⟨hx, hb, hml, hown, hts, hlk, hK, hT, hE, hA, hO, hRc, hRs, hfl, hoa⟩ := G
  intro ρ H locs ls cells slots hC hs9 hn0 hn1 hr1 hr2 hW hL k9
  obtain ⟨rfl, n, hs⟩ := isK_at hv
  obtain ⟨hc1, hc2⟩ := mm_cl hc
  have hws := mmW_get (dA := dA) (ρ := ρ) (d := d) hs
  rw [mmE_obj hc1] at hws
  rw [List.map_cons, List.map_cons, cvV_rf]
  refine va_putN (D := (dC, dI)) hx hb hts hin (mmTy cn) hty hnm hown hK hW.1 hW.2.1 hW.2.2.1 v hws hc k hk9 (va_Nw.use rfl (tb_word hT hl rfl)) (fun x hx9 => hsm.elim (fun q => by rw [q]; exact hx9) (fun q => u_same (hts _ q) x hx9)) hfin (hty k hk9) hnr hft (by rw [mmF_len, hc2]; exact hk9) hd (fun H1 locs1 g1 g2 g3 => ?_)
  have e9 := mmW_putI (dA := dA) (ρ := ρ) (d := d) (x := x) hs hc1 hr9 (by rw [hc2]; exact hk9) ht9
  have h2 := k9 ρ H1 locs1 (fun _ _ => rfl) (by rw [e9]; exact g1) (by rw [e9]; exact g2) g3
  simp only [Nat.sub_self, Nat.add_zero] at h2
  exact h2
theorem JW_pIf (G : Ctx X F own cc nN) {C ref : String} {T : u_T} {N cn k idx : Nat} (hc : mmCl[cn]? = some (C, T, N)) (hin : ∀ w ∈ u_ws C T N, w ∈ lw_all) (hty : ∀ k, k < N → parseFieldDescriptor (T k).2.2.1 = some (mmTy cn k)) (hnm : ∀ a, a < N → ∀ b, b < N → a ≠ b → (T a).2.1 ≠ (T b).2.1) (hk9 : k < N) (hr9 : ¬ (50 ≤ cn ∧ cn ≤ 5)) (ht9 : mmK (mmTy cn k) = 0) (hsm : ref = (T k).1 ∨ Cond.sameField ref (T k).1 (T k).2.1 (T k).2.2.1 ∈ lw_all) (hfin : (T k).2.2.2 = true) (hI : XI X) (hdecl : (T k).1 = own) (hl : Cond.fieldLink own idx ref (T k).2.1 (T k).2.2.1 ∈ lw_all) {x : Int32} (hnr : narrow (mmTy cn k) (.int x) = .int x) (hft : fits (mmTy cn k) (.int x) = true) {o : Option Nat} {v : Nat} (hv : isK S cn o = some v) (hΛ : ∀ b, Λ b S (u2 d.1 v k x, d.2) = Λ b S d) (hd : decode cc pc = .ok (.putfield idx, 3)) (hk : J X F Λ S (u2 d.1 v k x, d.2) (pc + 3) lv (st) r) : J X F Λ S d pc lv (.int x :: va_rf o :: st) r := by
  refine J.chg G hΛ (Le.rf) (fun hC _ => hC) (fun _ hs => ok_t (ok_t hs)) ?_ hk
  obtain _ | ⟨p, l, e, R, s, m, args, below, meth, c, Q, dC, dI, dA, oa, A, nL, c0, s0, ρ0, n0⟩ := X
  · exact trivial
  obtain ⟨hx, hb, hml, hown, hts, hlk, hK, hT, hE, hA, hO, hRc, hRs, hfl, hoa⟩ := G
  intro ρ H locs ls cells slots hC hs9 hn0 hn1 hr1 hr2 hW hL k9
  obtain ⟨rfl, n, hs⟩ := isK_at hv
  obtain ⟨hc1, hc2⟩ := mm_cl hc
  have hws := mmW_get (dA := dA) (ρ := ρ) (d := d) hs
  rw [mmE_obj hc1] at hws
  rw [List.map_cons, List.map_cons, cvV_rf]
  refine va_putF (D := (dC, dI)) hx hb hts hin (mmTy cn) hty hnm hown hK hW.1 hW.2.1 hW.2.2.1 v hws hc k hk9 (hts _ hl) (fun x hx9 => hsm.elim (fun q => by rw [q]; exact hx9) (fun q => u_same (hts _ q) x hx9)) hfin hI hdecl (hty k hk9) hnr hft (by rw [mmF_len, hc2]; exact hk9) hd (fun H1 locs1 g1 g2 g3 => ?_)
  have e9 := mmW_putI (dA := dA) (ρ := ρ) (d := d) (x := x) hs hc1 hr9 (by rw [hc2]; exact hk9) ht9
  have h2 := k9 ρ H1 locs1 (fun _ _ => rfl) (by rw [e9]; exact g1) (by rw [e9]; exact g2) g3
  simp only [Nat.sub_self, Nat.add_zero] at h2
  exact h2
theorem JW_pF (G : Ctx X F own cc nN) {C ref : String} {T : u_T} {N cn k idx : Nat} (hc : mmCl[cn]? = some (C, T, N)) (hin : ∀ w ∈ u_ws C T N, w ∈ lw_all) (hty : ∀ k, k < N → parseFieldDescriptor (T k).2.2.1 = some (mmTy cn k)) (hnm : ∀ a, a < N → ∀ b, b < N → a ≠ b → (T a).2.1 ≠ (T b).2.1) (hk9 : k < N) (hr9 : ¬ (50 ≤ cn ∧ cn ≤ 5)) (ht9 : mmK (mmTy cn k) = 1) (hsm : ref = (T k).1 ∨ Cond.sameField ref (T k).1 (T k).2.1 (T k).2.2.1 ∈ lw_all) (hfin : (T k).2.2.2 = false) (hl : Cond.fieldLink own idx ref (T k).2.1 (T k).2.2.1 ∈ lw_all) {x : UInt32}  {o : Option Nat} {v : Nat} (hv : isK S cn o = some v) (hΛ : ∀ b, Λ b S (d.1, u2 d.2.1 v k x, d.2.2) = Λ b S d) (hd : decode cc pc = .ok (.putfield idx, 3)) (hk : J X F Λ S (d.1, u2 d.2.1 v k x, d.2.2) (pc + 3) lv (st) r) : J X F Λ S d pc lv (.float x :: va_rf o :: st) r := by
  refine J.chg G hΛ (Le.rf) (fun hC _ => hC) (fun _ hs => ok_t (ok_t hs)) ?_ hk
  obtain _ | ⟨p, l, e, R, s, m, args, below, meth, c, Q, dC, dI, dA, oa, A, nL, c0, s0, ρ0, n0⟩ := X
  · exact trivial
  obtain ⟨hx, hb, hml, hown, hts, hlk, hK, hT, hE, hA, hO, hRc, hRs, hfl, hoa⟩ := G
  intro ρ H locs ls cells slots hC hs9 hn0 hn1 hr1 hr2 hW hL k9
  obtain ⟨rfl, n, hs⟩ := isK_at hv
  obtain ⟨hc1, hc2⟩ := mm_cl hc
  have hws := mmW_get (dA := dA) (ρ := ρ) (d := d) hs
  rw [mmE_obj hc1] at hws
  rw [List.map_cons, List.map_cons, cvV_rf]
  refine va_put (D := (dC, dI)) hx hb hts hin (mmTy cn) hty hnm hown hK hW.1 hW.2.1 hW.2.2.1 v hws hc k hk9 (hts _ hl) (fun x hx9 => hsm.elim (fun q => by rw [q]; exact hx9) (fun q => u_same (hts _ q) x hx9)) hfin (hty k hk9) (mm_fty ht9).1 (mm_fty ht9).2 (by rw [mmF_len, hc2]; exact hk9) hd (fun H1 locs1 g1 g2 g3 => ?_)
  have e9 := mmW_putF (dA := dA) (ρ := ρ) (d := d) (x := x) hs hc1 hr9 (by rw [hc2]; exact hk9) ht9
  have h2 := k9 ρ H1 locs1 (fun _ _ => rfl) (by rw [e9]; exact g1) (by rw [e9]; exact g2) g3
  simp only [Nat.sub_self, Nat.add_zero] at h2
  exact h2
theorem JW_pFN (G : Ctx X F own cc nN) {C ref : String} {T : u_T} {N cn k idx : Nat} (hc : mmCl[cn]? = some (C, T, N)) (hin : ∀ w ∈ u_ws C T N, w ∈ lw_all) (hty : ∀ k, k < N → parseFieldDescriptor (T k).2.2.1 = some (mmTy cn k)) (hnm : ∀ a, a < N → ∀ b, b < N → a ≠ b → (T a).2.1 ≠ (T b).2.1) (hk9 : k < N) (hr9 : ¬ (50 ≤ cn ∧ cn ≤ 5)) (ht9 : mmK (mmTy cn k) = 1) (hsm : ref = (T k).1 ∨ Cond.sameField ref (T k).1 (T k).2.1 (T k).2.2.1 ∈ lw_all) (hfin : (T k).2.2.2 = false) {host : String} (hl : Cond.fieldLinkNest own idx ref (T k).2.1 (T k).2.2.1 host ∈ lw_tbl) {x : UInt32}  {o : Option Nat} {v : Nat} (hv : isK S cn o = some v) (hΛ : ∀ b, Λ b S (d.1, u2 d.2.1 v k x, d.2.2) = Λ b S d) (hd : decode cc pc = .ok (.putfield idx, 3)) (hk : J X F Λ S (d.1, u2 d.2.1 v k x, d.2.2) (pc + 3) lv (st) r) : J X F Λ S d pc lv (.float x :: va_rf o :: st) r := by
  refine J.chg G hΛ (Le.rf) (fun hC _ => hC) (fun _ hs => ok_t (ok_t hs)) ?_ hk
  obtain _ | ⟨p, l, e, R, s, m, args, below, meth, c, Q, dC, dI, dA, oa, A, nL, c0, s0, ρ0, n0⟩ := X
  · exact trivial
  obtain ⟨hx, hb, hml, hown, hts, hlk, hK, hT, hE, hA, hO, hRc, hRs, hfl, hoa⟩ := G
  intro ρ H locs ls cells slots hC hs9 hn0 hn1 hr1 hr2 hW hL k9
  obtain ⟨rfl, n, hs⟩ := isK_at hv
  obtain ⟨hc1, hc2⟩ := mm_cl hc
  have hws := mmW_get (dA := dA) (ρ := ρ) (d := d) hs
  rw [mmE_obj hc1] at hws
  rw [List.map_cons, List.map_cons, cvV_rf]
  refine va_putN (D := (dC, dI)) hx hb hts hin (mmTy cn) hty hnm hown hK hW.1 hW.2.1 hW.2.2.1 v hws hc k hk9 (va_Nw.use rfl (tb_word hT hl rfl)) (fun x hx9 => hsm.elim (fun q => by rw [q]; exact hx9) (fun q => u_same (hts _ q) x hx9)) hfin (hty k hk9) (mm_fty ht9).1 (mm_fty ht9).2 (by rw [mmF_len, hc2]; exact hk9) hd (fun H1 locs1 g1 g2 g3 => ?_)
  have e9 := mmW_putF (dA := dA) (ρ := ρ) (d := d) (x := x) hs hc1 hr9 (by rw [hc2]; exact hk9) ht9
  have h2 := k9 ρ H1 locs1 (fun _ _ => rfl) (by rw [e9]; exact g1) (by rw [e9]; exact g2) g3
  simp only [Nat.sub_self, Nat.add_zero] at h2
  exact h2
theorem JW_pFf (G : Ctx X F own cc nN) {C ref : String} {T : u_T} {N cn k idx : Nat} (hc : mmCl[cn]? = some (C, T, N)) (hin : ∀ w ∈ u_ws C T N, w ∈ lw_all) (hty : ∀ k, k < N → parseFieldDescriptor (T k).2.2.1 = some (mmTy cn k)) (hnm : ∀ a, a < N → ∀ b, b < N → a ≠ b → (T a).2.1 ≠ (T b).2.1) (hk9 : k < N) (hr9 : ¬ (50 ≤ cn ∧ cn ≤ 5)) (ht9 : mmK (mmTy cn k) = 1) (hsm : ref = (T k).1 ∨ Cond.sameField ref (T k).1 (T k).2.1 (T k).2.2.1 ∈ lw_all) (hfin : (T k).2.2.2 = true) (hI : XI X) (hdecl : (T k).1 = own) (hl : Cond.fieldLink own idx ref (T k).2.1 (T k).2.2.1 ∈ lw_all) {x : UInt32}  {o : Option Nat} {v : Nat} (hv : isK S cn o = some v) (hΛ : ∀ b, Λ b S (d.1, u2 d.2.1 v k x, d.2.2) = Λ b S d) (hd : decode cc pc = .ok (.putfield idx, 3)) (hk : J X F Λ S (d.1, u2 d.2.1 v k x, d.2.2) (pc + 3) lv (st) r) : J X F Λ S d pc lv (.float x :: va_rf o :: st) r := by
  refine J.chg G hΛ (Le.rf) (fun hC _ => hC) (fun _ hs => ok_t (ok_t hs)) ?_ hk
  obtain _ | ⟨p, l, e, R, s, m, args, below, meth, c, Q, dC, dI, dA, oa, A, nL, c0, s0, ρ0, n0⟩ := X
  · exact trivial
  obtain ⟨hx, hb, hml, hown, hts, hlk, hK, hT, hE, hA, hO, hRc, hRs, hfl, hoa⟩ := G
  intro ρ H locs ls cells slots hC hs9 hn0 hn1 hr1 hr2 hW hL k9
  obtain ⟨rfl, n, hs⟩ := isK_at hv
  obtain ⟨hc1, hc2⟩ := mm_cl hc
  have hws := mmW_get (dA := dA) (ρ := ρ) (d := d) hs
  rw [mmE_obj hc1] at hws
  rw [List.map_cons, List.map_cons, cvV_rf]
  refine va_putF (D := (dC, dI)) hx hb hts hin (mmTy cn) hty hnm hown hK hW.1 hW.2.1 hW.2.2.1 v hws hc k hk9 (hts _ hl) (fun x hx9 => hsm.elim (fun q => by rw [q]; exact hx9) (fun q => u_same (hts _ q) x hx9)) hfin hI hdecl (hty k hk9) (mm_fty ht9).1 (mm_fty ht9).2 (by rw [mmF_len, hc2]; exact hk9) hd (fun H1 locs1 g1 g2 g3 => ?_)
  have e9 := mmW_putF (dA := dA) (ρ := ρ) (d := d) (x := x) hs hc1 hr9 (by rw [hc2]; exact hk9) ht9
  have h2 := k9 ρ H1 locs1 (fun _ _ => rfl) (by rw [e9]; exact g1) (by rw [e9]; exact g2) g3
  simp only [Nat.sub_self, Nat.add_zero] at h2
  exact h2
theorem JW_pD (G : Ctx X F own cc nN) {C ref : String} {T : u_T} {N cn k idx : Nat} (hc : mmCl[cn]? = some (C, T, N)) (hin : ∀ w ∈ u_ws C T N, w ∈ lw_all) (hty : ∀ k, k < N → parseFieldDescriptor (T k).2.2.1 = some (mmTy cn k)) (hnm : ∀ a, a < N → ∀ b, b < N → a ≠ b → (T a).2.1 ≠ (T b).2.1) (hk9 : k < N) (hr9 : ¬ (50 ≤ cn ∧ cn ≤ 5)) (ht9 : mmK (mmTy cn k) = 2) (hsm : ref = (T k).1 ∨ Cond.sameField ref (T k).1 (T k).2.1 (T k).2.2.1 ∈ lw_all) (hfin : (T k).2.2.2 = false) (hl : Cond.fieldLink own idx ref (T k).2.1 (T k).2.2.1 ∈ lw_all) {x : UInt64}  {o : Option Nat} {v : Nat} (hv : isK S cn o = some v) (hΛ : ∀ b, Λ b S (d.1, d.2.1, u2 d.2.2 v k x) = Λ b S d) (hd : decode cc pc = .ok (.putfield idx, 3)) (hk : J X F Λ S (d.1, d.2.1, u2 d.2.2 v k x) (pc + 3) lv (st) r) : J X F Λ S d pc lv (.double x :: va_rf o :: st) r := by
  refine J.chg G hΛ (Le.rf) (fun hC _ => hC) (fun _ hs => ok_t (ok_t hs)) ?_ hk
  obtain _ | ⟨p, l, e, R, s, m, args, below, meth, c, Q, dC, dI, dA, oa, A, nL, c0, s0, ρ0, n0⟩ := X
  · exact trivial
  obtain ⟨hx, hb, hml, hown, hts, hlk, hK, hT, hE, hA, hO, hRc, hRs, hfl, hoa⟩ := G
  intro ρ H locs ls cells slots hC hs9 hn0 hn1 hr1 hr2 hW hL k9
  obtain ⟨rfl, n, hs⟩ := isK_at hv
  obtain ⟨hc1, hc2⟩ := mm_cl hc
  have hws := mmW_get (dA := dA) (ρ := ρ) (d := d) hs
  rw [mmE_obj hc1] at hws
  rw [List.map_cons, List.map_cons, cvV_rf]
  refine va_put (D := (dC, dI)) hx hb hts hin (mmTy cn) hty hnm hown hK hW.1 hW.2.1 hW.2.2.1 v hws hc k hk9 (hts _ hl) (fun x hx9 => hsm.elim (fun q => by rw [q]; exact hx9) (fun q => u_same (hts _ q) x hx9)) hfin (hty k hk9) (mm_dty ht9).1 (mm_dty ht9).2 (by rw [mmF_len, hc2]; exact hk9) hd (fun H1 locs1 g1 g2 g3 => ?_)
  have e9 := mmW_putD (dA := dA) (ρ := ρ) (d := d) (x := x) hs hc1 hr9 (by rw [hc2]; exact hk9) ht9
  have h2 := k9 ρ H1 locs1 (fun _ _ => rfl) (by rw [e9]; exact g1) (by rw [e9]; exact g2) g3
  simp only [Nat.sub_self, Nat.add_zero] at h2
  exact h2
theorem JW_pDN (G : Ctx X F own cc nN) {C ref : String} {T : u_T} {N cn k idx : Nat} (hc : mmCl[cn]? = some (C, T, N)) (hin : ∀ w ∈ u_ws C T N, w ∈ lw_all) (hty : ∀ k, k < N → parseFieldDescriptor (T k).2.2.1 = some (mmTy cn k)) (hnm : ∀ a, a < N → ∀ b, b < N → a ≠ b → (T a).2.1 ≠ (T b).2.1) (hk9 : k < N) (hr9 : ¬ (50 ≤ cn ∧ cn ≤ 5)) (ht9 : mmK (mmTy cn k) = 2) (hsm : ref = (T k).1 ∨ Cond.sameField ref (T k).1 (T k).2.1 (T k).2.2.1 ∈ lw_all) (hfin : (T k).2.2.2 = false) {host : String} (hl : Cond.fieldLinkNest own idx ref (T k).2.1 (T k).2.2.1 host ∈ lw_tbl) {x : UInt64}  {o : Option Nat} {v : Nat} (hv : isK S cn o = some v) (hΛ : ∀ b, Λ b S (d.1, d.2.1, u2 d.2.2 v k x) = Λ b S d) (hd : decode cc pc = .ok (.putfield idx, 3)) (hk : J X F Λ S (d.1, d.2.1, u2 d.2.2 v k x) (pc + 3) lv (st) r) : J X F Λ S d pc lv (.double x :: va_rf o :: st) r := by
  refine J.chg G hΛ (Le.rf) (fun hC _ => hC) (fun _ hs => ok_t (ok_t hs)) ?_ hk
  obtain _ | ⟨p, l, e, R, s, m, args, below, meth, c, Q, dC, dI, dA, oa, A, nL, c0, s0, ρ0, n0⟩ := X
  · exact trivial
  obtain ⟨hx, hb, hml, hown, hts, hlk, hK, hT, hE, hA, hO, hRc, hRs, hfl, hoa⟩ := G
  intro ρ H locs ls cells slots hC hs9 hn0 hn1 hr1 hr2 hW hL k9
  obtain ⟨rfl, n, hs⟩ := isK_at hv
  obtain ⟨hc1, hc2⟩ := mm_cl hc
  have hws := mmW_get (dA := dA) (ρ := ρ) (d := d) hs
  rw [mmE_obj hc1] at hws
  rw [List.map_cons, List.map_cons, cvV_rf]
  refine va_putN (D := (dC, dI)) hx hb hts hin (mmTy cn) hty hnm hown hK hW.1 hW.2.1 hW.2.2.1 v hws hc k hk9 (va_Nw.use rfl (tb_word hT hl rfl)) (fun x hx9 => hsm.elim (fun q => by rw [q]; exact hx9) (fun q => u_same (hts _ q) x hx9)) hfin (hty k hk9) (mm_dty ht9).1 (mm_dty ht9).2 (by rw [mmF_len, hc2]; exact hk9) hd (fun H1 locs1 g1 g2 g3 => ?_)
  have e9 := mmW_putD (dA := dA) (ρ := ρ) (d := d) (x := x) hs hc1 hr9 (by rw [hc2]; exact hk9) ht9
  have h2 := k9 ρ H1 locs1 (fun _ _ => rfl) (by rw [e9]; exact g1) (by rw [e9]; exact g2) g3
  simp only [Nat.sub_self, Nat.add_zero] at h2
  exact h2
theorem JW_pDf (G : Ctx X F own cc nN) {C ref : String} {T : u_T} {N cn k idx : Nat} (hc : mmCl[cn]? = some (C, T, N)) (hin : ∀ w ∈ u_ws C T N, w ∈ lw_all) (hty : ∀ k, k < N → parseFieldDescriptor (T k).2.2.1 = some (mmTy cn k)) (hnm : ∀ a, a < N → ∀ b, b < N → a ≠ b → (T a).2.1 ≠ (T b).2.1) (hk9 : k < N) (hr9 : ¬ (50 ≤ cn ∧ cn ≤ 5)) (ht9 : mmK (mmTy cn k) = 2) (hsm : ref = (T k).1 ∨ Cond.sameField ref (T k).1 (T k).2.1 (T k).2.2.1 ∈ lw_all) (hfin : (T k).2.2.2 = true) (hI : XI X) (hdecl : (T k).1 = own) (hl : Cond.fieldLink own idx ref (T k).2.1 (T k).2.2.1 ∈ lw_all) {x : UInt64}  {o : Option Nat} {v : Nat} (hv : isK S cn o = some v) (hΛ : ∀ b, Λ b S (d.1, d.2.1, u2 d.2.2 v k x) = Λ b S d) (hd : decode cc pc = .ok (.putfield idx, 3)) (hk : J X F Λ S (d.1, d.2.1, u2 d.2.2 v k x) (pc + 3) lv (st) r) : J X F Λ S d pc lv (.double x :: va_rf o :: st) r := by
  refine J.chg G hΛ (Le.rf) (fun hC _ => hC) (fun _ hs => ok_t (ok_t hs)) ?_ hk
  obtain _ | ⟨p, l, e, R, s, m, args, below, meth, c, Q, dC, dI, dA, oa, A, nL, c0, s0, ρ0, n0⟩ := X
  · exact trivial
  obtain ⟨hx, hb, hml, hown, hts, hlk, hK, hT, hE, hA, hO, hRc, hRs, hfl, hoa⟩ := G
  intro ρ H locs ls cells slots hC hs9 hn0 hn1 hr1 hr2 hW hL k9
  obtain ⟨rfl, n, hs⟩ := isK_at hv
  obtain ⟨hc1, hc2⟩ := mm_cl hc
  have hws := mmW_get (dA := dA) (ρ := ρ) (d := d) hs
  rw [mmE_obj hc1] at hws
  rw [List.map_cons, List.map_cons, cvV_rf]
  refine va_putF (D := (dC, dI)) hx hb hts hin (mmTy cn) hty hnm hown hK hW.1 hW.2.1 hW.2.2.1 v hws hc k hk9 (hts _ hl) (fun x hx9 => hsm.elim (fun q => by rw [q]; exact hx9) (fun q => u_same (hts _ q) x hx9)) hfin hI hdecl (hty k hk9) (mm_dty ht9).1 (mm_dty ht9).2 (by rw [mmF_len, hc2]; exact hk9) hd (fun H1 locs1 g1 g2 g3 => ?_)
  have e9 := mmW_putD (dA := dA) (ρ := ρ) (d := d) (x := x) hs hc1 hr9 (by rw [hc2]; exact hk9) ht9
  have h2 := k9 ρ H1 locs1 (fun _ _ => rfl) (by rw [e9]; exact g1) (by rw [e9]; exact g2) g3
  simp only [Nat.sub_self, Nat.add_zero] at h2
  exact h2
theorem JW_pR (G : Ctx X F own cc nN) {C ref : String} {T : u_T} {N cn k idx : Nat} (hc : mmCl[cn]? = some (C, T, N)) (hin : ∀ w ∈ u_ws C T N, w ∈ lw_all) (hty : ∀ k, k < N → parseFieldDescriptor (T k).2.2.1 = some (mmTy cn k)) (hnm : ∀ a, a < N → ∀ b, b < N → a ≠ b → (T a).2.1 ≠ (T b).2.1) (hk9 : k < N) (hr9 : ¬ (50 ≤ cn ∧ cn ≤ 5)) (ht9 : mmK (mmTy cn k) = 3) (hsm : ref = (T k).1 ∨ Cond.sameField ref (T k).1 (T k).2.1 (T k).2.2.1 ∈ lw_all) (hfin : (T k).2.2.2 = false) (hl : Cond.fieldLink own idx ref (T k).2.1 (T k).2.2.1 ∈ lw_all) {w : Option Nat}  {o : Option Nat} {v : Nat} (hv : isK S cn o = some v) (hΛ : ∀ b, Λ b (S.1, u2 S.2.1 v k w, S.2.2) d = Λ b S d) (hd : decode cc pc = .ok (.putfield idx, 3)) (hk : J X F Λ (S.1, u2 S.2.1 v k w, S.2.2) d (pc + 3) lv (st) r) : J X F Λ S d pc lv (va_rf w :: va_rf o :: st) r := by
  refine J.chg G hΛ (Le_put) (fun hC hs => Cl_put hC (ok_ho hs)) (fun _ hs => ok_t (ok_t hs)) ?_ hk
  obtain _ | ⟨p, l, e, R, s, m, args, below, meth, c, Q, dC, dI, dA, oa, A, nL, c0, s0, ρ0, n0⟩ := X
  · exact trivial
  obtain ⟨hx, hb, hml, hown, hts, hlk, hK, hT, hE, hA, hO, hRc, hRs, hfl, hoa⟩ := G
  intro ρ H locs ls cells slots hC hs9 hn0 hn1 hr1 hr2 hW hL k9
  obtain ⟨rfl, n, hs⟩ := isK_at hv
  obtain ⟨hc1, hc2⟩ := mm_cl hc
  have hws := mmW_get (dA := dA) (ρ := ρ) (d := d) hs
  rw [mmE_obj hc1] at hws
  rw [List.map_cons, List.map_cons, cvV_rf, cvV_rf]
  refine va_put (D := (dC, dI)) hx hb hts hin (mmTy cn) hty hnm hown hK hW.1 hW.2.1 hW.2.2.1 v hws hc k hk9 (hts _ hl) (fun x hx9 => hsm.elim (fun q => by rw [q]; exact hx9) (fun q => u_same (hts _ q) x hx9)) hfin (hty k hk9) (mm_rfty ht9).1 (mm_rfty ht9).2 (by rw [mmF_len, hc2]; exact hk9) hd (fun H1 locs1 g1 g2 g3 => ?_)
  have e9 := mmW_putR (dA := dA) (ρ := ρ) (d := d) (x := w) hs hc1 hr9 (by rw [hc2]; exact hk9) ht9
  have h2 := k9 ρ H1 locs1 (fun _ _ => rfl) (by rw [e9]; exact g1) (by rw [e9]; exact g2) g3
  simp only [Nat.sub_self, Nat.add_zero] at h2
  exact h2
theorem JW_pRN (G : Ctx X F own cc nN) {C ref : String} {T : u_T} {N cn k idx : Nat} (hc : mmCl[cn]? = some (C, T, N)) (hin : ∀ w ∈ u_ws C T N, w ∈ lw_all) (hty : ∀ k, k < N → parseFieldDescriptor (T k).2.2.1 = some (mmTy cn k)) (hnm : ∀ a, a < N → ∀ b, b < N → a ≠ b → (T a).2.1 ≠ (T b).2.1) (hk9 : k < N) (hr9 : ¬ (50 ≤ cn ∧ cn ≤ 5)) (ht9 : mmK (mmTy cn k) = 3) (hsm : ref = (T k).1 ∨ Cond.sameField ref (T k).1 (T k).2.1 (T k).2.2.1 ∈ lw_all) (hfin : (T k).2.2.2 = false) {host : String} (hl : Cond.fieldLinkNest own idx ref (T k).2.1 (T k).2.2.1 host ∈ lw_tbl) {w : Option Nat}  {o : Option Nat} {v : Nat} (hv : isK S cn o = some v) (hΛ : ∀ b, Λ b (S.1, u2 S.2.1 v k w, S.2.2) d = Λ b S d) (hd : decode cc pc = .ok (.putfield idx, 3)) (hk : J X F Λ (S.1, u2 S.2.1 v k w, S.2.2) d (pc + 3) lv (st) r) : J X F Λ S d pc lv (va_rf w :: va_rf o :: st) r := by
  refine J.chg G hΛ (Le_put) (fun hC hs => Cl_put hC (ok_ho hs)) (fun _ hs => ok_t (ok_t hs)) ?_ hk
  obtain _ | ⟨p, l, e, R, s, m, args, below, meth, c, Q, dC, dI, dA, oa, A, nL, c0, s0, ρ0, n0⟩ := X
  · exact trivial
  obtain ⟨hx, hb, hml, hown, hts, hlk, hK, hT, hE, hA, hO, hRc, hRs, hfl, hoa⟩ := G
  intro ρ H locs ls cells slots hC hs9 hn0 hn1 hr1 hr2 hW hL k9
  obtain ⟨rfl, n, hs⟩ := isK_at hv
  obtain ⟨hc1, hc2⟩ := mm_cl hc
  have hws := mmW_get (dA := dA) (ρ := ρ) (d := d) hs
  rw [mmE_obj hc1] at hws
  rw [List.map_cons, List.map_cons, cvV_rf, cvV_rf]
  refine va_putN (D := (dC, dI)) hx hb hts hin (mmTy cn) hty hnm hown hK hW.1 hW.2.1 hW.2.2.1 v hws hc k hk9 (va_Nw.use rfl (tb_word hT hl rfl)) (fun x hx9 => hsm.elim (fun q => by rw [q]; exact hx9) (fun q => u_same (hts _ q) x hx9)) hfin (hty k hk9) (mm_rfty ht9).1 (mm_rfty ht9).2 (by rw [mmF_len, hc2]; exact hk9) hd (fun H1 locs1 g1 g2 g3 => ?_)
  have e9 := mmW_putR (dA := dA) (ρ := ρ) (d := d) (x := w) hs hc1 hr9 (by rw [hc2]; exact hk9) ht9
  have h2 := k9 ρ H1 locs1 (fun _ _ => rfl) (by rw [e9]; exact g1) (by rw [e9]; exact g2) g3
  simp only [Nat.sub_self, Nat.add_zero] at h2
  exact h2
theorem JW_pRf (G : Ctx X F own cc nN) {C ref : String} {T : u_T} {N cn k idx : Nat} (hc : mmCl[cn]? = some (C, T, N)) (hin : ∀ w ∈ u_ws C T N, w ∈ lw_all) (hty : ∀ k, k < N → parseFieldDescriptor (T k).2.2.1 = some (mmTy cn k)) (hnm : ∀ a, a < N → ∀ b, b < N → a ≠ b → (T a).2.1 ≠ (T b).2.1) (hk9 : k < N) (hr9 : ¬ (50 ≤ cn ∧ cn ≤ 5)) (ht9 : mmK (mmTy cn k) = 3) (hsm : ref = (T k).1 ∨ Cond.sameField ref (T k).1 (T k).2.1 (T k).2.2.1 ∈ lw_all) (hfin : (T k).2.2.2 = true) (hI : XI X) (hdecl : (T k).1 = own) (hl : Cond.fieldLink own idx ref (T k).2.1 (T k).2.2.1 ∈ lw_all) {w : Option Nat}  {o : Option Nat} {v : Nat} (hv : isK S cn o = some v) (hΛ : ∀ b, Λ b (S.1, u2 S.2.1 v k w, S.2.2) d = Λ b S d) (hd : decode cc pc = .ok (.putfield idx, 3)) (hk : J X F Λ (S.1, u2 S.2.1 v k w, S.2.2) d (pc + 3) lv (st) r) : J X F Λ S d pc lv (va_rf w :: va_rf o :: st) r := by
  refine J.chg G hΛ (Le_put) (fun hC hs => Cl_put hC (ok_ho hs)) (fun _ hs => ok_t (ok_t hs)) ?_ hk
  obtain _ | ⟨p, l, e, R, s, m, args, below, meth, c, Q, dC, dI, dA, oa, A, nL, c0, s0, ρ0, n0⟩ := X
  · exact trivial
  obtain ⟨hx, hb, hml, hown, hts, hlk, hK, hT, hE, hA, hO, hRc, hRs, hfl, hoa⟩ := G
  intro ρ H locs ls cells slots hC hs9 hn0 hn1 hr1 hr2 hW hL k9
  obtain ⟨rfl, n, hs⟩ := isK_at hv
  obtain ⟨hc1, hc2⟩ := mm_cl hc
  have hws := mmW_get (dA := dA) (ρ := ρ) (d := d) hs
  rw [mmE_obj hc1] at hws
  rw [List.map_cons, List.map_cons, cvV_rf, cvV_rf]
  refine va_putF (D := (dC, dI)) hx hb hts hin (mmTy cn) hty hnm hown hK hW.1 hW.2.1 hW.2.2.1 v hws hc k hk9 (hts _ hl) (fun x hx9 => hsm.elim (fun q => by rw [q]; exact hx9) (fun q => u_same (hts _ q) x hx9)) hfin hI hdecl (hty k hk9) (mm_rfty ht9).1 (mm_rfty ht9).2 (by rw [mmF_len, hc2]; exact hk9) hd (fun H1 locs1 g1 g2 g3 => ?_)
  have e9 := mmW_putR (dA := dA) (ρ := ρ) (d := d) (x := w) hs hc1 hr9 (by rw [hc2]; exact hk9) ht9
  have h2 := k9 ρ H1 locs1 (fun _ _ => rfl) (by rw [e9]; exact g1) (by rw [e9]; exact g2) g3
  simp only [Nat.sub_self, Nat.add_zero] at h2
  exact h2
theorem JW_iastore (G : Ctx X F own cc nN) {o : Option Nat} {i : Int32} {x : Int32} {q : Nat × Nat} (hq : aix S 50 o i = some q) (hΛ : ∀ b, Λ b S (u2 d.1 q.1 q.2 x, d.2) = Λ b S d) (hd : decode cc pc = .ok (.iastore, 1)) (hk : J X F Λ S (u2 d.1 q.1 q.2 x, d.2) (pc + 1) lv (st) r) : J X F Λ S d pc lv (.int x :: .int i :: va_rf o :: st) r := by
  refine J.chg G hΛ (Le.rf) (fun hC _ => hC) (fun _ hs => ok_t (ok_t (ok_t hs))) ?_ hk
  obtain _ | ⟨p, l, e, R, s, m, args, below, meth, c, Q, dC, dI, dA, oa, A, nL, c0, s0, ρ0, n0⟩ := X
  · exact trivial
  obtain ⟨hx, hb, hml, hown, hts, hlk, hK, hT, hE, hA, hO, hRc, hRs, hfl, hoa⟩ := G
  intro ρ H locs ls cells slots hC hs9 hn0 hn1 hr1 hr2 hW hL k9
  obtain ⟨rfl, h2, n, h3, h4⟩ := aix_at hq
  have hws := mmW_get (dA := dA) (ρ := ρ) (d := d) h3
  rw [show (50 : Nat) = 50 + 0 from rfl] at hws h3
  rw [mmE_arr] at hws
  rw [List.map_cons, List.map_cons, List.map_cons, cvV_rf]
  refine va_iast (D := (dC, dI)) hx hb hK hW.1 hW.2.1 hW.2.2.1 q.1 0 hws (mmTs_at (by decide)) h4 hd (fun H1 locs1 g1 g2 g3 => ?_)
  rw [← h2] at g1 g2
  have h5 := k9 ρ H1 locs1 (fun _ _ => rfl) (by rw [mmW_astI h3 rfl]; exact g1) (by rw [mmW_astI h3 rfl]; exact g2) g3
  simp only [Nat.sub_self, Nat.add_zero] at h5
  exact h5
theorem JW_zastore (G : Ctx X F own cc nN) {o : Option Nat} {i : Int32} {x : Int32} {q : Nat × Nat} (hq : aix S 51 o i = some q) (hΛ : ∀ b, Λ b S (u2 d.1 q.1 q.2 (vp_nar .boolean x), d.2) = Λ b S d) (hd : decode cc pc = .ok (.bastore, 1)) (hk : J X F Λ S (u2 d.1 q.1 q.2 (vp_nar .boolean x), d.2) (pc + 1) lv (st) r) : J X F Λ S d pc lv (.int x :: .int i :: va_rf o :: st) r := by
  refine J.chg G hΛ (Le.rf) (fun hC _ => hC) (fun _ hs => ok_t (ok_t (ok_t hs))) ?_ hk
  obtain _ | ⟨p, l, e, R, s, m, args, below, meth, c, Q, dC, dI, dA, oa, A, nL, c0, s0, ρ0, n0⟩ := X
  · exact trivial
  obtain ⟨hx, hb, hml, hown, hts, hlk, hK, hT, hE, hA, hO, hRc, hRs, hfl, hoa⟩ := G
  intro ρ H locs ls cells slots hC hs9 hn0 hn1 hr1 hr2 hW hL k9
  obtain ⟨rfl, h2, n, h3, h4⟩ := aix_at hq
  have hws := mmW_get (dA := dA) (ρ := ρ) (d := d) h3
  rw [show (51 : Nat) = 50 + 1 from rfl] at hws h3
  rw [mmE_arr] at hws
  rw [List.map_cons, List.map_cons, List.map_cons, cvV_rf]
  refine va_zast (D := (dC, dI)) hx hb hK hW.1 hW.2.1 hW.2.2.1 q.1 1 hws (mmTs_at (by decide)) h4 hd (fun H1 locs1 g1 g2 g3 => ?_)
  rw [← h2] at g1 g2
  have h5 := k9 ρ H1 locs1 (fun _ _ => rfl) (by rw [mmW_astI h3 rfl]; exact g1) (by rw [mmW_astI h3 rfl]; exact g2) g3
  simp only [Nat.sub_self, Nat.add_zero] at h5
  exact h5
theorem JW_bastore (G : Ctx X F own cc nN) {o : Option Nat} {i : Int32} {x : Int32} {q : Nat × Nat} (hq : aix S 52 o i = some q) (hΛ : ∀ b, Λ b S (u2 d.1 q.1 q.2 (vp_nar .byte x), d.2) = Λ b S d) (hd : decode cc pc = .ok (.bastore, 1)) (hk : J X F Λ S (u2 d.1 q.1 q.2 (vp_nar .byte x), d.2) (pc + 1) lv (st) r) : J X F Λ S d pc lv (.int x :: .int i :: va_rf o :: st) r := by
  refine J.chg G hΛ (Le.rf) (fun hC _ => hC) (fun _ hs => ok_t (ok_t (ok_t hs))) ?_ hk
  obtain _ | ⟨p, l, e, R, s, m, args, below, meth, c, Q, dC, dI, dA, oa, A, nL, c0, s0, ρ0, n0⟩ := X
  · exact trivial
  obtain ⟨hx, hb, hml, hown, hts, hlk, hK, hT, hE, hA, hO, hRc, hRs, hfl, hoa⟩ := G
  intro ρ H locs ls cells slots hC hs9 hn0 hn1 hr1 hr2 hW hL k9
  obtain ⟨rfl, h2, n, h3, h4⟩ := aix_at hq
  have hws := mmW_get (dA := dA) (ρ := ρ) (d := d) h3
  rw [show (52 : Nat) = 50 + 2 from rfl] at hws h3
  rw [mmE_arr] at hws
  rw [List.map_cons, List.map_cons, List.map_cons, cvV_rf]
  refine va_bast (D := (dC, dI)) hx hb hK hW.1 hW.2.1 hW.2.2.1 q.1 2 hws (mmTs_at (by decide)) h4 hd (fun H1 locs1 g1 g2 g3 => ?_)
  rw [← h2] at g1 g2
  have h5 := k9 ρ H1 locs1 (fun _ _ => rfl) (by rw [mmW_astI h3 rfl]; exact g1) (by rw [mmW_astI h3 rfl]; exact g2) g3
  simp only [Nat.sub_self, Nat.add_zero] at h5
  exact h5
theorem JW_fastore (G : Ctx X F own cc nN) {o : Option Nat} {i : Int32} {x : UInt32} {q : Nat × Nat} (hq : aix S 53 o i = some q) (hΛ : ∀ b, Λ b S (d.1, u2 d.2.1 q.1 q.2 x, d.2.2) = Λ b S d) (hd : decode cc pc = .ok (.fastore, 1)) (hk : J X F Λ S (d.1, u2 d.2.1 q.1 q.2 x, d.2.2) (pc + 1) lv (st) r) : J X F Λ S d pc lv (.float x :: .int i :: va_rf o :: st) r := by
  refine J.chg G hΛ (Le.rf) (fun hC _ => hC) (fun _ hs => ok_t (ok_t (ok_t hs))) ?_ hk
  obtain _ | ⟨p, l, e, R, s, m, args, below, meth, c, Q, dC, dI, dA, oa, A, nL, c0, s0, ρ0, n0⟩ := X
  · exact trivial
  obtain ⟨hx, hb, hml, hown, hts, hlk, hK, hT, hE, hA, hO, hRc, hRs, hfl, hoa⟩ := G
  intro ρ H locs ls cells slots hC hs9 hn0 hn1 hr1 hr2 hW hL k9
  obtain ⟨rfl, h2, n, h3, h4⟩ := aix_at hq
  have hws := mmW_get (dA := dA) (ρ := ρ) (d := d) h3
  rw [show (53 : Nat) = 50 + 3 from rfl] at hws h3
  rw [mmE_arr] at hws
  rw [List.map_cons, List.map_cons, List.map_cons, cvV_rf]
  refine va_fast (D := (dC, dI)) hx hb hK hW.1 hW.2.1 hW.2.2.1 q.1 3 hws (mmTs_at (by decide)) h4 hd (fun H1 locs1 g1 g2 g3 => ?_)
  rw [← h2] at g1 g2
  have h5 := k9 ρ H1 locs1 (fun _ _ => rfl) (by rw [mmW_astF h3 rfl]; exact g1) (by rw [mmW_astF h3 rfl]; exact g2) g3
  simp only [Nat.sub_self, Nat.add_zero] at h5
  exact h5
theorem JW_dastore (G : Ctx X F own cc nN) {o : Option Nat} {i : Int32} {x : UInt64} {q : Nat × Nat} (hq : aix S 54 o i = some q) (hΛ : ∀ b, Λ b S (d.1, d.2.1, u2 d.2.2 q.1 q.2 x) = Λ b S d) (hd : decode cc pc = .ok (.dastore, 1)) (hk : J X F Λ S (d.1, d.2.1, u2 d.2.2 q.1 q.2 x) (pc + 1) lv (st) r) : J X F Λ S d pc lv (.double x :: .int i :: va_rf o :: st) r := by
  refine J.chg G hΛ (Le.rf) (fun hC _ => hC) (fun _ hs => ok_t (ok_t (ok_t hs))) ?_ hk
  obtain _ | ⟨p, l, e, R, s, m, args, below, meth, c, Q, dC, dI, dA, oa, A, nL, c0, s0, ρ0, n0⟩ := X
  · exact trivial
  obtain ⟨hx, hb, hml, hown, hts, hlk, hK, hT, hE, hA, hO, hRc, hRs, hfl, hoa⟩ := G
  intro ρ H locs ls cells slots hC hs9 hn0 hn1 hr1 hr2 hW hL k9
  obtain ⟨rfl, h2, n, h3, h4⟩ := aix_at hq
  have hws := mmW_get (dA := dA) (ρ := ρ) (d := d) h3
  rw [show (54 : Nat) = 50 + 4 from rfl] at hws h3
  rw [mmE_arr] at hws
  rw [List.map_cons, List.map_cons, List.map_cons, cvV_rf]
  refine va_dast (D := (dC, dI)) hx hb hK hW.1 hW.2.1 hW.2.2.1 q.1 4 hws (mmTs_at (by decide)) h4 hd (fun H1 locs1 g1 g2 g3 => ?_)
  rw [← h2] at g1 g2
  have h5 := k9 ρ H1 locs1 (fun _ _ => rfl) (by rw [mmW_astD h3 rfl]; exact g1) (by rw [mmW_astD h3 rfl]; exact g2) g3
  simp only [Nat.sub_self, Nat.add_zero] at h5
  exact h5
theorem JW_aastN (G : Ctx X F own cc nN) {E : String} {t : Nat} (ht : t < 12) (hE9 : mmAt t = .object E)  {o : Option Nat} {i : Int32} {q : Nat × Nat} (hq : aix S (50 + t) o i = some q) (hΛ : ∀ b, Λ b (S.1, u2 S.2.1 q.1 q.2 none, S.2.2) d = Λ b S d) (hd : decode cc pc = .ok (.aastore, 1)) (hk : J X F Λ (S.1, u2 S.2.1 q.1 q.2 none, S.2.2) d (pc + 1) lv (st) r) : J X F Λ S d pc lv (va_rf none :: .int i :: va_rf o :: st) r := by
  refine J.chg G hΛ (Le_put) (fun hC hs => Cl_put hC (ok_ho hs)) (fun _ hs => ok_t (ok_t (ok_t hs))) ?_ hk
  obtain _ | ⟨p, l, e, R, s, m, args, below, meth, c, Q, dC, dI, dA, oa, A, nL, c0, s0, ρ0, n0⟩ := X
  · exact trivial
  obtain ⟨hx, hb, hml, hown, hts, hlk, hK, hT, hE, hA, hO, hRc, hRs, hfl, hoa⟩ := G
  intro ρ H locs ls cells slots hC hs9 hn0 hn1 hr1 hr2 hW hL k9
  obtain ⟨rfl, h2, n, h3, h4⟩ := aix_at hq
  have hws := mmW_get (dA := dA) (ρ := ρ) (d := d) h3
  rw [mmE_arr, hE9] at hws
  have ht1 := mmTs_at (dA := dA) ht
  rw [hE9] at ht1
  rw [List.map_cons, List.map_cons, List.map_cons, cvV_rf, cvV_rf]
  refine va_astqN (D := (dC, dI)) hx hb hK hW.1 hW.2.1 hW.2.2.1 q.1 t hws ht1 h4 hd (fun H1 locs1 g1 g2 g3 => ?_)
  rw [← h2] at g1 g2
  have e9 : mmK (mmAt t) = 3 := by rw [hE9]; rfl
  have h5 := k9 ρ H1 locs1 (fun _ _ => rfl) (by rw [mmW_astR h3 e9]; exact g1) (by rw [mmW_astR h3 e9]; exact g2) g3
  simp only [Nat.sub_self, Nat.add_zero] at h5
  exact h5
theorem JW_aast (G : Ctx X F own cc nN) {E : String} {t : Nat} (ht : t < 12) (hE9 : mmAt t = .object E) {C : String} {T : u_T} {N cn : Nat} (hc : mmCl[cn]? = some (C, T, N)) (hca : Cond.castable C E ∈ lw_tbl) {w : Option Nat} {v : Nat} (hv : isK S cn w = some v) {o : Option Nat} {i : Int32} {q : Nat × Nat} (hq : aix S (50 + t) o i = some q) (hΛ : ∀ b, Λ b (S.1, u2 S.2.1 q.1 q.2 w, S.2.2) d = Λ b S d) (hd : decode cc pc = .ok (.aastore, 1)) (hk : J X F Λ (S.1, u2 S.2.1 q.1 q.2 w, S.2.2) d (pc + 1) lv (st) r) : J X F Λ S d pc lv (va_rf w :: .int i :: va_rf o :: st) r := by
  refine J.chg G hΛ (Le_put) (fun hC hs => Cl_put hC (ok_ho hs)) (fun _ hs => ok_t (ok_t (ok_t hs))) ?_ hk
  obtain _ | ⟨p, l, e, R, s, m, args, below, meth, c, Q, dC, dI, dA, oa, A, nL, c0, s0, ρ0, n0⟩ := X
  · exact trivial
  obtain ⟨hx, hb, hml, hown, hts, hlk, hK, hT, hE, hA, hO, hRc, hRs, hfl, hoa⟩ := G
  intro ρ H locs ls cells slots hC hs9 hn0 hn1 hr1 hr2 hW hL k9
  obtain ⟨rfl, h2, n, h3, h4⟩ := aix_at hq
  have hws := mmW_get (dA := dA) (ρ := ρ) (d := d) h3
  rw [mmE_arr, hE9] at hws
  have ht1 := mmTs_at (dA := dA) ht
  rw [hE9] at ht1
  obtain ⟨rfl, n9, hs⟩ := isK_at hv
  obtain ⟨hc1, hc2⟩ := mm_cl hc
  have hwv := mmW_get (dA := dA) (ρ := ρ) (d := d) hs
  rw [mmE_obj hc1] at hwv
  rw [List.map_cons, List.map_cons, List.map_cons, cvV_rf, cvV_rf]
  refine va_astqO (D := (dC, dI)) hx hb hK hW.1 hW.2.1 hW.2.2.1 q.1 t v cn hws ht1 (tb_word hT hca rfl) hwv hc h4 hd (fun H1 locs1 g1 g2 g3 => ?_)
  rw [← h2] at g1 g2
  have e9 : mmK (mmAt t) = 3 := by rw [hE9]; rfl
  have h5 := k9 ρ H1 locs1 (fun _ _ => rfl) (by rw [mmW_astR h3 e9]; exact g1) (by rw [mmW_astR h3 e9]; exact g2) g3
  simp only [Nat.sub_self, Nat.add_zero] at h5
  exact h5
theorem JW_aastS (G : Ctx X F own cc nN) {E : String} {t : Nat} (ht : t < 12) (hE9 : mmAt t = .object E) {j : Nat} (hj : j < 24) (hE8 : E = "java/lang/String") {o : Option Nat} {i : Int32} {q : Nat × Nat} (hq : aix S (50 + t) o i = some q) (hΛ : ∀ b, Λ b (S.1, u2 S.2.1 q.1 q.2 (some (OPQ + j)), S.2.2) d = Λ b S d) (hd : decode cc pc = .ok (.aastore, 1)) (hk : J X F Λ (S.1, u2 S.2.1 q.1 q.2 (some (OPQ + j)), S.2.2) d (pc + 1) lv (st) r) : J X F Λ S d pc lv (va_rf (some (OPQ + j)) :: .int i :: va_rf o :: st) r := by
  refine J.chg G hΛ (Le_put) (fun hC hs => Cl_put hC (ok_ho hs)) (fun _ hs => ok_t (ok_t (ok_t hs))) ?_ hk
  obtain _ | ⟨p, l, e, R, s, m, args, below, meth, c, Q, dC, dI, dA, oa, A, nL, c0, s0, ρ0, n0⟩ := X
  · exact trivial
  obtain ⟨hx, hb, hml, hown, hts, hlk, hK, hT, hE, hA, hO, hRc, hRs, hfl, hoa⟩ := G
  intro ρ H locs ls cells slots hC hs9 hn0 hn1 hr1 hr2 hW hL k9
  obtain ⟨rfl, h2, n, h3, h4⟩ := aix_at hq
  have hws := mmW_get (dA := dA) (ρ := ρ) (d := d) h3
  rw [mmE_arr, hE9] at hws
  have ht1 := mmTs_at (dA := dA) ht
  rw [hE9] at ht1
  have hstr : va_Any E s H (ρ (OPQ + j)) := by
    subst hE8
    have h3 : ρ (OPQ + j) = oa j := (hW.2.2.2 _ (Or.inr (Nat.le_add_right _ _))).trans (hoa j)
    obtain ⟨cell, g1, g2, g3⟩ := vk_recv hE.1 hj hW.2.2.1
    rw [h3]
    obtain ⟨cS, kS, z1, z2, z3⟩ := mm_strcls hE.1 hj
    have e1 : cell.cls = cS := Option.some.inj (g3.symm.trans z1)
    exact ⟨cell, g1, g2, ⟨kS, by rw [e1]; exact z2⟩, fun comp hcomp => by
      have e2 : comp = cS := Option.some.inj (hcomp.symm.trans z1)
      rw [e1, e2]
      exact z3⟩
  rw [List.map_cons, List.map_cons, List.map_cons, cvV_rf, cvV_rf]
  refine va_astqM (D := (dC, dI)) hx hb hK hW.1 hW.2.1 hW.2.2.1 q.1 t hws ht1 hstr h4 hd (fun H1 locs1 g1 g2 g3 => ?_)
  rw [← h2] at g1 g2
  have e9 : mmK (mmAt t) = 3 := by rw [hE9]; rfl
  have h5 := k9 ρ H1 locs1 (fun _ _ => rfl) (by rw [mmW_astR h3 e9]; exact g1) (by rw [mmW_astR h3 e9]; exact g2) g3
  simp only [Nat.sub_self, Nat.add_zero] at h5
  exact h5
theorem mmV_new {t : FieldType} {ρ : Nat → Nat} {S : Sp} {d : Dt} {sh : Nat × Nat} {n k : Nat} (h : t ≠ .long) : mmV (mmK t) ρ (mmNew S sh n) (mmNewD S d) S.1.length k = defaultValue t := by
  cases t <;> first | (exact absurd rfl h) | (simp [mmK, mmV, mmNew, mmNewD, z2, defaultValue, va_rf]; done) | (simp [mmK, mmV, mmNew, mmNewD, z2, defaultValue, va_rf]; rfl)

theorem JW_new (G : Ctx X F own cc nN) {C : String} {T : u_T} {N cn idx : Nat} (hc : mmCl[cn]? = some (C, T, N)) (hin : ∀ w ∈ u_ws C T N, w ∈ lw_all) (hty : ∀ k, k < N → parseFieldDescriptor (T k).2.2.1 = some (mmTy cn k)) (hr9 : ¬ (50 ≤ cn ∧ cn ≤ 5)) (hlg : ∀ k, k < N → mmTy cn k ≠ .long) (hcl : Cond.classLink own idx C ∈ lw_all) (hinst : Cond.instantiable C N ∈ lw_all) (hini : Cond.initialized C ∈ lw_all) (hΛ : ∀ b, Λ b (mmNew S (cn, 0) N) (mmNewD S d) = Λ b S d) (hd : decode cc pc = .ok (.new idx, 3)) (hk : J X F Λ (mmNew S (cn, 0) N) (mmNewD S d) (pc + 3) lv (va_rf (some S.1.length) :: st) r) : J X F Λ S d pc lv (st) r := by
  refine J.chg G hΛ (mmNew_le) (fun hC _ => mmNew_cl hC) (fun _ hs => ok_r (okO_some mmNew_ok) (fun x hx => mmNew_le.okV (hs x hx))) ?_ hk
  obtain _ | ⟨p, l, e, R, s, m, args, below, meth, c, Q, dC, dI, dA, oa, A, nL, c0, s0, ρ0, n0⟩ := X
  · exact trivial
  obtain ⟨hx, hb, hml, hown, hts, hlk, hK, hT, hE, hA, hO, hRc, hRs, hfl, hoa⟩ := G
  intro ρ H locs ls cells slots hC hs9 hn0 hn1 hr1 hr2 hW hL k9
  obtain ⟨hc1, hc2⟩ := mm_cl hc
  have e1 : (mmNew S (cn, 0) N).2.2.1 - S.2.2.1 = 1 := by simp [mmNew]
  have e2 : (mmNew S (cn, 0) N).2.2.2 - S.2.2.2 = N := by simp [mmNew]
  rw [e1] at hr1
  rw [e2] at hr2
  rw [e1, e2] at k9
  have hn9 : S.1.length < OPQ := by
    have h1 : (mmNew S (cn, 0) N).1.length = S.1.length + 1 := by simp [mmNew]
    omega
  refine va_new (D := (dC, dI)) (fs := (List.range N).map (fun j => defaultValue (mmTy cn j))) hx hb hts hin (mmTy cn) hty hown (hts _ hcl) (hts _ hinst) (hts _ hini) hK hW.1 hW.2.1 hW.2.2.1 hA hc (fun j hj => by simp [vp_V, hj]) hr1 hr2 hd (fun q H1 g1 g2 g3 => ?_)
  have hEq : mmE dA (mmRho S ρ q) (mmNew S (cn, 0) N) (mmNewD S d) S.1.length (cn, 0) = .inr (cn, (List.range N).map (fun j => defaultValue (mmTy cn j))) := by
    rw [mmE_obj hc1]
    unfold mmF
    rw [if_neg hr9, hc2]
    congr 2
    apply List.map_congr_left
    intro j hj
    exact mmV_new (hlg j (by simpa using hj))
  have h5 := k9 (mmRho S ρ q) H1 locs (mmRho_eq hn9) (by rw [mmW_new hC hn9 hEq]; exact g1) (by rw [mmW_new hC hn9 hEq]; exact g2) g3
  rw [List.map_cons, cvV_rf, Option.map_some, mmRho_at, cvV_list (mmRho_eq hn9) hs9] at h5
  exact h5
/-- a guard: a length -/
def gn (n : Int32) : Option Nat := if ¬ n < 0 ∧ n.toNatClampNeg ≤ 65536 then some n.toNatClampNeg else none
theorem gn_at {n : Int32} {k : Nat} (h : gn n = some k) : ¬ n < 0 ∧ n.toNatClampNeg = k ∧ k ≤ 65536 := by
  unfold gn at h
  split at h
  · rename_i q
    cases h
    exact ⟨q.1, rfl, q.2⟩
  · cases h
theorem mm_dA {dC : Nat → ClassId} {dI : Nat → Nat → Nat} {dA : Nat → ClassId} {s : State} {t : Nat} {cA : ClassId} {ty : FieldType} (hK : va_K (dC, dI) mmCl (mmTs dA) s) (h : va_K (dC, dI) mmCl (mmTs dA ++ [(cA, ty)]) s) (ht : t < 12) (hty : mmAt t = ty) : cA = dA t := by
  subst hty
  have h1 := (h.2 12 (cA, mmAt t) (by rw [List.getElem?_append_right (by simp [mmTs])]; simp [mmTs])).2
  have h2 := (hK.2 t (dA t, mmAt t) (mmTs_at ht)).2
  dsimp only at h1 h2
  cases hq : mmAt t with
  | object C =>
    rw [hq] at h1 h2
    obtain ⟨_, _, _, _, _, g1⟩ := h1
    obtain ⟨_, _, _, _, _, g2⟩ := h2
    exact Option.some.inj (g1.symm.trans g2)
  | _ =>
    rw [hq] at h1 h2
    exact Option.some.inj (Eq.trans (Eq.symm h1) h2)

theorem JW_newaI (G : Ctx X F own cc nN) {t : Nat} (ht0 : t = 0) (hq9 : Cond.arrayClass .int ∈ lw_all) {x : Int32} {z : Nat} (hz : gn x = some z) (hΛ : ∀ b, Λ b (mmNew S (50 + t, z) z) (mmNewD S d) = Λ b S d) (hd : decode cc pc = .ok (.newarray .int, 2)) (hk : J X F Λ (mmNew S (50 + t, z) z) (mmNewD S d) (pc + 2) lv (va_rf (some S.1.length) :: st) r) : J X F Λ S d pc lv (.int x :: st) r := by
  refine J.chg G hΛ (mmNew_le) (fun hC _ => mmNew_cl hC) (fun _ hs => ok_r (okO_some mmNew_ok) (fun x hx => mmNew_le.okV (ok_t hs x hx))) ?_ hk
  obtain _ | ⟨p, l, e, R, s, m, args, below, meth, c, Q, dC, dI, dA, oa, A, nL, c0, s0, ρ0, n0⟩ := X
  · exact trivial
  obtain ⟨hx, hb, hml, hown, hts, hlk, hK, hT, hE, hA, hO, hRc, hRs, hfl, hoa⟩ := G
  intro ρ H locs ls cells slots hC hs9 hn0 hn1 hr1 hr2 hW hL k9
  obtain ⟨hn2, hn3, hn4⟩ := gn_at hz
  have e1 : (mmNew S (50 + t, z) z).2.2.1 - S.2.2.1 = 1 := by simp [mmNew]
  have e2 : (mmNew S (50 + t, z) z).2.2.2 - S.2.2.2 = z := by simp [mmNew]
  rw [e1] at hr1
  rw [e2] at hr2
  rw [e1, e2] at k9
  have hn9 : S.1.length < OPQ := by
    have h1 : (mmNew S (50 + t, z) z).1.length = S.1.length + 1 := by simp [mmNew]
    omega
  rw [List.map_cons]
  have ht : t < 12 := by omega
  have hA0 : ∀ ρ q, ((z, mmC (mmK (mmAt t)) (mmRho S ρ q) (mmNew S (50 + t, z) z) (mmNewD S d) S.1.length) : vp_A) = (z, .inl (fun _ => 0)) := fun ρ q => by
    subst ht0
    refine congrArg (fun w => ((z, w) : vp_A)) ?_
    show mmC _ _ _ _ _ = _
    simp [mmC, mmK, mmAt, mmA, mmNewD, z2_self]
  generalize hA1 : ((.inl (fun _ => 0) : (Nat → Int32) ⊕ (Nat → Int64) ⊕ (Nat → UInt32) ⊕ (Nat → UInt64) ⊕ (Nat → Option Nat))) = cont at hA0
  obtain ⟨A0, hA9⟩ : ∃ A0 : vp_A, A0 = (z, cont) := ⟨_, rfl⟩
  rw [← hA9] at hA0
  refine va_newa (D := (dC, dI)) (atype := .int) (ty := .int) (a0 := A0) hx hb (hts _ hq9) rfl hK hW.1 hW.2.1 hW.2.2.1 hA (fun cA => by rw [hA9, ← hA1]; rfl) hn2 hn3 (by show z * componentBytes _ ≤ _; simp only [componentBytes]; omega) hr1 hr2 hd (fun q cA H1 g0 g1 g2 g3 => ?_)
  have hd9 := mm_dA hK g0 ht (show mmAt t = .int from by rw [ht0]; rfl)
  subst hd9
  have hEq : mmE dA (mmRho S ρ q) (mmNew S (50 + t, z) z) (mmNewD S d) S.1.length (50 + t, z) = .inl (dA t, A0) := by
    rw [mmE_arr]
    exact congrArg (fun w => (Sum.inl (dA t, w) : va_E)) (hA0 ρ q)
  have h5 := k9 (mmRho S ρ q) H1 locs (mmRho_eq hn9) (by rw [mmW_new hC hn9 hEq]; exact g1) (by rw [mmW_new hC hn9 hEq]; exact g2) g3
  rw [List.map_cons, cvV_rf, Option.map_some, mmRho_at, cvV_list (mmRho_eq hn9) (ok_t hs9)] at h5
  exact h5
theorem JW_newaZ (G : Ctx X F own cc nN) {t : Nat} (ht0 : t = 1) (hq9 : Cond.arrayClass .boolean ∈ lw_all) {x : Int32} {z : Nat} (hz : gn x = some z) (hΛ : ∀ b, Λ b (mmNew S (50 + t, z) z) (mmNewD S d) = Λ b S d) (hd : decode cc pc = .ok (.newarray .boolean, 2)) (hk : J X F Λ (mmNew S (50 + t, z) z) (mmNewD S d) (pc + 2) lv (va_rf (some S.1.length) :: st) r) : J X F Λ S d pc lv (.int x :: st) r := by
  refine J.chg G hΛ (mmNew_le) (fun hC _ => mmNew_cl hC) (fun _ hs => ok_r (okO_some mmNew_ok) (fun x hx => mmNew_le.okV (ok_t hs x hx))) ?_ hk
  obtain _ | ⟨p, l, e, R, s, m, args, below, meth, c, Q, dC, dI, dA, oa, A, nL, c0, s0, ρ0, n0⟩ := X
  · exact trivial
  obtain ⟨hx, hb, hml, hown, hts, hlk, hK, hT, hE, hA, hO, hRc, hRs, hfl, hoa⟩ := G
  intro ρ H locs ls cells slots hC hs9 hn0 hn1 hr1 hr2 hW hL k9
  obtain ⟨hn2, hn3, hn4⟩ := gn_at hz
  have e1 : (mmNew S (50 + t, z) z).2.2.1 - S.2.2.1 = 1 := by simp [mmNew]
  have e2 : (mmNew S (50 + t, z) z).2.2.2 - S.2.2.2 = z := by simp [mmNew]
  rw [e1] at hr1
  rw [e2] at hr2
  rw [e1, e2] at k9
  have hn9 : S.1.length < OPQ := by
    have h1 : (mmNew S (50 + t, z) z).1.length = S.1.length + 1 := by simp [mmNew]
    omega
  rw [List.map_cons]
  have ht : t < 12 := by omega
  have hA0 : ∀ ρ q, ((z, mmC (mmK (mmAt t)) (mmRho S ρ q) (mmNew S (50 + t, z) z) (mmNewD S d) S.1.length) : vp_A) = (z, .inl (fun _ => 0)) := fun ρ q => by
    subst ht0
    refine congrArg (fun w => ((z, w) : vp_A)) ?_
    show mmC _ _ _ _ _ = _
    simp [mmC, mmK, mmAt, mmA, mmNewD, z2_self]
  generalize hA1 : ((.inl (fun _ => 0) : (Nat → Int32) ⊕ (Nat → Int64) ⊕ (Nat → UInt32) ⊕ (Nat → UInt64) ⊕ (Nat → Option Nat))) = cont at hA0
  obtain ⟨A0, hA9⟩ : ∃ A0 : vp_A, A0 = (z, cont) := ⟨_, rfl⟩
  rw [← hA9] at hA0
  refine va_newa (D := (dC, dI)) (atype := .boolean) (ty := .boolean) (a0 := A0) hx hb (hts _ hq9) rfl hK hW.1 hW.2.1 hW.2.2.1 hA (fun cA => by rw [hA9, ← hA1]; rfl) hn2 hn3 (by show z * componentBytes _ ≤ _; simp only [componentBytes]; omega) hr1 hr2 hd (fun q cA H1 g0 g1 g2 g3 => ?_)
  have hd9 := mm_dA hK g0 ht (show mmAt t = .boolean from by rw [ht0]; rfl)
  subst hd9
  have hEq : mmE dA (mmRho S ρ q) (mmNew S (50 + t, z) z) (mmNewD S d) S.1.length (50 + t, z) = .inl (dA t, A0) := by
    rw [mmE_arr]
    exact congrArg (fun w => (Sum.inl (dA t, w) : va_E)) (hA0 ρ q)
  have h5 := k9 (mmRho S ρ q) H1 locs (mmRho_eq hn9) (by rw [mmW_new hC hn9 hEq]; exact g1) (by rw [mmW_new hC hn9 hEq]; exact g2) g3
  rw [List.map_cons, cvV_rf, Option.map_some, mmRho_at, cvV_list (mmRho_eq hn9) (ok_t hs9)] at h5
  exact h5
theorem JW_newaB (G : Ctx X F own cc nN) {t : Nat} (ht0 : t = 2) (hq9 : Cond.arrayClass .byte ∈ lw_all) {x : Int32} {z : Nat} (hz : gn x = some z) (hΛ : ∀ b, Λ b (mmNew S (50 + t, z) z) (mmNewD S d) = Λ b S d) (hd : decode cc pc = .ok (.newarray .byte, 2)) (hk : J X F Λ (mmNew S (50 + t, z) z) (mmNewD S d) (pc + 2) lv (va_rf (some S.1.length) :: st) r) : J X F Λ S d pc lv (.int x :: st) r := by
  refine J.chg G hΛ (mmNew_le) (fun hC _ => mmNew_cl hC) (fun _ hs => ok_r (okO_some mmNew_ok) (fun x hx => mmNew_le.okV (ok_t hs x hx))) ?_ hk
  obtain _ | ⟨p, l, e, R, s, m, args, below, meth, c, Q, dC, dI, dA, oa, A, nL, c0, s0, ρ0, n0⟩ := X
  · exact trivial
  obtain ⟨hx, hb, hml, hown, hts, hlk, hK, hT, hE, hA, hO, hRc, hRs, hfl, hoa⟩ := G
  intro ρ H locs ls cells slots hC hs9 hn0 hn1 hr1 hr2 hW hL k9
  obtain ⟨hn2, hn3, hn4⟩ := gn_at hz
  have e1 : (mmNew S (50 + t, z) z).2.2.1 - S.2.2.1 = 1 := by simp [mmNew]
  have e2 : (mmNew S (50 + t, z) z).2.2.2 - S.2.2.2 = z := by simp [mmNew]
  rw [e1] at hr1
  rw [e2] at hr2
  rw [e1, e2] at k9
  have hn9 : S.1.length < OPQ := by
    have h1 : (mmNew S (50 + t, z) z).1.length = S.1.length + 1 := by simp [mmNew]
    omega
  rw [List.map_cons]
  have ht : t < 12 := by omega
  have hA0 : ∀ ρ q, ((z, mmC (mmK (mmAt t)) (mmRho S ρ q) (mmNew S (50 + t, z) z) (mmNewD S d) S.1.length) : vp_A) = (z, .inl (fun _ => 0)) := fun ρ q => by
    subst ht0
    refine congrArg (fun w => ((z, w) : vp_A)) ?_
    show mmC _ _ _ _ _ = _
    simp [mmC, mmK, mmAt, mmA, mmNewD, z2_self]
  generalize hA1 : ((.inl (fun _ => 0) : (Nat → Int32) ⊕ (Nat → Int64) ⊕ (Nat → UInt32) ⊕ (Nat → UInt64) ⊕ (Nat → Option Nat))) = cont at hA0
  obtain ⟨A0, hA9⟩ : ∃ A0 : vp_A, A0 = (z, cont) := ⟨_, rfl⟩
  rw [← hA9] at hA0
  refine va_newa (D := (dC, dI)) (atype := .byte) (ty := .byte) (a0 := A0) hx hb (hts _ hq9) rfl hK hW.1 hW.2.1 hW.2.2.1 hA (fun cA => by rw [hA9, ← hA1]; rfl) hn2 hn3 (by show z * componentBytes _ ≤ _; simp only [componentBytes]; omega) hr1 hr2 hd (fun q cA H1 g0 g1 g2 g3 => ?_)
  have hd9 := mm_dA hK g0 ht (show mmAt t = .byte from by rw [ht0]; rfl)
  subst hd9
  have hEq : mmE dA (mmRho S ρ q) (mmNew S (50 + t, z) z) (mmNewD S d) S.1.length (50 + t, z) = .inl (dA t, A0) := by
    rw [mmE_arr]
    exact congrArg (fun w => (Sum.inl (dA t, w) : va_E)) (hA0 ρ q)
  have h5 := k9 (mmRho S ρ q) H1 locs (mmRho_eq hn9) (by rw [mmW_new hC hn9 hEq]; exact g1) (by rw [mmW_new hC hn9 hEq]; exact g2) g3
  rw [List.map_cons, cvV_rf, Option.map_some, mmRho_at, cvV_list (mmRho_eq hn9) (ok_t hs9)] at h5
  exact h5
theorem JW_newaF (G : Ctx X F own cc nN) {t : Nat} (ht0 : t = 3) (hq9 : Cond.arrayClass .float ∈ lw_all) {x : Int32} {z : Nat} (hz : gn x = some z) (hΛ : ∀ b, Λ b (mmNew S (50 + t, z) z) (mmNewD S d) = Λ b S d) (hd : decode cc pc = .ok (.newarray .float, 2)) (hk : J X F Λ (mmNew S (50 + t, z) z) (mmNewD S d) (pc + 2) lv (va_rf (some S.1.length) :: st) r) : J X F Λ S d pc lv (.int x :: st) r := by
  refine J.chg G hΛ (mmNew_le) (fun hC _ => mmNew_cl hC) (fun _ hs => ok_r (okO_some mmNew_ok) (fun x hx => mmNew_le.okV (ok_t hs x hx))) ?_ hk
  obtain _ | ⟨p, l, e, R, s, m, args, below, meth, c, Q, dC, dI, dA, oa, A, nL, c0, s0, ρ0, n0⟩ := X
  · exact trivial
  obtain ⟨hx, hb, hml, hown, hts, hlk, hK, hT, hE, hA, hO, hRc, hRs, hfl, hoa⟩ := G
  intro ρ H locs ls cells slots hC hs9 hn0 hn1 hr1 hr2 hW hL k9
  obtain ⟨hn2, hn3, hn4⟩ := gn_at hz
  have e1 : (mmNew S (50 + t, z) z).2.2.1 - S.2.2.1 = 1 := by simp [mmNew]
  have e2 : (mmNew S (50 + t, z) z).2.2.2 - S.2.2.2 = z := by simp [mmNew]
  rw [e1] at hr1
  rw [e2] at hr2
  rw [e1, e2] at k9
  have hn9 : S.1.length < OPQ := by
    have h1 : (mmNew S (50 + t, z) z).1.length = S.1.length + 1 := by simp [mmNew]
    omega
  rw [List.map_cons]
  have ht : t < 12 := by omega
  have hA0 : ∀ ρ q, ((z, mmC (mmK (mmAt t)) (mmRho S ρ q) (mmNew S (50 + t, z) z) (mmNewD S d) S.1.length) : vp_A) = (z, .inr (.inr (.inl (fun _ => 0)))) := fun ρ q => by
    subst ht0
    refine congrArg (fun w => ((z, w) : vp_A)) ?_
    show mmC _ _ _ _ _ = _
    simp [mmC, mmK, mmAt, mmA, mmNewD, z2_self]
  generalize hA1 : ((.inr (.inr (.inl (fun _ => 0))) : (Nat → Int32) ⊕ (Nat → Int64) ⊕ (Nat → UInt32) ⊕ (Nat → UInt64) ⊕ (Nat → Option Nat))) = cont at hA0
  obtain ⟨A0, hA9⟩ : ∃ A0 : vp_A, A0 = (z, cont) := ⟨_, rfl⟩
  rw [← hA9] at hA0
  refine va_newa (D := (dC, dI)) (atype := .float) (ty := .float) (a0 := A0) hx hb (hts _ hq9) rfl hK hW.1 hW.2.1 hW.2.2.1 hA (fun cA => by rw [hA9, ← hA1]; rfl) hn2 hn3 (by show z * componentBytes _ ≤ _; simp only [componentBytes]; omega) hr1 hr2 hd (fun q cA H1 g0 g1 g2 g3 => ?_)
  have hd9 := mm_dA hK g0 ht (show mmAt t = .float from by rw [ht0]; rfl)
  subst hd9
  have hEq : mmE dA (mmRho S ρ q) (mmNew S (50 + t, z) z) (mmNewD S d) S.1.length (50 + t, z) = .inl (dA t, A0) := by
    rw [mmE_arr]
    exact congrArg (fun w => (Sum.inl (dA t, w) : va_E)) (hA0 ρ q)
  have h5 := k9 (mmRho S ρ q) H1 locs (mmRho_eq hn9) (by rw [mmW_new hC hn9 hEq]; exact g1) (by rw [mmW_new hC hn9 hEq]; exact g2) g3
  rw [List.map_cons, cvV_rf, Option.map_some, mmRho_at, cvV_list (mmRho_eq hn9) (ok_t hs9)] at h5
  exact h5
theorem JW_newaD (G : Ctx X F own cc nN) {t : Nat} (ht0 : t = 4) (hq9 : Cond.arrayClass .double ∈ lw_all) {x : Int32} {z : Nat} (hz : gn x = some z) (hΛ : ∀ b, Λ b (mmNew S (50 + t, z) z) (mmNewD S d) = Λ b S d) (hd : decode cc pc = .ok (.newarray .double, 2)) (hk : J X F Λ (mmNew S (50 + t, z) z) (mmNewD S d) (pc + 2) lv (va_rf (some S.1.length) :: st) r) : J X F Λ S d pc lv (.int x :: st) r := by
  refine J.chg G hΛ (mmNew_le) (fun hC _ => mmNew_cl hC) (fun _ hs => ok_r (okO_some mmNew_ok) (fun x hx => mmNew_le.okV (ok_t hs x hx))) ?_ hk
  obtain _ | ⟨p, l, e, R, s, m, args, below, meth, c, Q, dC, dI, dA, oa, A, nL, c0, s0, ρ0, n0⟩ := X
  · exact trivial
  obtain ⟨hx, hb, hml, hown, hts, hlk, hK, hT, hE, hA, hO, hRc, hRs, hfl, hoa⟩ := G
  intro ρ H locs ls cells slots hC hs9 hn0 hn1 hr1 hr2 hW hL k9
  obtain ⟨hn2, hn3, hn4⟩ := gn_at hz
  have e1 : (mmNew S (50 + t, z) z).2.2.1 - S.2.2.1 = 1 := by simp [mmNew]
  have e2 : (mmNew S (50 + t, z) z).2.2.2 - S.2.2.2 = z := by simp [mmNew]
  rw [e1] at hr1
  rw [e2] at hr2
  rw [e1, e2] at k9
  have hn9 : S.1.length < OPQ := by
    have h1 : (mmNew S (50 + t, z) z).1.length = S.1.length + 1 := by simp [mmNew]
    omega
  rw [List.map_cons]
  have ht : t < 12 := by omega
  have hA0 : ∀ ρ q, ((z, mmC (mmK (mmAt t)) (mmRho S ρ q) (mmNew S (50 + t, z) z) (mmNewD S d) S.1.length) : vp_A) = (z, .inr (.inr (.inr (.inl (fun _ => 0))))) := fun ρ q => by
    subst ht0
    refine congrArg (fun w => ((z, w) : vp_A)) ?_
    show mmC _ _ _ _ _ = _
    simp [mmC, mmK, mmAt, mmA, mmNewD, z2_self]
  generalize hA1 : ((.inr (.inr (.inr (.inl (fun _ => 0)))) : (Nat → Int32) ⊕ (Nat → Int64) ⊕ (Nat → UInt32) ⊕ (Nat → UInt64) ⊕ (Nat → Option Nat))) = cont at hA0
  obtain ⟨A0, hA9⟩ : ∃ A0 : vp_A, A0 = (z, cont) := ⟨_, rfl⟩
  rw [← hA9] at hA0
  refine va_newa (D := (dC, dI)) (atype := .double) (ty := .double) (a0 := A0) hx hb (hts _ hq9) rfl hK hW.1 hW.2.1 hW.2.2.1 hA (fun cA => by rw [hA9, ← hA1]; rfl) hn2 hn3 (by show z * componentBytes _ ≤ _; simp only [componentBytes]; omega) hr1 hr2 hd (fun q cA H1 g0 g1 g2 g3 => ?_)
  have hd9 := mm_dA hK g0 ht (show mmAt t = .double from by rw [ht0]; rfl)
  subst hd9
  have hEq : mmE dA (mmRho S ρ q) (mmNew S (50 + t, z) z) (mmNewD S d) S.1.length (50 + t, z) = .inl (dA t, A0) := by
    rw [mmE_arr]
    exact congrArg (fun w => (Sum.inl (dA t, w) : va_E)) (hA0 ρ q)
  have h5 := k9 (mmRho S ρ q) H1 locs (mmRho_eq hn9) (by rw [mmW_new hC hn9 hEq]; exact g1) (by rw [mmW_new hC hn9 hEq]; exact g2) g3
  rw [List.map_cons, cvV_rf, Option.map_some, mmRho_at, cvV_list (mmRho_eq hn9) (ok_t hs9)] at h5
  exact h5
theorem JW_newq (G : Ctx X F own cc nN) {t : Nat} {C : String} {idx : Nat} (ht : t < 12) (hC9 : mmAt t = .object C) (hcl : Cond.classLink own idx C ∈ lw_all) (hC8 : C ∈ (["java/lang/Object", "WatchStack$Told", "WatchStack$Rung", "WatchStack$Life", "java/lang/String", "WatchStack$TaskNote", "WatchStack$WatcherNote"] : List String)) {x : Int32} {z : Nat} (hz : gn x = some z) (hΛ : ∀ b, Λ b (mmNew S (50 + t, z) z) (mmNewD S d) = Λ b S d) (hd : decode cc pc = .ok (.anewarray idx, 3)) (hk : J X F Λ (mmNew S (50 + t, z) z) (mmNewD S d) (pc + 3) lv (va_rf (some S.1.length) :: st) r) : J X F Λ S d pc lv (.int x :: st) r := by
  refine J.chg G hΛ (mmNew_le) (fun hC _ => mmNew_cl hC) (fun _ hs => ok_r (okO_some mmNew_ok) (fun x hx => mmNew_le.okV (ok_t hs x hx))) ?_ hk
  obtain _ | ⟨p, l, e, R, s, m, args, below, meth, c, Q, dC, dI, dA, oa, A, nL, c0, s0, ρ0, n0⟩ := X
  · exact trivial
  obtain ⟨hx, hb, hml, hown, hts, hlk, hK, hT, hE, hA, hO, hRc, hRs, hfl, hoa⟩ := G
  intro ρ H locs ls cells slots hC hs9 hn0 hn1 hr1 hr2 hW hL k9
  obtain ⟨hn2, hn3, hn4⟩ := gn_at hz
  have e1 : (mmNew S (50 + t, z) z).2.2.1 - S.2.2.1 = 1 := by simp [mmNew]
  have e2 : (mmNew S (50 + t, z) z).2.2.2 - S.2.2.2 = z := by simp [mmNew]
  rw [e1] at hr1
  rw [e2] at hr2
  rw [e1, e2] at k9
  have hn9 : S.1.length < OPQ := by
    have h1 : (mmNew S (50 + t, z) z).1.length = S.1.length + 1 := by simp [mmNew]
    omega
  rw [List.map_cons]
  have hA0 : ∀ ρ q, ((z, mmC (mmK (mmAt t)) (mmRho S ρ q) (mmNew S (50 + t, z) z) (mmNewD S d) S.1.length) : vp_A) = (z, .inr (.inr (.inr (.inr (fun _ => none))))) := fun ρ q => by
    refine congrArg (fun w => ((z, w) : vp_A)) ?_
    rw [hC9]
    simp [mmC, mmK, mmNew, z2]
  obtain ⟨A0, hA9⟩ : ∃ A0 : vp_A, A0 = (z, .inr (.inr (.inr (.inr (fun _ => none))))) := ⟨_, rfl⟩
  rw [← hA9] at hA0
  refine va_newq (D := (dC, dI)) hx hb hown (hts _ hcl) (hT.2.1 C hC8) hK hW.1 hW.2.1 hW.2.2.1 hA hn2 hn3 (by omega) hr1 hr2 hd (fun q cA H1 g0 g1 g2 g3 => ?_)
  rw [← hA9] at g1 g2
  have hd9 := mm_dA hK g0 ht hC9
  subst hd9
  have hEq : mmE dA (mmRho S ρ q) (mmNew S (50 + t, z) z) (mmNewD S d) S.1.length (50 + t, z) = .inl (dA t, A0) := by
    rw [mmE_arr]
    exact congrArg (fun w => (Sum.inl (dA t, w) : va_E)) (hA0 ρ q)
  have h5 := k9 (mmRho S ρ q) H1 locs (mmRho_eq hn9) (by rw [mmW_new hC hn9 hEq]; exact g1) (by rw [mmW_new hC hn9 hEq]; exact g2) g3
  rw [List.map_cons, cvV_rf, Option.map_some, mmRho_at, cvV_list (mmRho_eq hn9) (ok_t hs9)] at h5
  exact h5
end
