/-! FINAL FIELDS OF ONE NAME in classes of different names: their places are apart (follows va_apart, va_putF of the kit) -/
set_option maxRecDepth 100000
section
variable {p : Program} {l : Launch} {e : Env} {R : Room} {s : State} {m : MethodId} {args : Array Value} {below : List Frame} {meth : Method} {c : Code} {H : Heap} {locs : List Loc} {cells slots : Nat} {Q : State → Prop}
variable {cc : ByteArray} {pc : Nat} {ls : Array Slot} {rest : List Value} {D : va_G} {cl : List vw_C} {A : Nat → Prop} {a : Nat} {tys : List (ClassId × FieldType)} {ws : va_W} {H0 : Heap}
theorem u_fcls {cls name desc : String} {c i : Nat} {k : Class} {f : Field} (h : s.fieldFound? cls name desc = some (c, k, i, f)) : s.vm.classes[c]? = some k := by
  simp only [State.fieldFound?, Option.bind_eq_bind, Option.bind_eq_some_iff, Option.pure_def, Option.some.injEq, Prod.mk.injEq] at h
  obtain ⟨_, _, q, _, ⟨x, y⟩, _, k', hk, f', hf, rfl, rfl, rfl, rfl⟩ := h
  exact hk
theorem va_apartO {C : String} {T : u_T} {N ci : Nat} {Ts : List Cond} (hts : ∀ w ∈ Ts, w.before args s = true) (hin : ∀ w ∈ u_ws C T N, w ∈ Ts) (hall : ∀ k, k < N → (T k).2.2.2 = true) (hnm : ∀ a, a < N → ∀ b, b < N → a ≠ b → (T a).1 ≠ (T b).1) (hK : va_K D cl tys s) (hc : cl[ci]? = some (C, T, N)) : ∀ x y, x < N → y < N → x ≠ y → (D.2 ci) x ≠ (D.2 ci) y := by
  intro x y hx hy hne
  obtain ⟨hS, -⟩ := hK.1 ci _ hc
  obtain ⟨_, _, _, fa, hia, ea⟩ := hS x hx
  obtain ⟨_, _, _, fb, hib, eb⟩ := hS y hy
  have l1 := hts _ (hin _ (u_in_lay hx))
  have l2 := hts _ (hin _ (u_in_lay hy))
  unfold u_lay at l1 l2
  rw [if_pos (hall x hx)] at l1
  rw [if_pos (hall y hy)] at l2
  obtain ⟨c1, k1, c1', k1', i1, f1, hc1, hk1, hf1, -, -, -, hd1, -, d1, e1, n1, -⟩ := Cond.laysFinal_spec l1
  obtain ⟨c2, k2, c2', k2', i2, f2, hc2, hk2, hf2, -, -, -, hd2, -, d2, e2, n2, -⟩ := Cond.laysFinal_spec l2
  cases hia.symm.trans hf1
  cases hib.symm.trans hf2
  cases hc1.symm.trans hc2
  rw [← ea, ← eb]
  intro hs
  rw [hs] at e1
  cases e1.symm.trans e2
  obtain ⟨z1, y1, w1⟩ := Vm.findClass_spec hd1
  obtain ⟨z2, y2, w2⟩ := Vm.findClass_spec hd2
  have g1 := u_fcls hia
  have g2 := u_fcls hib
  cases y1.symm.trans g1
  cases y2.symm.trans g2
  exact hnm x hx y hy hne (w1.symm.trans (n1.symm.trans (n2.trans w2)))
theorem va_putFO (hexec : p.tables.exec = Jvm.exec) (hb : c.code = cc) {own ref C : String} {T : u_T} {N ci index : Nat} {Ts : List Cond} (hts : ∀ w ∈ Ts, w.before args s = true) (hin : ∀ w ∈ u_ws C T N, w ∈ Ts) (hall : ∀ k, k < N → (T k).2.2.2 = true) (hnm : ∀ a, a < N → ∀ b, b < N → a ≠ b → (T a).1 ≠ (T b).1) (hown : s.vm.findClass own = some m.cls) (hK : va_K D cl tys s) (hP : va_P D cl ws H) (hD : va_D A ws) (hS0 : va_S A H0 H locs) (q0 : Nat) {fs : List Value} (he : ws[q0]? = some (a, .inr (ci, fs))) (hc : cl[ci]? = some (C, T, N)) (k : Nat) (hk : k < N) (hlink : (Cond.fieldLink own index ref (T k).2.1 (T k).2.2.1).before args s = true) (hsame : ∀ x, s.fieldFound? (T k).1 (T k).2.1 (T k).2.2.1 = some x → s.fieldFound? ref (T k).2.1 (T k).2.2.1 = some x) (hfin : (T k).2.2.2 = true) (hin2 : meth.name = "<init>") (hdecl : (T k).1 = own) {ty : FieldType} {v : Value} (hd : parseFieldDescriptor (T k).2.2.1 = some ty) (hn : narrow ty v = v) (hfit : fits ty v = true) (hl : k < fs.length)
    (hdg : decode cc pc = .ok (.putfield index, 3)) (kk : ∀ (H1 : Heap) (locs1 : List Loc), va_P D cl (ws.set q0 (a, .inr (ci, fs.set k v))) H1 → va_D A (ws.set q0 (a, .inr (ci, fs.set k v))) → va_S A H0 H1 locs1 → W p l e R s m args below meth c H1 locs1 cells slots Q (F0 m (pc + 3) ls rest)) : W p l e R s m args below meth c H locs cells slots Q (F0 m pc ls (v :: .ref a :: rest)) := by
  have hap := va_apartO hts hin hall hnm hK hc
  obtain ⟨r, h1, cell, q1, q2, q3, q4⟩ := hP q0 _ he
  have hr : r = (C, T, N) := Option.some.inj (h1.symm.trans hc)
  subst hr
  obtain ⟨hS, hfc, kC, hkC, hkind⟩ := hK.1 ci _ hc
  obtain ⟨cf, kf, fi, f, hi, hsl⟩ := hS k hk
  have hlay := hts _ (hin _ (u_in_lay hk))
  unfold u_lay at hlay
  rw [if_pos hfin] at hlay
  have hst := (u_facts hfc hkC (u_lays hts hin hk) hi).1
  have hcf : m.cls = cf := by
    obtain ⟨_, _, c', _, _, _, -, -, hf', -, -, -, hown2, -⟩ := Cond.laysFinal_spec hlay
    have e1 : c' = cf := by have := hi.symm.trans hf'; simp at this; exact this.1.symm
    rw [hdecl] at hown2
    rw [← e1]; exact Option.some.inj (hown.symm.trans hown2)
  have h6 := u_fits hfc hkC hkind (Or.inr hlay) hi hd hn hfit
  refine W.putFinK hexec hb hown hlink (hsame _ hi) hst hcf hin2 (by rw [q2]; exact h6) q1 q3 (by rw [hsl]; exact k2_hasslot (q4 k hk)) rfl rfl hdg fun H' e1 e2 e3 => ?_
  rw [hsl] at e1 ⊢
  exact kk H' _ (hP.set hD he ⟨_, hc, t_OB.to (V := updV (vp_V fs) k v) ⟨_, e1, q2, q3, t_set q4 hap hk v⟩ (fun j _ => vp_updV_set hl v j)⟩ e3) (hD.set he) (hS0.put e2 e3 (hD.2 q0 _ he))
end
section
variable {α β : Type} {X : CT} {F : α × Sp × Dt} {Λ : β → Sp → Dt → α × Sp × Dt} {S : Sp} {d : Dt} {pc nN : Nat} {lv lv' : List (Nat × Value)} {st : List Value} {r : Option β} {own : String} {cc : ByteArray}
theorem JW_pRo (G : Ctx X F own cc nN) {C ref : String} {T : u_T} {N cn k idx : Nat} (hc : mmCl[cn]? = some (C, T, N)) (hin : ∀ w ∈ u_ws C T N, w ∈ lw_all) (hty : ∀ k, k < N → parseFieldDescriptor (T k).2.2.1 = some (mmTy cn k)) (hall : ∀ k, k < N → (T k).2.2.2 = true) (hnm : ∀ a, a < N → ∀ b, b < N → a ≠ b → (T a).1 ≠ (T b).1) (hk9 : k < N) (hr9 : ¬ (50 ≤ cn ∧ cn ≤ 5)) (ht9 : mmK (mmTy cn k) = 3) (hsm : ref = (T k).1 ∨ Cond.sameField ref (T k).1 (T k).2.1 (T k).2.2.1 ∈ lw_all) (hfin : (T k).2.2.2 = true) (hI : XI X) (hdecl : (T k).1 = own) (hl : Cond.fieldLink own idx ref (T k).2.1 (T k).2.2.1 ∈ lw_all) {w : Option Nat}  {o : Option Nat} {v : Nat} (hv : isK S cn o = some v) (hΛ : ∀ b, Λ b (S.1, u2 S.2.1 v k w, S.2.2) d = Λ b S d) (hd : decode cc pc = .ok (.putfield idx, 3)) (hk : J X F Λ (S.1, u2 S.2.1 v k w, S.2.2) d (pc + 3) lv (st) r) : J X F Λ S d pc lv (va_rf w :: va_rf o :: st) r := by
  refine J.chg G hΛ (Le_put) (fun hC hs => Cl_put hC (ok_ho hs)) (fun _ hs => ok_t (ok_t hs)) ?_ hk
  obtain _ | ⟨p, l, e, R, s, m, args, below, meth, c, Q, dC, dI, dA, oa, A, nL, c0, s0, ρ0, n0⟩ := X
  · exact trivial
  obtain ⟨hx, hb, hml, hown, hts, hlk, hK, hT, hE, hA, hO, hRc, hRs, hfl, hoa⟩ := G
  intro ρ H locs ls cells slots hC hs9 hn0 hn1 hr1 hr2 hW hL k9
  obtain ⟨rfl, n, hs⟩ := isK_at hv
  obtain ⟨hc1, hc2⟩ := mm_cl hc
  have hws := mmW_get (dA := dA) (ρ := ρ) (d := d) hs
  rw [mmE_obj hc1] at hws
  rw [List.map_cons, List.map_cons, cvV_rf, cvV_rf]
  refine va_putFO (D := (dC, dI)) hx hb hts hin hall hnm hown hK hW.1 hW.2.1 hW.2.2.1 v hws hc k hk9 (hts _ hl) (fun x hx9 => hsm.elim (fun q => by rw [q]; exact hx9) (fun q => u_same (hts _ q) x hx9)) hfin hI hdecl (hty k hk9) (mm_rfty ht9).1 (mm_rfty ht9).2 (by rw [mmF_len, hc2]; exact hk9) hd (fun H1 locs1 g1 g2 g3 => ?_)
  have e9 := mmW_putR (dA := dA) (ρ := ρ) (d := d) (x := w) hs hc1 hr9 (by rw [hc2]; exact hk9) ht9
  have h2 := k9 ρ H1 locs1 (fun _ _ => rfl) (by rw [e9]; exact g1) (by rw [e9]; exact g2) g3
  simp only [Nat.sub_self, Nat.add_zero] at h2
  exact h2
end
