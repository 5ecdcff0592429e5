/-! METHODS THAT THROW: FnX; handlers -/
set_option maxRecDepth 100000
section
variable {p : Program} {l : Launch} {e : Env} {R : Room} {s : State} {m : MethodId} {args : Array Value} {below : List Frame} {meth : Method} {c : Code}
/-- a call whose method overrides the named one, returning or throwing (follows va_callVU, vq_callV) -/
theorem vq_callVU {T : State} {locs : List Loc} {cells slots : Nat} (X : Stand p l e R s m args below meth c T locs cells slots) (hexec : p.tables.exec = Jvm.exec) {own C owner : String} {index : Nat} {x y : MethodName} {bytes : ByteArray} {maxL : Nat} {ret : Option FieldType}
    (hown : s.vm.findClass own = some m.cls) (hlink : (Cond.methodLink own index x).before args s = true) (hsame : (Cond.sameMethod x.cls owner x.name x.desc).before args s = true)
    (hd0 : va_Decl s ⟨owner, x.name, x.desc⟩) (howner : owner ≠ "java/lang/invoke/MethodHandle" ∧ owner ≠ "java/lang/invoke/VarHandle")
    (hsel : (Cond.selects C x y).before args s = true) (hinst : (Cond.instanceMethod y).before args s = true) (hcode : (Cond.code y bytes maxL ret).before args s = true)
    {W9 : Nat} {Pre : Pt → Array Value → Prop} {Post : Pt → Array Value → Option Value → Pt → Prop} {PostX : Pt → Array Value → Addr → Pt → Prop} (hK : vq_Back l R p e below s args y 3 W9 Pre Post PostX)
    {b : Addr} {cellB : Cell} (hcell : T.heap[b]? = some cellB) (hobj : cellB.vm.isStatics = false) (hcls : s.vm.findClass C = some cellB.cls)
    {g : JFrame} (hg : g.method = m) (hsize : g.locals.size = c.maxLocals) {argsL rest : List Value} (hlen : ∀ sig, parseMethodDescriptor x.desc = some sig → argsL.length = sig.parameters.length)
    (hstack : g.stack = argsL.reverse ++ .ref b :: rest) (hW : 2 * g.monitorRoom + (rest.map fun v => v.category).sum ≤ W9) (hdg : decode c.code g.pc = .ok (.invokevirtual index, 3))
    (hpre : ∀ vm₁, s.WarmedH vm₁ → Pre ⟨T.setVm vm₁, locs, cells, slots⟩ (Value.ref b :: argsL).toArray) :
    (∃ (v : Option Value) (vm₁ : Vm) (B : Pt), s.WarmedH vm₁ ∧ Stand p l e R s m args below meth c B.U B.locs B.cells B.slots ∧ Post ⟨T.setVm vm₁, locs, cells, slots⟩ (Value.ref b :: argsL).toArray v B ∧
      ∀ target, Steps p.tables e below (B.U.setTop { g with pc := g.pc + 3, stack := v.toList ++ rest }) target → Steps p.tables e below (T.setTop g) target) ∨
    (∃ (q : Addr) (vm₁ : Vm) (B : Pt), s.WarmedH vm₁ ∧ Stand p l e R s m args below meth c B.U B.locs B.cells B.slots ∧ PostX ⟨T.setVm vm₁, locs, cells, slots⟩ (Value.ref b :: argsL).toArray q B ∧
      Steps p.tables e below (T.setTop g) ((B.U.setTop { g with stack := rest }).pushFrame (.throwing q))) := by
  obtain ⟨r0, r, hn, hrm, hstR, hsigR⟩ := hd0
  obtain ⟨cn, ck, r1, hcn, hck, hni, hf, hn1⟩ := Cond.sameMethod_found hsame
  cases hn.symm.trans hn1
  obtain ⟨mk, methM, hnamed, hmethM, -, habM⟩ := Cond.instanceMethod_spec hinst
  obtain ⟨c2, r2, m2, q1, q2, q3, q4, kP, hkP, hkPi⟩ := Cond.selects_spec hsel
  cases hcls.symm.trans q1
  cases hf.symm.trans q2
  cases hnamed.symm.trans q3
  have hselP : selectMethod e.platform s.vm cellB.cls r0 = .method mk := by rw [Launch.admits_selectMethod X.admits]; exact q4
  obtain ⟨vm₁, X₁, hstep₁⟩ := X.invokevirtualUp hexec hown hlink hsame howner hn hrm hstR (a := b) (cell := cellB) hcell
    (fun z h => by rw [h] at hobj; cases hobj) hselP hmethM habM hkP hkPi (g := g) hg (argsL := argsL) (rest := rest) (hlen _ hsigR) hstack hdg
  rcases hK m meth c ⟨T.setVm vm₁, locs, cells, slots⟩ { g with stack := rest } (.invokevirtual index) mk (Value.ref b :: argsL).toArray X₁ hg hsize hdg hW (X₁.named hnamed) (hpre vm₁ X₁.warmed) with ⟨v, B, X', hpost, hsteps⟩ | ⟨q, B, X', hpost, hsteps⟩
  · exact Or.inl ⟨v, vm₁, B, X₁.warmed, X', hpost, fun target h => hstep₁ _ fun acts => by rw [doInvoke_state]; exact hsteps.trans h⟩
  · exact Or.inr ⟨q, vm₁, B, X₁.warmed, X', hpost, hstep₁ _ fun acts => by rw [doInvoke_state]; exact hsteps⟩
theorem vq_runU {x y : MethodName} {bytes cc : ByteArray} {maxL nL mc ms n index : Nat} {ret : Option FieldType} {ws : List Cond} {rm : Room} {Pc : Array Value → State → Prop} {Qc : Array Value → State → Outcome → State → Prop} {XC : String → Addr → State → State → Prop} {free : Addr → Prop} {Ts : List Cond} {own C owner : String} {b : Addr} {As rest : List Value} {g : JFrame} {H : Heap} {locs : List Loc} {cells slots : Nat}
    (S : CallFix p m c cc nL s args Ts own) (hM : vq_Met l y ws rm Pc Qc XC mc ms free) (cw : va_CU R s args own C owner index x y bytes maxL ret ws rm mc ms n) (hp : PreV s H C b Pc As)
    (hg : g.method = m) (hn : As.length = n) (hsize : g.locals.size = nL) (hstack : g.stack = As.reverse ++ .ref b :: rest) (hW : 2 * g.monitorRoom + (rest.map fun v => v.category).sum ≤ 8) (hdg : decode cc g.pc = .ok (.invokevirtual index, 3)) (hf : cells + mc ≤ R.cells ∧ slots + ms ≤ R.slots) :
    vq_Run p l e R s m args below meth c H locs cells slots mc ms g rest (Qc (Value.ref b :: As).toArray) XC free := by
  have hbk := cw.back
  have hK : vq_Back l R p e below s args y 3 8 (PreOf R mc ms Pc) (PostOf Qc mc ms free) (vq_Post XC mc ms free) :=
    vq_back hM hp.1 hbk.1 hbk.2.1 hbk.2.2.1 hbk.2.2.2.1 hbk.2.2.2.2.1 hbk.2.2.2.2.2 (fun a' U hW => word_at hW (Or.inl (by first | rfl | simp [Cond.onTables, Cond.keeps, Cond.steady])) cw.init)
  obtain ⟨hx, hb, hml, ho, -⟩ := S
  obtain ⟨-, ⟨cellB, hcB, hoB, hclB⟩, hPc⟩ := hp
  intro T hT X
  rcases vq_callVU X hx (C := C) (bytes := bytes) (maxL := maxL) (ret := ret) ho cw.link cw.same cw.decl cw.notMH cw.sel cw.inst cw.code hK (by rw [hT]; exact hcB) hoB hclB hg (hsize.trans hml.symm) (argsL := As) (rest := rest) (fun sig h => hn.trans (cw.len sig h)) hstack hW (by rw [hb]; exact hdg)
    (fun vm₁ hW₁ => ⟨hf.1, hf.2, hPc (T.setVm vm₁) hT hW₁⟩) with ⟨v, vm₁, ⟨U', l2, c2, s2⟩, hW₁, X', ⟨g', mk, t, L, e1, e2, hq, h1, hL, h2, h3⟩, st⟩ | ⟨q, vm₁, ⟨U', l2, c2, s2⟩, hW₁, X', ⟨g', mk, t, L, E, ce, e1, e2, hq, hce, hcv, hcl, h1, hL, h2, h3⟩, st⟩
  · dsimp only [Pt.U, Pt.locs, Pt.cells, Pt.slots] at X' e1 e2 h1 h2 h3 st
    subst h1; subst h2; subst h3
    exact Or.inl ⟨v, (T.setVm vm₁).calling g' mk (Value.ref b :: As).toArray, t, U', L, hT, X', hL, e1, e2, hq, st⟩
  · dsimp only [Pt.U, Pt.locs, Pt.cells, Pt.slots] at X' e1 e2 h1 h2 h3 st hcl
    subst h1; subst h2; subst h3
    exact Or.inr ⟨q, (T.setVm vm₁).calling g' mk (Value.ref b :: As).toArray, t, U', L, E, ce, hT, X', hL, e1, e2, hq, hce, hcv, vx_cls hW₁ hcl, st⟩
end
def bindX {γ β : Type} (o : Option ((γ ⊕ Nat) × Sp × Dt)) (f : γ → Sp → Dt → Option β) (g : Nat → Sp → Dt → Option β) : Option β := o.bind fun q => match q.1 with
  | .inl a => f a q.2.1 q.2.2
  | .inr v => g v q.2.1 q.2.2
def XPost (dC : Nat → ClassId) (dI : Nat → Nat → Nat) (dA : Nat → ClassId) (ρ : Nat → Nat) (S : Sp) (d : Dt) (sz v : Nat) (S' : Sp) (d' : Dt) (EX : String) : String → Addr → State → State → Prop := fun E q st t =>
  (E = EX ∧ ∃ ρ' : Nat → Nat, (∀ x, okR S x → ρ' x = ρ x) ∧ q = ρ' v ∧ va_P (dC, dI) mmCl (mmW dA ρ' S' d') t.heap ∧ va_D (va_A (mmW dA ρ S d) sz) (mmW dA ρ' S' d') ∧ Cl S' ∧ okR S' v) ∧ va_F (va_A (mmW dA ρ S d) sz) st t
def qcX {γ : Type} (dC : Nat → ClassId) (dI : Nat → Nat → Nat) (dA : Nat → ClassId) (ρ : Nat → Nat) (S : Sp) (d : Dt) (sz : Nat) (rv : γ → Option Value) (b : γ ⊕ Nat) (S' : Sp) (d' : Dt) : Array Value → State → Outcome → State → Prop := match b with
  | .inl a => FPost dC dI dA ρ S d sz (rv a) S' d'
  | .inr _ => fun _ _ _ _ => False
def xcX {γ : Type} (dC : Nat → ClassId) (dI : Nat → Nat → Nat) (dA : Nat → ClassId) (ρ : Nat → Nat) (S : Sp) (d : Dt) (sz : Nat) (b : γ ⊕ Nat) (S' : Sp) (d' : Dt) (EX : String) : String → Addr → State → State → Prop := match b with
  | .inl _ => fun _ _ _ _ => False
  | .inr v => XPost dC dI dA ρ S d sz v S' d' EX
def FnX {γ : Type} (y : MethodName) (ws : List Cond) (fr lo : Nat) (av : List Value) (S : Sp) (d : Dt) (rv : γ → Option Value) (EX : String) (r : Option ((γ ⊕ Nat) × Sp × Dt)) : Prop :=
  ∀ b, r = some b → Le S b.2.1 ∧ (b.2.1.1.length ≤ OPQ → Cl S → (∀ x ∈ av, okV S x) → ∀ (l : Launch), l.flags = flags0 → ∀ (dC : Nat → ClassId) (dI : Nat → Nat → Nat) (dA : Nat → ClassId) (oa ρ : Nat → Nat) (sz : Nat), (∀ k, ρ (OPQ + k) = oa k) →
    vq_Met l y ws { frames := fr, cells := b.2.1.2.2.1 - S.2.2.1, slots := b.2.1.2.2.2 - S.2.2.2, locals := lo } (FPre dC dI dA oa ρ S d av sz) (qcX dC dI dA ρ S d sz rv b.1 b.2.1 b.2.2) (xcX dC dI dA ρ S d sz b.1 b.2.1 b.2.2 EX) (b.2.1.2.2.1 - S.2.2.1) (b.2.1.2.2.2 - S.2.2.2) (va_A (mmW dA ρ S d) sz))
/-- the end that a throwing body owes -/
def RtX {γ : Type} (X : CT) (F : (γ ⊕ Nat) × Sp × Dt) (ret : Option FieldType) (rv : γ → Option Value) (S0 : Sp) (d0 : Dt) (EX : String) : Prop := match X with
  | none => True
  | some (_, _, _, _, s, _, args, below, meth, c, Q, dC, dI, dA, _, A, _, c0, s0, ρ0, n0) =>
    meth.sig.returnType = ret ∧ c0 = S0.2.2.1 ∧ s0 = S0.2.2.2 ∧ n0 = S0.1.length ∧ A = va_A (mmW dA ρ0 S0 d0) s.heap.size ∧ Q = vq_MQ below (qcX dC dI dA ρ0 S0 d0 s.heap.size rv F.1 F.2.1 F.2.2) (xcX dC dI dA ρ0 S0 d0 s.heap.size F.1 F.2.1 F.2.2 EX) args s (F.2.1.2.2.1 - S0.2.2.1) (F.2.1.2.2.2 - S0.2.2.2) A ∧ ∀ x ∈ c.exceptionTable.toList, False
/-- the body's table of handlers -/
def Et (X : CT) (tb : List ExceptionTableEntry) : Prop := match X with
  | none => True
  | some (_, _, _, _, _, _, _, _, _, c, _, _, _, _, _, _, _, _, _, _, _) => c.exceptionTable.toList = tb
theorem FnX_none {γ : Type} {y : MethodName} {ws : List Cond} {fr lo : Nat} {av : List Value} {S : Sp} {d : Dt} {rv : γ → Option Value} {EX : String} : FnX y ws fr lo av S d rv EX (none : Option ((γ ⊕ Nat) × Sp × Dt)) := fun _ h => nomatch h
theorem FnX.ofJ {γ : Type} {y : MethodName} {cc : ByteArray} {nL : Nat} {ret : Option FieldType} {fr lo : Nat} {av : List Value} {S : Sp} {d : Dt} {rv : γ → Option Value} {EX : String} {r : Option ((γ ⊕ Nat) × Sp × Dt)} {own : String} {lv : List (Nat × Value)} (hy : plainName y.cls = true) (hown9 : y.cls = own) (hlen : (av.map Value.category).sum ≤ nL) (hlv : lv_args 0 av = lv)
    (hbody : ∀ (X : CT) (F : (γ ⊕ Nat) × Sp × Dt), Ctx X F own cc nL → Rm X fr lo → RtX X F ret rv S d EX → J X F Λa S d 0 lv [] r) : FnX y (ws_ y cc nL ret) fr lo av S d rv EX r := by
  intro b hb
  refine ⟨(hbody none b trivial trivial trivial b hb rfl).1, fun hO hC hav l hfl dC dI dA oa ρ sz hoa => ?_⟩
  subst hown9
  subst hlv
  refine vq_ofW (cc := cc) (maxL := nL) (ret := ret) hy rfl ?_
  intro p e s m args below meth c s₁ B hml htb hv
  obtain ⟨rfl, hsz, hP, hK, hD0, hT, hE⟩ := hv
  have hx := B.exec
  have hbb := B.bytes
  have hr := B.returns
  have hts := atoms_spec (ws := ws_ y cc nL ret) B.pre
  have hts : ∀ w ∈ lw_all, w.before _ s = true := fun w h => hts w (List.mem_cons_of_mem _ h)
  have hown : s.vm.findClass y.cls = some m.cls := findClass_of_methodNamed B.named
  have hlocks := B.notSynchronized
  subst hsz
  have hD := hD0.self (sz := s.heap.size)
  rw [lg_entry_eq]
  have hl := lv_entry (av.map (cvV ρ)) (n := nL) (by rw [lg_sl_len, cat_cv]; exact hlen)
  have h := (hbody (some (p, l, e, { frames := fr, cells := b.2.1.2.2.1 - S.2.2.1, slots := b.2.1.2.2.2 - S.2.2.2, locals := lo }, s, m, (av.map (cvV ρ)).toArray, below, meth, c, vq_MQ below (qcX dC dI dA ρ S d s.heap.size rv b.1 b.2.1 b.2.2) (xcX dC dI dA ρ S d s.heap.size b.1 b.2.1 b.2.2 EX) (av.map (cvV ρ)).toArray s (b.2.1.2.2.1 - S.2.2.1) (b.2.1.2.2.2 - S.2.2.2) (va_A (mmW dA ρ S d) s.heap.size), dC, dI, dA, oa, va_A (mmW dA ρ S d) s.heap.size, nL, S.2.2.1, S.2.2.2, ρ, S.1.length)) b
    ⟨hx, hbb, ⟨hml, rfl⟩, hown, hts, hlocks, hK, hT, hE, fun q h => Or.inr h, hO, rfl, rfl, hfl, hoa⟩ ⟨rfl, rfl⟩ ⟨hr, rfl, rfl, rfl, rfl, rfl, htb⟩ b hb rfl).2 hC (fun _ h => nomatch h) (fun q hq => hav _ (lv_args_mem hq)) (Nat.le_refl _) (Nat.le_refl _) (Nat.le_refl _) ρ s.heap [] _ ⟨hP, hD, va_S.rf, fun _ _ => rfl⟩ (by rw [cvL_args]; exact hl)
  rw [Nat.sub_self, Nat.sub_self] at h
  exact h
/-- a method with handlers that throws nothing itself -/
theorem Fn.ofJH {γ δ : Type} {y : MethodName} {cc : ByteArray} {nL : Nat} {ret : Option FieldType} {hh : List (Nat × Nat × Nat × Nat)} {fr lo : Nat} {av : List Value} {S : Sp} {d : Dt} {rv : γ → Option Value} {Λ : δ → Sp → Dt → γ × Sp × Dt} {r : Option δ} {own : String} {lv : List (Nat × Value)} (hy : plainName y.cls = true) (hown9 : y.cls = own) (hlen : (av.map Value.category).sum ≤ nL) (hlv : lv_args 0 av = lv)
    (hbody : ∀ (X : CT) (F : γ × Sp × Dt), Ctx X F own cc nL → Rm X fr lo → Rt X F ret rv S d → Et X (tableOf hh) → J X F Λ S d 0 lv [] r) : Fn y (wsW_ y cc nL ret hh) fr lo av S d rv Λ r := by
  intro b hb
  refine ⟨(hbody none (Λ b S d) trivial trivial trivial trivial b hb rfl).1, fun hO hC hav l hfl dC dI dA oa ρ sz hoa => ?_⟩
  subst hown9
  subst hlv
  have hV : vq_Met l y (wsW_ y cc nL ret hh) { frames := fr, cells := (Λ b S d).2.1.2.2.1 - S.2.2.1, slots := (Λ b S d).2.1.2.2.2 - S.2.2.2, locals := lo } (FPre dC dI dA oa ρ S d av sz) (FPost dC dI dA ρ S d sz (rv (Λ b S d).1) (Λ b S d).2.1 (Λ b S d).2.2) (fun _ _ _ _ => False) ((Λ b S d).2.1.2.2.1 - S.2.2.1) ((Λ b S d).2.1.2.2.2 - S.2.2.2) (va_A (mmW dA ρ S d) sz) := by
    refine vq_ofWH (cc := cc) (maxL := nL) (ret := ret) (hh := hh) hy rfl ?_
    intro p e s m args below meth c s₁ B hml hv
    obtain ⟨rfl, hsz, hP, hK, hD0, hT, hE⟩ := hv
    have hx := B.exec
    have hbb := B.bytes
    have hr := B.returns
    have hts0 := atoms_spec (ws := wsW_ y cc nL ret hh) B.pre
    have hts : ∀ w ∈ lw_all, w.before _ s = true := fun w h => hts0 w (List.mem_cons_of_mem _ h)
    have htb := vq_table (x := y) B (hts0 _ List.mem_cons_self)
    have hown : s.vm.findClass y.cls = some m.cls := findClass_of_methodNamed B.named
    have hlocks := B.notSynchronized
    subst hsz
    have hD := hD0.self (sz := s.heap.size)
    rw [lg_entry_eq]
    have hl := lv_entry (av.map (cvV ρ)) (n := nL) (by rw [lg_sl_len, cat_cv]; exact hlen)
    refine vq_ret ?_
    have h := (hbody (some (p, l, e, { frames := fr, cells := (Λ b S d).2.1.2.2.1 - S.2.2.1, slots := (Λ b S d).2.1.2.2.2 - S.2.2.2, locals := lo }, s, m, (av.map (cvV ρ)).toArray, below, meth, c, MQ below (FPost dC dI dA ρ S d s.heap.size (rv (Λ b S d).1) (Λ b S d).2.1 (Λ b S d).2.2) (av.map (cvV ρ)).toArray s ((Λ b S d).2.1.2.2.1 - S.2.2.1) ((Λ b S d).2.1.2.2.2 - S.2.2.2) (va_A (mmW dA ρ S d) s.heap.size), dC, dI, dA, oa, va_A (mmW dA ρ S d) s.heap.size, nL, S.2.2.1, S.2.2.2, ρ, S.1.length)) (Λ b S d)
      ⟨hx, hbb, ⟨hml, rfl⟩, hown, hts, hlocks, hK, hT, hE, fun q h => Or.inr h, hO, rfl, rfl, hfl, hoa⟩ ⟨rfl, rfl⟩ ⟨hr, rfl, rfl, rfl, rfl, rfl⟩ htb b hb rfl).2 hC (fun _ h => nomatch h) (fun q hq => hav _ (lv_args_mem hq)) (Nat.le_refl _) (Nat.le_refl _) (Nat.le_refl _) ρ s.heap [] _ ⟨hP, hD, va_S.rf, fun _ _ => rfl⟩ (by rw [cvL_args]; exact hl)
    rw [Nat.sub_self, Nat.sub_self] at h
    exact h
  intro p e ha hc hk s m args below hf happ hP hK
  obtain ⟨n, o, h1, h2, h3, h4⟩ := hV p e ha hc hk s m args below hf happ hP hK
  refine ⟨n, o, h1, h2, h3, ?_⟩
  rcases h4 with h | ⟨q, -, E, ce, L, hf, -⟩
  · exact h
  · exact hf.elim
/-! throwing: q is on its way -/
def JXm (X : CT) (S : Sp) (d : Dt) (pc : Nat) (lv : List (Nat × Value)) (rest : List Value) (v : Nat) (EX : String) : Prop := match X with
    | none => True
    | some (p, l, e, R, s, m, args, below, meth, c, Q, dC, dI, dA, _, A, nL, c0, s0, ρ0, n0) =>
      Cl S → (∀ x ∈ rest, okV S x) → (∀ q ∈ lv, okV S q.2) → okR S v → c0 ≤ S.2.2.1 → s0 ≤ S.2.2.2 → n0 ≤ S.1.length → ∀ (ρ : Nat → Nat) (H : Heap) (locs : List Loc) (ls : Array Slot), Wd dC dI dA A ρ0 n0 ρ S d s H locs → lv_has ls nL (cvL ρ lv) → (∃ ce : Cell, H[ρ v]? = some ce ∧ ce.vm = .none ∧ s.vm.findClass EX = some ce.cls) →
        vx_W p l e R s m args below meth c H locs (S.2.2.1 - c0) (S.2.2.2 - s0) Q (F0 m pc ls (rest.map (cvV ρ))) (ρ v)
def JX {α β : Type} (X : CT) (F : α × Sp × Dt) (Λ : β → Sp → Dt → α × Sp × Dt) (S : Sp) (d : Dt) (pc : Nat) (lv : List (Nat × Value)) (rest : List Value) (v : Nat) (EX : String) (r : Option β) : Prop :=
  ∀ b, r = some b → Λ b S d = F → Le S F.2.1 ∧ JXm X S d pc lv rest v EX
section
variable {α β γ : Type} {X : CT} {F : α × Sp × Dt} {Λ : β → Sp → Dt → α × Sp × Dt} {S S0 : Sp} {d d0 : Dt} {pc nN : Nat} {lv : List (Nat × Value)} {rest st st' : List Value} {own EX : String} {cc : ByteArray} {ret : Option FieldType} {r : Option β}
theorem JX_bd {δ : Type} {g : Option δ} {f : δ → Option β} {v : Nat} (hk : ∀ w, g = some w → JX X F Λ S d pc lv rest v EX (f w)) : JX X F Λ S d pc lv rest v EX (g.bind f) := by
  intro b hr
  cases hg : g with
  | none => rw [hg] at hr; cases hr
  | some w => rw [hg] at hr; exact hk w hg b hr
theorem JX_out {F : (γ ⊕ Nat) × Sp × Dt} {rv : γ → Option Value} {v : Nat} (G : Ctx X F own cc nN) (hR : RtX X F ret rv S0 d0 EX) : JX X F Λa S d pc lv rest v EX (some (.inr v, S, d)) := by
  intro b hr hΛ
  cases hr
  subst hΛ
  refine ⟨Le.rf, ?_⟩
  obtain _ | ⟨p, l, e, R, s, m, args, below, meth, c, Q, dC, dI, dA, oa, A, nL, c0, s0, ρ0, n0⟩ := X
  · exact trivial
  obtain ⟨hx, hb, hml, hown, hts, hlk, hK, hT, hE, hA, hO, hRc, hRs, hfl, hoa⟩ := G
  obtain ⟨hr, rfl, rfl, rfl, rfl, rfl, htb⟩ := hR
  intro hC hs hl hv k1 k2 k3 ρ H locs ls hW hL hce
  obtain ⟨ce, q1, q2, q3⟩ := hce
  exact vq_out (E := EX) (ce := ce) (fun x hx => (htb x hx).elim) hlk q1 q2 q3 (fun t ht hvm => ⟨⟨rfl, ρ, fun x hx => hW.2.2.2 x hx, rfl, by rw [ht]; exact hW.1, hW.2.1, hC, hv⟩, hW.2.2.1.F ht⟩) hW.2.2.1.2.2 (Nat.le_refl _) (Nat.le_refl _)
theorem JX_catch {x : ExceptionTableEntry} {suf : List ExceptionTableEntry} {v : Nat} (G : Ctx X F own cc nN) (hE9 : Et X (x :: suf)) (hx9 : covers x pc = true) (h0 : x.catchType ≠ 0) (hl9 : Cond.classLink own x.catchType EX ∈ lw_all) (hca : Cond.castable EX EX ∈ lw_tbl) (hk : J X F Λ S d x.handlerPc lv [va_rf (some v)] r) : JX X F Λ S d pc lv rest v EX r := by
  intro b hr hΛ
  obtain ⟨h1, h2⟩ := hk b hr hΛ
  refine ⟨h1, ?_⟩
  obtain _ | ⟨p, l, e, R, s, m, args, below, meth, c, Q, dC, dI, dA, oa, A, nL, c0, s0, ρ0, n0⟩ := X
  · exact trivial
  obtain ⟨hx, hb, hml, hown, hts, hlk, hK, hT, hE, hA, hO, hRc, hRs, hfl, hoa⟩ := G
  intro hC hs hl hv k1 k2 k3 ρ H locs ls hW hL hce
  obtain ⟨ce, q1, q2, q3⟩ := hce
  exact vx_catch (E := EX) (ce := ce) hown [] x suf hE9 (fun _ h => nomatch h) hx9 h0 (hts _ hl9) (va_Nw.use rfl (tb_word hT hca rfl)) q1 q2 q3 (h2 hC (ok_r (okO_some hv) (fun _ h => nomatch h)) hl k1 k2 k3 ρ H locs ls hW hL)
theorem JR_athrow {C : String} {T : u_T} {N cn : Nat} {v : Nat} (G : Ctx X F own cc nN) (hc : mmCl[cn]? = some (C, T, N)) (hd : decode cc pc = .ok (.athrow, 1)) (hv : isK S cn (some v) = some v) (hk : JX X F Λ S d pc lv rest v C r) : J X F Λ S d pc lv (va_rf (some v) :: rest) r := by
  intro b hr hΛ
  obtain ⟨h1, h2⟩ := hk b hr hΛ
  refine ⟨h1, ?_⟩
  obtain _ | ⟨p, l, e, R, s, m, args, below, meth, c, Q, dC, dI, dA, oa, A, nL, c0, s0, ρ0, n0⟩ := X
  · exact trivial
  obtain ⟨hx, hb, hml, hown, hts, hlk, hK, hT, hE, hA, hO, hRc, hRs, hfl, hoa⟩ := G
  intro hC hs hl k1 k2 k3 ρ H locs ls hW hL
  obtain ⟨-, n, hsh⟩ := isK_at hv
  obtain ⟨hc1, hc2⟩ := mm_cl hc
  have hws := mmW_get (dA := dA) (ρ := ρ) (d := d) hsh
  rw [mmE_obj hc1] at hws
  obtain ⟨rq, z1, ce, z2, z3, z4, z5⟩ := hW.1 _ _ hws
  cases hc.symm.trans z1
  exact vx_athrow hx hb hd (h2 hC (ok_t hs) hl (okV_rf.mp (ok_h hs) v rfl) k1 k2 k3 ρ H locs ls hW hL ⟨ce, z2, z4, by rw [z3]; exact (hK.1 cn _ hc).2.1⟩)
/-- a call that returns or throws -/
def JCallX (X : CT) (S : Sp) (d : Dt) (pc : Nat) (y : MethodName) (ws : List Cond) (fr lo : Nat) (av st st' : List Value) : Prop := match X with
  | none => True
  | some (p, l, e, R, s, m, args, below, meth, c, _, dC, dI, dA, oa, A, nL, _, _, ρ0, n0) =>
    ∀ (mc ms : Nat) (Qc : Array Value → State → Outcome → State → Prop) (XC : String → Addr → State → State → Prop) (free : Addr → Prop) (ρ : Nat → Nat) (H : Heap) (locs : List Loc) (ls : Array Slot) (cells slots : Nat), vq_Met l y ws { frames := fr, cells := mc, slots := ms, locals := lo } (FPre dC dI dA oa ρ S d av H.size) Qc XC mc ms free → cells + mc ≤ R.cells → slots + ms ≤ R.slots → Wd dC dI dA A ρ0 n0 ρ S d s H locs → ls.size = nL →
      (∀ U : State, U.heap = H → s.WarmedH U.vm → FPre dC dI dA oa ρ S d av H.size (av.map (cvV ρ)).toArray U) →
      vq_Run p l e R s m args below meth c H locs cells slots mc ms (F0 m pc ls (st.map (cvV ρ))) (st'.map (cvV ρ)) (Qc (av.map (cvV ρ)).toArray) XC free
theorem J.callX {rw9 : γ → Option Value} {y : MethodName} {ws : List Cond} {fr lo : Nat} {av : List Value} {rc : Option ((γ ⊕ Nat) × Sp × Dt)} {f9 : γ → Sp → Dt → Option β} {g9 : Nat → Sp → Dt → Option β} (G : Ctx X F own cc nN) (hF : FnX y ws fr lo av S d rw9 EX rc) (row : JCallX X S d pc y ws fr lo av st st') (hav : (∀ x ∈ st, okV S x) → ∀ x ∈ av, okV S x) (hst : (∀ x ∈ st, okV S x) → ∀ x ∈ st', okV S x)
    (hΛ' : ∀ b S' d', Λ b S' d' = Λ b S d) (hk : ∀ a S' d', rc = some (.inl a, S', d') → J X F Λ S' d' (pc + 3) lv ((rw9 a).toList ++ st') (f9 a S' d')) (hx : ∀ v S' d', rc = some (.inr v, S', d') → JX X F Λ S' d' pc lv st' v EX (g9 v S' d')) : J X F Λ S d pc lv st (bindX rc f9 g9) := by
  intro b0 hr hΛ
  cases hrc : rc with
  | none => rw [hrc] at hr; cases hr
  | some b =>
    rw [hrc] at hr
    obtain ⟨w, S1, d1⟩ := b
    obtain ⟨hLe, hM⟩ := hF _ hrc
    dsimp only at hLe hM
    have key : Le S1 F.2.1 ∧ (match w with
      | .inl a => Jm X S1 d1 (pc + 3) lv ((rw9 a).toList ++ st')
      | .inr v => JXm X S1 d1 pc lv st' v EX) := by
      cases w with
      | inl a => exact hk a S1 d1 hrc b0 hr ((hΛ' b0 S1 d1).trans hΛ)
      | inr v => exact hx v S1 d1 hrc b0 hr ((hΛ' b0 S1 d1).trans hΛ)
    obtain ⟨h1, h2⟩ := key
    refine ⟨hLe.tr h1, ?_⟩
    obtain _ | ⟨p, l, e, R, s, m, args, below, meth, c, Q, dC, dI, dA, oa, A, nL, c0, s0, ρ0, n0⟩ := X
    · exact trivial
    obtain ⟨hx9, hb, hml, hown, hts, hlk, hK, hT, hE, hA, hO, hRc, hRs, hfl, hoa⟩ := G
    intro hC hs hl k1 k2 k3 ρ H locs ls hW hL
    have a1' := hLe.2.1
    have a2 := hLe.2.2
    have a3 := h1.2.1
    have a4 := h1.2.2
    have a5 := hLe.len
    have a6 := h1.len
    have hρo : ∀ k, ρ (OPQ + k) = oa k := fun k => (hW.2.2.2 _ (Or.inr (Nat.le_add_right _ _))).trans (hoa k)
    have hMet := hM (by omega) hC (hav hs) l hfl dC dI dA oa ρ H.size hρo
    have hsub : ∀ q, va_A (mmW dA ρ S d) H.size q → A q := by
      intro q hq
      rcases hq with ⟨k, e9, hq⟩ | hq
      · exact hW.2.1.2 k (q, e9) hq
      · exact hA q (Nat.le_trans hW.2.2.1.1 hq)
    intro T hT9 X0
    rcases row _ _ _ _ _ ρ H locs ls _ _ hMet (by omega) (by omega) hW hL.1 (fun U hU hWm => ⟨rfl, by rw [hU], by rw [hU]; exact hW.1, va_K.moved hWm.alike hK, hW.2.1.weaken (fun _ _ _ _ => trivial), TB.warm hWm hT, by
      rw [hU]
      exact E0.moved hWm.alike ((E0.kept hE (fun a ha hna => hW.2.2.1.2.1 a ha hna)).narrow hsub)⟩) T hT9 X0 with ⟨v, st₀, t, T', L, g0, X', hL9, e1, e2, hq, stp⟩ | ⟨q, st₀, t, T', L, E, ce, g0, X', hL9, e1, e2, hq, q1, q2, q3, stp⟩
    · cases w with
      | inr v9 => exact hq.elim
      | inl a9 =>
        obtain ⟨⟨ρ', hρ, hv, hP1, hD1, hC1, hok1⟩, hz, hkk⟩ := hq
        cases hv
        rw [g0] at hz hkk
        rw [show S.2.2.1 - c0 + (S1.2.2.1 - S.2.2.1) = S1.2.2.1 - c0 from by omega, show S.2.2.2 - s0 + (S1.2.2.2 - S.2.2.2) = S1.2.2.2 - s0 from by omega] at X'
        have hS1' : va_S A s.heap T'.heap (locs ++ L) := ⟨Nat.le_trans hW.2.2.1.1 (by rw [e1]; exact hz), fun q z1 z2 => by rw [e1, hkk q (Nat.lt_of_lt_of_le z1 hW.2.2.1.1) (fun z => z2 (hsub q z))]; exact hW.2.2.1.2.1 q z1 z2, fun q hq => by
          rcases List.mem_append.mp hq with z | z
          · exact hW.2.2.1.2.2 q z
          · exact hsub _ (hL9 q z)⟩
        have hstk : ∀ x ∈ (rw9 a9).toList ++ st', okV S1 x := by
          intro x hx9
          rcases List.mem_append.mp hx9 with z | z
          · exact hok1 x (Option.mem_toList.mp z)
          · exact hLe.okV (hst hs x z)
        have e9 : cvL ρ' lv = cvL ρ lv := List.map_congr_left (fun q hq => by rw [cvV_congr hρ (hl q hq)])
        obtain ⟨tf, z1, z2⟩ := h2 hC1 hstk (fun q hq => hLe.okV (hl q hq)) (by omega) (by omega) (by omega) ρ' T'.heap (locs ++ L) ls ⟨by rw [e1]; exact hP1, hD1.weaken (fun k q hq z => hsub _ z), hS1', fun x hx9 => by
          rw [hρ x (hx9.imp (fun q => by omega) id)]
          exact hW.2.2.2 x hx9⟩ (by rw [e9]; exact hL) T' rfl X'
        refine ⟨tf, stp tf ?_, z2⟩
        have e8 : ((rw9 a9).toList ++ st').map (cvV ρ') = ((rw9 a9).map (cvV ρ')).toList ++ st'.map (cvV ρ) := by
          rw [List.map_append, cvV_list hρ (hst hs)]
          cases rw9 a9 <;> rfl
        rw [e8] at z1
        exact z1
    · cases w with
      | inl a9 => exact hq.elim
      | inr v9 =>
        obtain ⟨⟨rfl, ρ', hρ, rfl, hP1, hD1, hC1, hok1⟩, hz, hkk⟩ := hq
        rw [g0] at hz hkk
        rw [show S.2.2.1 - c0 + (S1.2.2.1 - S.2.2.1) = S1.2.2.1 - c0 from by omega, show S.2.2.2 - s0 + (S1.2.2.2 - S.2.2.2) = S1.2.2.2 - s0 from by omega] at X'
        have hS1' : va_S A s.heap T'.heap (locs ++ L) := ⟨Nat.le_trans hW.2.2.1.1 (by rw [e1]; exact hz), fun q z1 z2 => by rw [e1, hkk q (Nat.lt_of_lt_of_le z1 hW.2.2.1.1) (fun z => z2 (hsub q z))]; exact hW.2.2.1.2.1 q z1 z2, fun q hq => by
          rcases List.mem_append.mp hq with z | z
          · exact hW.2.2.1.2.2 q z
          · exact hsub _ (hL9 q z)⟩
        have e9 : cvL ρ' lv = cvL ρ lv := List.map_congr_left (fun q hq => by rw [cvV_congr hρ (hl q hq)])
        obtain ⟨tf, z1, z2⟩ := h2 hC1 (fun x hx9 => hLe.okV (hst hs x hx9)) (fun q hq => hLe.okV (hl q hq)) hok1 (by omega) (by omega) (by omega) ρ' T'.heap (locs ++ L) ls ⟨by rw [e1]; exact hP1, hD1.weaken (fun k q hq z => hsub _ z), hS1', fun x hx9 => by
          rw [hρ x (hx9.imp (fun q => by omega) id)]
          exact hW.2.2.2 x hx9⟩ (by rw [e9]; exact hL) ⟨ce, by rw [e1]; exact q1, q2, q3⟩ T' rfl X'
        rw [cvV_list hρ (hst hs)] at z1
        exact ⟨tf, stp.trans z1, z2⟩
end
