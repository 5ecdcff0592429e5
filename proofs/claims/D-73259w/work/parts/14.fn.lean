/-! CONTRACTS: Fn says of a method what its pure text says; entry, ends and calls -/
set_option maxRecDepth 100000
abbrev Λp {γ : Type} : γ → Sp → Dt → γ × Sp × Dt := fun a S d => (a, S, d)
abbrev Λw {γ : Type} : γ × Dt → Sp → Dt → γ × Sp × Dt := fun q S _ => (q.1, S, q.2)
abbrev Λa {γ : Type} : γ × Sp × Dt → Sp → Dt → γ × Sp × Dt := fun q _ _ => q
abbrev rvI : Int32 → Option Value := fun a => some (.int a)
abbrev rvL : Int64 → Option Value := fun a => some (.long a)
abbrev rvR : Option Nat → Option Value := fun a => some (va_rf a)
abbrev rvU : Unit → Option Value := fun _ => none
def FPre (dC : Nat → ClassId) (dI : Nat → Nat → Nat) (dA : Nat → ClassId) (oa ρ : Nat → Nat) (S : Sp) (d : Dt) (av : List Value) (sz : Nat) : Array Value → State → Prop :=
  va_Pc (av.map (cvV ρ)) (fun U => U.heap.size = sz ∧ va_P (dC, dI) mmCl (mmW dA ρ S d) U.heap ∧ va_K (dC, dI) mmCl (mmTs dA) U ∧ va_D (fun _ => True) (mmW dA ρ S d) ∧ TB oa U ∧ E0 oa (va_A (mmW dA ρ S d) sz) U U.heap)
def FPost (dC : Nat → ClassId) (dI : Nat → Nat → Nat) (dA : Nat → ClassId) (ρ : Nat → Nat) (S : Sp) (d : Dt) (sz : Nat) (w : Option Value) (S' : Sp) (d' : Dt) : Array Value → State → Outcome → State → Prop := fun _ st o t =>
  (∃ ρ' : Nat → Nat, (∀ x, okR S x → ρ' x = ρ x) ∧ o = .returned (w.map (cvV ρ')) ∧ va_P (dC, dI) mmCl (mmW dA ρ' S' d') t.heap ∧ va_D (va_A (mmW dA ρ S d) sz) (mmW dA ρ' S' d') ∧ Cl S' ∧ ∀ v, w = some v → okV S' v) ∧ va_F (va_A (mmW dA ρ S d) sz) st t
def Fn {γ δ : Type} (y : MethodName) (ws : List Cond) (fr lo : Nat) (av : List Value) (S : Sp) (d : Dt) (rv : γ → Option Value) (Λ : δ → Sp → Dt → γ × Sp × Dt) (r : Option δ) : Prop :=
  ∀ b, r = some b → Le S (Λ b S d).2.1 ∧ ((Λ b S d).2.1.1.length ≤ OPQ → Cl S → (∀ x ∈ av, okV S x) → ∀ (l : Launch), l.flags = flags0 → ∀ (dC : Nat → ClassId) (dI : Nat → Nat → Nat) (dA : Nat → ClassId) (oa ρ : Nat → Nat) (sz : Nat), (∀ k, ρ (OPQ + k) = oa k) →
    Met l y ws { frames := fr, cells := (Λ b S d).2.1.2.2.1 - S.2.2.1, slots := (Λ b S d).2.1.2.2.2 - S.2.2.2, locals := lo } (FPre dC dI dA oa ρ S d av sz) (FPost dC dI dA ρ S d sz (rv (Λ b S d).1) (Λ b S d).2.1 (Λ b S d).2.2) ((Λ b S d).2.1.2.2.1 - S.2.2.1) ((Λ b S d).2.1.2.2.2 - S.2.2.2) (va_A (mmW dA ρ S d) sz))
/-- the room of a body's calls -/
def Rm (X : CT) (fr lo : Nat) : Prop := match X with
  | none => True
  | some (_, _, _, R, _, _, _, _, _, _, _, _, _, _, _, _, _, _, _, _, _) => R.frames = fr ∧ R.locals = lo
/-- the end that a body owes -/
def Rt {γ : Type} (X : CT) (F : γ × Sp × Dt) (ret : Option FieldType) (rv : γ → Option Value) (S0 : Sp) (d0 : Dt) : Prop := match X with
  | none => True
  | some (_, _, _, _, s, _, args, below, meth, _, Q, dC, dI, dA, _, A, _, c0, s0, ρ0, n0) =>
    meth.sig.returnType = ret ∧ c0 = S0.2.2.1 ∧ s0 = S0.2.2.2 ∧ n0 = S0.1.length ∧ A = va_A (mmW dA ρ0 S0 d0) s.heap.size ∧ Q = MQ below (FPost dC dI dA ρ0 S0 d0 s.heap.size (rv F.1) F.2.1 F.2.2) args s (F.2.1.2.2.1 - S0.2.2.1) (F.2.1.2.2.2 - S0.2.2.2) A
theorem FPre.blind {dC : Nat → ClassId} {dI : Nat → Nat → Nat} {dA : Nat → ClassId} {oa ρ : Nat → Nat} {S : Sp} {d : Dt} {av : List Value} {sz : Nat} : FrameBlind (FPre dC dI dA oa ρ S d av sz) := by
  intro a U g mk q
  obtain ⟨q0, q1, qP, qK, qD, qT, qE⟩ := q
  exact ⟨q0, q1, qP, va_K.moved (u := U) (U := U.calling g mk a) (Vm.Alike.refl U.vm) qK, qD, TB.warm (s := U) (U := U.calling g mk a) (State.WarmedH.refl U) qT, E0.moved (u := U) (U := U.calling g mk a) (Vm.Alike.refl U.vm) qE⟩
theorem cvL_args (ρ : Nat → Nat) (vs : List Value) : ∀ i, cvL ρ (lv_args i vs) = lv_args i (vs.map (cvV ρ)) := by
  induction vs with
  | nil => intro i; rfl
  | cons v vs ih =>
    intro i
    show (i, cvV ρ v) :: cvL ρ (lv_args (if v.category = 2 then i + 2 else i + 1) vs) = (i, cvV ρ v) :: lv_args (if (cvV ρ v).category = 2 then i + 2 else i + 1) (vs.map (cvV ρ))
    rw [ih, cvV_cat]
theorem lv_args_mem {vs : List Value} : ∀ {i : Nat} {q : Nat × Value}, q ∈ lv_args i vs → q.2 ∈ vs := by
  induction vs with
  | nil => intro i q h; cases h
  | cons v vs ih =>
    intro i q h
    rcases List.mem_cons.mp h with e | e
    · rw [e]; exact List.mem_cons_self
    · exact List.mem_cons_of_mem _ (ih e)
theorem lg_sl_len (vs : List Value) : (lg_sl vs).length = (vs.map Value.category).sum := by
  induction vs with
  | nil => rfl
  | cons v vs ih =>
    unfold lg_sl at ih ⊢
    rw [List.flatMap_cons, List.length_append, ih, List.map_cons, List.sum_cons]
    rcases lv_cat v with h | h <;> simp [h]
theorem cat_cv (ρ : Nat → Nat) (vs : List Value) : ((vs.map (cvV ρ)).map Value.category).sum = (vs.map Value.category).sum := by
  rw [List.map_map]
  congr 1
  exact List.map_congr_left (fun v _ => cvV_cat)
theorem Fn.ofJ {γ δ : Type} {y : MethodName} {cc : ByteArray} {nL : Nat} {ret : Option FieldType} {fr lo : Nat} {av : List Value} {S : Sp} {d : Dt} {rv : γ → Option Value} {Λ : δ → Sp → Dt → γ × Sp × Dt} {r : Option δ} {own : String} {lv : List (Nat × Value)} (hy : plainName y.cls = true) (hown9 : y.cls = own) (hlen : (av.map Value.category).sum ≤ nL) (hlv : lv_args 0 av = lv)
    (hbody : ∀ (X : CT) (F : γ × Sp × Dt), Ctx X F own cc nL → Rm X fr lo → Rt X F ret rv S d → (y.name = "<init>" → XI X) → J X F Λ S d 0 lv [] r) : Fn y (ws_ y cc nL ret) fr lo av S d rv Λ r := by
  intro b hb
  refine ⟨(hbody none (Λ b S d) trivial trivial trivial (fun _ => trivial) b hb rfl).1, fun hO hC hav l hfl dC dI dA oa ρ sz hoa => ?_⟩
  subst hown9
  subst hlv
  refine Met.ofW (cc := cc) (maxL := nL) (ret := ret) hy rfl ?_
  intro p e s m args below meth c s₁ B hml hv
  obtain ⟨rfl, hsz, hP, hK, hD0, hT, hE⟩ := hv
  have hx := B.exec
  have hbb := B.bytes
  have hr := B.returns
  have hts := atoms_spec (ws := ws_ y cc nL ret) B.pre
  have hts : ∀ w ∈ lw_all, w.before _ s = true := fun w h => hts w (List.mem_cons_of_mem _ h)
  have hown : s.vm.findClass y.cls = some m.cls := findClass_of_methodNamed B.named
  have hlocks := B.notSynchronized
  subst hsz
  have hD := hD0.self (sz := s.heap.size)
  rw [lg_entry_eq]
  have hl := lv_entry (av.map (cvV ρ)) (n := nL) (by rw [lg_sl_len, cat_cv]; exact hlen)
  have h := (hbody (some (p, l, e, { frames := fr, cells := (Λ b S d).2.1.2.2.1 - S.2.2.1, slots := (Λ b S d).2.1.2.2.2 - S.2.2.2, locals := lo }, s, m, (av.map (cvV ρ)).toArray, below, meth, c, MQ below (FPost dC dI dA ρ S d s.heap.size (rv (Λ b S d).1) (Λ b S d).2.1 (Λ b S d).2.2) (av.map (cvV ρ)).toArray s ((Λ b S d).2.1.2.2.1 - S.2.2.1) ((Λ b S d).2.1.2.2.2 - S.2.2.2) (va_A (mmW dA ρ S d) s.heap.size), dC, dI, dA, oa, va_A (mmW dA ρ S d) s.heap.size, nL, S.2.2.1, S.2.2.2, ρ, S.1.length)) (Λ b S d)
    ⟨hx, hbb, ⟨hml, rfl⟩, hown, hts, hlocks, hK, hT, hE, fun q h => Or.inr h, hO, rfl, rfl, hfl, hoa⟩ ⟨rfl, rfl⟩ ⟨hr, rfl, rfl, rfl, rfl, rfl⟩ (fun hi => (name_of_methodNamed B.named B.method).1.trans hi) b hb rfl).2 hC (fun _ h => nomatch h) (fun q hq => hav _ (lv_args_mem hq)) (Nat.le_refl _) (Nat.le_refl _) (Nat.le_refl _) ρ s.heap [] _ ⟨hP, hD, va_S.rf, fun _ _ => rfl⟩ (by rw [cvL_args]; exact hl)
  rw [Nat.sub_self, Nat.sub_self] at h
  exact h
theorem Met.ofWF {l : Launch} {y : MethodName} {ws ws' : List Cond} {rm : Room} {Pc : Array Value → State → Prop} {Qc : Array Value → State → Outcome → State → Prop} {mc ms : Nat} {free : Addr → Prop} {cc : ByteArray} {maxL : Nat} {ret : Option FieldType}
    (hy : plainFor y = true) (hw : ws = Cond.code y cc maxL ret :: ws')
    (body : ∀ p e s m args below meth c s₁, BodyLoose p l y (headSpec ws rm) cc maxL ret e s m args below meth c s₁ → c.maxLocals = maxL → Pc args s →
      W p l e (headSpec ws rm).room s m args below meth c s.heap [] 0 0 (MQ below Qc args s mc ms free) (entryFrame m args maxL)) : Met l y ws rm Pc Qc mc ms free := by
  refine MetFree.of_bodySF (code := cc) (maxLocals := maxL) (ret := ret) hy ?_ ?_
  · intro args s m h hn
    obtain ⟨meth, c, h1, h2, h3, h4, h5, h6, -, -⟩ := Cond.code_spec hn (atoms_spec (ws := ws) h _ (by rw [hw]; exact List.mem_cons_self))
    exact ⟨meth, c, h1, h2, h3, h4, h5, h6⟩
  · intro p e s m args below meth c s₁ B hml hP _
    have hh0 : s₁.heap = s.heap := by rw [B.state]; rfl
    obtain ⟨t, a1, o, b1, b2, b3⟩ := body p e s m args below meth c s₁ B hml hP s₁ hh0 (Stand.of_body B)
    exact ⟨t, o, a1, b1, b2, ⟨b3.1, b3.2⟩⟩
theorem Fn.ofJF {γ δ : Type} {y : MethodName} {cc : ByteArray} {nL : Nat} {ret : Option FieldType} {fr lo : Nat} {av : List Value} {S : Sp} {d : Dt} {rv : γ → Option Value} {Λ : δ → Sp → Dt → γ × Sp × Dt} {r : Option δ} {own : String} {lv : List (Nat × Value)} (hy : plainFor y = true) (hown9 : y.cls = own) (hlen : (av.map Value.category).sum ≤ nL) (hlv : lv_args 0 av = lv)
    (hbody : ∀ (X : CT) (F : γ × Sp × Dt), Ctx X F own cc nL → Rm X fr lo → Rt X F ret rv S d → (y.name = "<init>" → XI X) → J X F Λ S d 0 lv [] r) : Fn y (ws_ y cc nL ret) fr lo av S d rv Λ r := by
  intro b hb
  refine ⟨(hbody none (Λ b S d) trivial trivial trivial (fun _ => trivial) b hb rfl).1, fun hO hC hav l hfl dC dI dA oa ρ sz hoa => ?_⟩
  subst hown9
  subst hlv
  refine Met.ofWF (cc := cc) (maxL := nL) (ret := ret) hy rfl ?_
  intro p e s m args below meth c s₁ B hml hv
  obtain ⟨rfl, hsz, hP, hK, hD0, hT, hE⟩ := hv
  have hx := B.exec
  have hbb := B.bytes
  have hr := B.returns
  have hts := atoms_spec (ws := ws_ y cc nL ret) B.pre
  have hts : ∀ w ∈ lw_all, w.before _ s = true := fun w h => hts w (List.mem_cons_of_mem _ h)
  have hown : s.vm.findClass y.cls = some m.cls := findClass_of_methodNamed B.named
  have hlocks := B.notSynchronized
  subst hsz
  have hD := hD0.self (sz := s.heap.size)
  rw [lg_entry_eq]
  have hl := lv_entry (av.map (cvV ρ)) (n := nL) (by rw [lg_sl_len, cat_cv]; exact hlen)
  have h := (hbody (some (p, l, e, { frames := fr, cells := (Λ b S d).2.1.2.2.1 - S.2.2.1, slots := (Λ b S d).2.1.2.2.2 - S.2.2.2, locals := lo }, s, m, (av.map (cvV ρ)).toArray, below, meth, c, MQ below (FPost dC dI dA ρ S d s.heap.size (rv (Λ b S d).1) (Λ b S d).2.1 (Λ b S d).2.2) (av.map (cvV ρ)).toArray s ((Λ b S d).2.1.2.2.1 - S.2.2.1) ((Λ b S d).2.1.2.2.2 - S.2.2.2) (va_A (mmW dA ρ S d) s.heap.size), dC, dI, dA, oa, va_A (mmW dA ρ S d) s.heap.size, nL, S.2.2.1, S.2.2.2, ρ, S.1.length)) (Λ b S d)
    ⟨hx, hbb, ⟨hml, rfl⟩, hown, hts, hlocks, hK, hT, hE, fun q h => Or.inr h, hO, rfl, rfl, hfl, hoa⟩ ⟨rfl, rfl⟩ ⟨hr, rfl, rfl, rfl, rfl, rfl⟩ (fun hi => (name_of_methodNamed B.named B.method).1.trans hi) b hb rfl).2 hC (fun _ h => nomatch h) (fun q hq => hav _ (lv_args_mem hq)) (Nat.le_refl _) (Nat.le_refl _) (Nat.le_refl _) ρ s.heap [] _ ⟨hP, hD, va_S.rf, fun _ _ => rfl⟩ (by rw [cvL_args]; exact hl)
  rw [Nat.sub_self, Nat.sub_self] at h
  exact h
/-! ends -/
def JRet (X : CT) (pc : Nat) (st : List Value) (w : Option Value) (ret : Option FieldType) : Prop := match X with
  | none => True
  | some (p, l, e, R, s, m, args, below, meth, c, _, _, _, _, _, _, _, _, _, _, _) => meth.sig.returnType = ret →
    ∀ (Qc : Array Value → State → Outcome → State → Prop) (free : Addr → Prop) (ρ : Nat → Nat) (H : Heap) (locs : List Loc) (ls : Array Slot) (cells slots : Nat), (∀ t : State, t.heap = H → s.WarmedH t.vm → Qc args s (.returned (w.map (cvV ρ))) t) → (∀ q ∈ locs, free q.base) → W p l e R s m args below meth c H locs cells slots (MQ below Qc args s cells slots free) (F0 m pc ls (st.map (cvV ρ)))
section
variable {α β : Type} {X : CT} {F : α × Sp × Dt} {Λ : β → Sp → Dt → α × Sp × Dt} {S S0 : Sp} {d d0 : Dt} {pc nN : Nat} {lv : List (Nat × Value)} {st : List Value} {own : String} {cc : ByteArray} {ret : Option FieldType} {rv : α → Option Value}
theorem J.fin {b : β} (hR : Rt X F ret rv S0 d0) (h2 : (Λ b S d).2 = (S, d)) (hok : (∀ x ∈ st, okV S x) → ∀ v, rv (Λ b S d).1 = some v → okV S v) (row : JRet X pc st (rv (Λ b S d).1) ret) : J X F Λ S d pc lv st (some b) := by
  intro b' hr hΛ
  cases hr
  subst hΛ
  have e1 : (Λ b S d).2.1 = S := congrArg Prod.fst h2
  have e2 : (Λ b S d).2.2 = d := congrArg Prod.snd h2
  refine ⟨by rw [e1]; exact Le.rf, ?_⟩
  obtain _ | ⟨p, l, e, R, s, m, args, below, meth, c, Q, dC, dI, dA, oa, A, nL, c0, s0, ρ0, n0⟩ := X
  · exact trivial
  obtain ⟨hr, rfl, rfl, rfl, rfl, rfl⟩ := hR
  intro hC hs hl k1 k2 k3 ρ H locs ls hW hL
  rw [e1, e2]
  exact row hr _ _ ρ H locs ls _ _ (fun t ht hwm => ⟨⟨ρ, fun x hx => hW.2.2.2 x hx, rfl, by rw [ht]; exact hW.1, hW.2.1, hC, hok hs⟩, hW.2.2.1.F ht⟩) hW.2.2.1.2.2
theorem JR_iret (G : Ctx X F own cc nN) {x : Int32} {b : β} (hR : Rt X F (some .int) rv S0 d0) (hd : decode cc pc = .ok (.ireturn, 1)) (h2 : (Λ b S d).2 = (S, d)) (h3 : rv (Λ b S d).1 = some (.int x)) : J X F Λ S d pc lv [.int x] (some b) := by
  refine J.fin hR h2 (fun _ v hv => by rw [h3] at hv; cases hv; exact okV_int) ?_
  rw [h3]
  obtain _ | ⟨p, l, e, R, s, m, args, below, meth, c, Q, dC, dI, dA, oa, A, nL, c0, s0, ρ0, n0⟩ := X
  · exact trivial
  obtain ⟨hx, hb, hml, hown, hts, hlk, hK, hT, hE, hA, hO, hRc, hRs, hfl, hoa⟩ := G
  intro hr Qc free ρ H locs ls cells slots hq hf
  exact W.iret (v := x) hx hb hr hq hf hd hlk
theorem JR_zret (G : Ctx X F own cc nN) {x : Int32} {b : β} (hR : Rt X F (some .boolean) rv S0 d0) (hd : decode cc pc = .ok (.ireturn, 1)) (hx9 : x = 0 ∨ x = 1) (h2 : (Λ b S d).2 = (S, d)) (h3 : rv (Λ b S d).1 = some (.int x)) : J X F Λ S d pc lv [.int x] (some b) := by
  refine J.fin hR h2 (fun _ v hv => by rw [h3] at hv; cases hv; exact okV_int) ?_
  rw [h3]
  obtain _ | ⟨p, l, e, R, s, m, args, below, meth, c, Q, dC, dI, dA, oa, A, nL, c0, s0, ρ0, n0⟩ := X
  · exact trivial
  obtain ⟨hx, hb, hml, hown, hts, hlk, hK, hT, hE, hA, hO, hRc, hRs, hfl, hoa⟩ := G
  intro hr Qc free ρ H locs ls cells slots hq hf
  exact W.zret (v := x) hx hb hr (by rcases hx9 with h | h <;> subst h <;> rfl) hq hf hd hlk
theorem JR_lret (G : Ctx X F own cc nN) {x : Int64} {b : β} (hR : Rt X F (some .long) rv S0 d0) (hd : decode cc pc = .ok (.lreturn, 1)) (h2 : (Λ b S d).2 = (S, d)) (h3 : rv (Λ b S d).1 = some (.long x)) : J X F Λ S d pc lv [.long x] (some b) := by
  refine J.fin hR h2 (fun _ v hv => by rw [h3] at hv; cases hv; exact okV_long) ?_
  rw [h3]
  obtain _ | ⟨p, l, e, R, s, m, args, below, meth, c, Q, dC, dI, dA, oa, A, nL, c0, s0, ρ0, n0⟩ := X
  · exact trivial
  obtain ⟨hx, hb, hml, hown, hts, hlk, hK, hT, hE, hA, hO, hRc, hRs, hfl, hoa⟩ := G
  intro hr Qc free ρ H locs ls cells slots hq hf
  exact W.lret (v := x) hx hb hr hq hf hd hlk
theorem JR_vret (G : Ctx X F own cc nN) {b : β} (hR : Rt X F none rv S0 d0) (hd : decode cc pc = .ok (.return_, 1)) (h2 : (Λ b S d).2 = (S, d)) (h3 : rv (Λ b S d).1 = none) : J X F Λ S d pc lv [] (some b) := by
  refine J.fin hR h2 (fun _ v hv => by rw [h3] at hv; cases hv) ?_
  rw [h3]
  obtain _ | ⟨p, l, e, R, s, m, args, below, meth, c, Q, dC, dI, dA, oa, A, nL, c0, s0, ρ0, n0⟩ := X
  · exact trivial
  obtain ⟨hx, hb, hml, hown, hts, hlk, hK, hT, hE, hA, hO, hRc, hRs, hfl, hoa⟩ := G
  intro hr Qc free ρ H locs ls cells slots hq hf
  exact W.vret hx hb hr hq hf hd hlk
theorem JR_aret (G : Ctx X F own cc nN) {o : Option Nat} {b : β} (hR : Rt X F ret rv S0 d0) (hret : ∃ t, ret = some t ∧ ((∃ n, t = .object n) ∨ ∃ u, t = .array u)) (hd : decode cc pc = .ok (.areturn, 1)) (h2 : (Λ b S d).2 = (S, d)) (h3 : rv (Λ b S d).1 = some (va_rf o)) : J X F Λ S d pc lv [va_rf o] (some b) := by
  refine J.fin hR h2 (fun hs v hv => by rw [h3] at hv; cases hv; exact ok_h hs) ?_
  rw [h3]
  obtain _ | ⟨p, l, e, R, s, m, args, below, meth, c, Q, dC, dI, dA, oa, A, nL, c0, s0, ρ0, n0⟩ := X
  · exact trivial
  obtain ⟨hx, hb, hml, hown, hts, hlk, hK, hT, hE, hA, hO, hRc, hRs, hfl, hoa⟩ := G
  obtain ⟨t, rfl, ht⟩ := hret
  intro hr Qc free ρ H locs ls cells slots hq hf
  exact W.aret (v := cvV ρ (va_rf o)) hx hb hr ht (by rw [cvV_rf]; cases o.map ρ with | none => exact Or.inl rfl | some a => exact Or.inr ⟨a, rfl⟩) hq hf hd hlk
/-! calls -/
def JCall (X : CT) (S : Sp) (d : Dt) (pc n : Nat) (y : MethodName) (ws : List Cond) (fr lo : Nat) (av st st' : List Value) : Prop := match X with
  | none => True
  | some (p, l, e, R, s, m, args, below, meth, c, _, dC, dI, dA, oa, A, nL, _, _, ρ0, n0) =>
    ∀ (mc ms : Nat) (Qc : Array Value → State → Outcome → State → Prop) (free : Addr → Prop) (ρ : Nat → Nat) (H : Heap) (locs : List Loc) (ls : Array Slot) (cells slots : Nat), Met l y ws { frames := fr, cells := mc, slots := ms, locals := lo } (FPre dC dI dA oa ρ S d av H.size) Qc mc ms free → cells + mc ≤ R.cells → slots + ms ≤ R.slots → Wd dC dI dA A ρ0 n0 ρ S d s H locs → ls.size = nL →
      (∀ U : State, U.heap = H → s.WarmedH U.vm → FPre dC dI dA oa ρ S d av H.size (av.map (cvV ρ)).toArray U) →
      ∀ T : State, T.heap = H → Stand p l e R s m args below meth c T locs cells slots → ∃ (v : Option Value) (st₀ t T' : State) (L : List Loc), st₀.heap = H ∧ Stand p l e R s m args below meth c T' (locs ++ L) (cells + mc) (slots + ms) ∧ (∀ q ∈ L, free q.base) ∧ T'.heap = t.heap ∧ T'.vm = t.vm ∧ Qc (av.map (cvV ρ)).toArray st₀ (.returned v) t ∧
        ∀ tg, Steps p.tables e below (T'.setTop (F0 m (pc + n) ls (v.toList ++ st'.map (cvV ρ)))) tg → Steps p.tables e below (T.setTop (F0 m pc ls (st.map (cvV ρ)))) tg
theorem J.call {γ δ : Type} {Λc : δ → Sp → Dt → γ × Sp × Dt} {rw9 : γ → Option Value} {y : MethodName} {ws : List Cond} {fr lo n : Nat} {av st' : List Value} {rc : Option δ} {kf : δ → Option β} (G : Ctx X F own cc nN) (hF : Fn y ws fr lo av S d rw9 Λc rc) (row : JCall X S d pc n y ws fr lo av st st') (hav : (∀ x ∈ st, okV S x) → ∀ x ∈ av, okV S x) (hst : (∀ x ∈ st, okV S x) → ∀ x ∈ st', okV S x)
    (hΛ' : ∀ b b', Λ b' (Λc b S d).2.1 (Λc b S d).2.2 = Λ b' S d) (hk : ∀ b, rc = some b → J X F Λ (Λc b S d).2.1 (Λc b S d).2.2 (pc + n) lv ((rw9 (Λc b S d).1).toList ++ st') (kf b)) : J X F Λ S d pc lv st (rc.bind kf) := by
  intro b0 hr hΛ
  cases hrc : rc with
  | none => rw [hrc] at hr; cases hr
  | some b =>
    rw [hrc] at hr
    obtain ⟨hLe, hM⟩ := hF b hrc
    obtain ⟨h1, h2⟩ := hk b hrc b0 hr ((hΛ' b b0).trans hΛ)
    generalize hS1 : (Λc b S d).2.1 = S1 at hLe hM h1 h2
    generalize hd1 : (Λc b S d).2.2 = d1 at hM h2
    generalize ha1 : (Λc b S d).1 = a1 at hM h2
    refine ⟨hLe.tr h1, ?_⟩
    obtain _ | ⟨p, l, e, R, s, m, args, below, meth, c, Q, dC, dI, dA, oa, A, nL, c0, s0, ρ0, n0⟩ := X
    · exact trivial
    obtain ⟨hx, hb, hml, hown, hts, hlk, hK, hT, hE, hA, hO, hRc, hRs, hfl, hoa⟩ := G
    intro hC hs hl k1 k2 k3 ρ H locs ls hW hL
    have a1' := hLe.2.1
    have a2 := hLe.2.2
    have a3 := h1.2.1
    have a4 := h1.2.2
    have a5 := hLe.len
    have a6 := h1.len
    have hρo : ∀ k, ρ (OPQ + k) = oa k := fun k => (hW.2.2.2 _ (Or.inr (Nat.le_add_right _ _))).trans (hoa k)
    have hMet := hM (by omega) hC (hav hs) l hfl dC dI dA oa ρ H.size hρo
    have hsub : ∀ q, va_A (mmW dA ρ S d) H.size q → A q := by
      intro q hq
      rcases hq with ⟨k, e9, hq⟩ | hq
      · exact hW.2.1.2 k (q, e9) hq
      · exact hA q (Nat.le_trans hW.2.2.1.1 hq)
    intro T hT9 X0
    obtain ⟨v, st₀, t, T', L, g0, X', hL9, e1, e2, ⟨⟨ρ', hρ, hv, hP1, hD1, hC1, hok1⟩, hz, hkk⟩, stp⟩ := row _ _ _ _ ρ H locs ls _ _ hMet (by omega) (by omega) hW hL.1 (fun U hU hWm => ⟨rfl, by rw [hU], by rw [hU]; exact hW.1, va_K.moved hWm.alike hK, hW.2.1.weaken (fun _ _ _ _ => trivial), TB.warm hWm hT, by
      rw [hU]
      exact E0.moved hWm.alike ((E0.kept hE (fun a ha hna => hW.2.2.1.2.1 a ha hna)).narrow hsub)⟩) T hT9 X0
    cases hv
    rw [g0] at hz hkk
    rw [show S.2.2.1 - c0 + (S1.2.2.1 - S.2.2.1) = S1.2.2.1 - c0 from by omega, show S.2.2.2 - s0 + (S1.2.2.2 - S.2.2.2) = S1.2.2.2 - s0 from by omega] at X'
    have hS1' : va_S A s.heap T'.heap (locs ++ L) := ⟨Nat.le_trans hW.2.2.1.1 (by rw [e1]; exact hz), fun q z1 z2 => by rw [e1, hkk q (Nat.lt_of_lt_of_le z1 hW.2.2.1.1) (fun z => z2 (hsub q z))]; exact hW.2.2.1.2.1 q z1 z2, fun q hq => by
      rcases List.mem_append.mp hq with z | z
      · exact hW.2.2.1.2.2 q z
      · exact hsub _ (hL9 q z)⟩
    have hstk : ∀ x ∈ (rw9 a1).toList ++ st', okV S1 x := by
      intro x hx9
      rcases List.mem_append.mp hx9 with z | z
      · exact hok1 x (Option.mem_toList.mp z)
      · exact hLe.okV (hst hs x z)
    have e9 : cvL ρ' lv = cvL ρ lv := List.map_congr_left (fun q hq => by rw [cvV_congr hρ (hl q hq)])
    obtain ⟨tf, z1, z2⟩ := h2 hC1 hstk (fun q hq => hLe.okV (hl q hq)) (by omega) (by omega) (by omega) ρ' T'.heap (locs ++ L) ls ⟨by rw [e1]; exact hP1, hD1.weaken (fun k q hq z => hsub _ z), hS1', fun x hx9 => by
      rw [hρ x (hx9.imp (fun q => by omega) id)]
      exact hW.2.2.2 x hx9⟩ (by rw [e9]; exact hL) T' rfl X'
    refine ⟨tf, stp tf ?_, z2⟩
    have e8 : ((rw9 a1).toList ++ st').map (cvV ρ') = ((rw9 a1).map (cvV ρ')).toList ++ st'.map (cvV ρ) := by
      rw [List.map_append, cvV_list hρ (hst hs)]
      cases rw9 a1 <;> rfl
    rw [e8] at z1
    exact z1
end
