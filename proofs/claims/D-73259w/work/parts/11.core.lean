/-! CORE: what holds all through a run (TB: of the tables; E0: of old cells), the judgement J, and the lift of a kit row to it -/
set_option maxRecDepth 100000
/-- words that move with a warm table by laws of their own -/
def tbW (w : Cond) : Bool := match w with
  | .castable _ _ => true
  | .fieldLinkNest .. => true
  | .methodLinkNest .. => true
  | .declares _ => true
  | _ => false
theorem tbW_warm {w : Cond} {s U : State} (hw : tbW w = true) (hW : s.WarmedH U.vm) (h : va_Nw w s) : va_Nw w U := by
  cases w <;> first | (exact va_Nw.warmC hW h) | (exact va_Nw.warmF hW h) | (exact va_Nw.warmM hW h) | (exact va_Nw.warmD hW h) | (cases hw)
/-- the literals: class, place in its pool, text, number -/
def strT : List String := ["hang", "stop", "skip", "slow", "wrong", "sleep", "board", "ticks", "cycle", "low", "watcher", "root", "under", "task", "period", "open", "close", "least", "most", "node", "after", "tick", "job", "times"]
def strB : List (List Int32) := strT.map (fun t => t.toList.map (fun c => Int32.ofNat c.toNat))
def strL : List Nat := strT.map String.length
def ldcR : List (Nat × Nat) := [(11, 266), (13, 268), (15, 270), (17, 272), (19, 274), (21, 276), (102, 231), (104, 233), (111, 239), (115, 241), (202, 298), (122, 247), (128, 249), (207, 303), (139, 251), (141, 253), (143, 255), (145, 257), (149, 259), (192, 284), (169, 261), (185, 278), (190, 283), (194, 286)]
def cN1 : String := "WatchStack$TaskNote"
def cN2 : String := "WatchStack$WatcherNote"
def TB (oa : Nat → Nat) (U : State) : Prop :=
  (∀ w ∈ lw_tbl, tbW w = true → va_Nw w U) ∧
  (∀ C ∈ (["java/lang/Object", "WatchStack$Told", "WatchStack$Rung", "WatchStack$Life", "java/lang/String", "WatchStack$TaskNote", "WatchStack$WatcherNote"] : List String), va_AO C U) ∧
  va_Fw "java/util/ArrayList" ⟨"java/util/Collection", "toArray", "()[Ljava/lang/Object;"⟩ ⟨"java/util/ArrayList", "toArray", "()[Ljava/lang/Object;"⟩ U ∧
  (∀ k : Nat, k < 24 → vk_R "WatchStack$Reader" (ldcR.getD k (0, 0)).1 (strT.getD k "") (oa k) U ∧ vk_R "WatchStackModel" (ldcR.getD k (0, 0)).2 (strT.getD k "") (oa k) U) ∧
  va_Mi "[Ljava/lang/Object;" (oa 300) U ∧ va_Dc U ∧ va_Nc cN1 cN2 U ∧ va_Nc cN2 cN1 U
theorem TB.warm {oa : Nat → Nat} {s U : State} (hW : s.WarmedH U.vm) (h : TB oa s) : TB oa U := by
  obtain ⟨h1, h2, h3, h4, h5, h6, h7, h8⟩ := h
  exact ⟨fun w hw ht => tbW_warm ht hW (h1 w hw ht), fun C hC => (h2 C hC).moved hW.alike, va_Fw.moved ⟨by decide, by decide⟩ hW.alike h3, fun k hk => ⟨vk_R.warm hW (h4 k hk).1, vk_R.warm hW (h4 k hk).2⟩, va_Mi.moved hW.alike h5, va_Dc.moved hW.alike h6, va_Nc.moved hW.alike h7, va_Nc.moved hW.alike h8⟩
abbrev tUS (v : Value) (A : Nat → Prop) (U : State) (H : Heap) : Prop := va_Z "java/lang/Throwable" "UNASSIGNED_STACK" "[Ljava/lang/StackTraceElement;" v A U H
abbrev tSS (v : Value) (A : Nat → Prop) (U : State) (H : Heap) : Prop := va_Z "java/lang/Throwable" "SUPPRESSED_SENTINEL" "Ljava/util/List;" v A U H
abbrev tSF (v : Value) (A : Nat → Prop) (U : State) (H : Heap) : Prop := va_Z "jdk/internal/util/Preconditions" "SIOOBE_FORMATTER" "Ljava/util/function/BiFunction;" v A U H
def E0 (oa : Nat → Nat) (A : Nat → Prop) (U : State) (H : Heap) : Prop :=
  vk_S 24 strL strB (fun k => oa k) (fun k => oa (100 + k)) A U H ∧ va_Z "java/lang/String" "COMPACT_STRINGS" "Z" (.int 1) A U H ∧ (tUS .null A U H ∨ tUS (.ref (oa 200)) A U H) ∧ (tSS .null A U H ∨ tSS (.ref (oa 201)) A U H) ∧
  vx_L "java/lang/Throwable" "UNASSIGNED_STACK" "[Ljava/lang/StackTraceElement;" A U H ∧ vx_L "java/lang/Throwable" "SUPPRESSED_SENTINEL" "Ljava/util/List;" A U H ∧ (tSF .null A U H ∨ tSF (.ref (oa 202)) A U H)
theorem E0.moved {oa : Nat → Nat} {A : Nat → Prop} {u U : State} {H : Heap} (hvm : u.vm.Alike U.vm) (h : E0 oa A u H) : E0 oa A U H :=
  ⟨h.1.moved hvm, h.2.1.moved hvm, h.2.2.1.imp (va_Z.moved hvm) (va_Z.moved hvm), h.2.2.2.1.imp (va_Z.moved hvm) (va_Z.moved hvm), h.2.2.2.2.1.moved hvm, h.2.2.2.2.2.1.moved hvm, h.2.2.2.2.2.2.imp (va_Z.moved hvm) (va_Z.moved hvm)⟩
theorem E0.kept {oa : Nat → Nat} {A : Nat → Prop} {U : State} {H H1 : Heap} (h : E0 oa A U H) (hq : ∀ a : Nat, a < H.size → ¬ A a → H1[a]? = H[a]?) : E0 oa A U H1 :=
  ⟨h.1.kept hq, h.2.1.kept hq, h.2.2.1.imp (fun q => q.kept hq) (fun q => q.kept hq), h.2.2.2.1.imp (fun q => q.kept hq) (fun q => q.kept hq), h.2.2.2.2.1.kept hq, h.2.2.2.2.2.1.kept hq, h.2.2.2.2.2.2.imp (fun q => q.kept hq) (fun q => q.kept hq)⟩
theorem E0.narrow {oa : Nat → Nat} {A B : Nat → Prop} {U : State} {H : Heap} (h : E0 oa A U H) (hAB : ∀ q, B q → A q) : E0 oa B U H :=
  ⟨h.1.narrow hAB, h.2.1.narrow hAB, h.2.2.1.imp (fun q => q.narrow hAB) (fun q => q.narrow hAB), h.2.2.2.1.imp (fun q => q.narrow hAB) (fun q => q.narrow hAB), h.2.2.2.2.1.narrow hAB, h.2.2.2.2.2.1.narrow hAB, h.2.2.2.2.2.2.imp (fun q => q.narrow hAB) (fun q => q.narrow hAB)⟩
/-- the array classes' numbers -/
def mmTs (dA : Nat → ClassId) : List (ClassId × FieldType) := (List.range 12).map (fun t => (dA t, mmAt t))
theorem mmTs_at {dA : Nat → ClassId} {t : Nat} (h : t < 12) : (mmTs dA)[t]? = some (dA t, mmAt t) := by
  simp [mmTs, h]
/-- all that a body's judgement is about and that stays: program, launch, environment, room, entry state, method, its arguments, the frames below, the method, its code, the end owed, the classes' numbers and field places, the array classes', the opaque addresses, the free cells, how many locals, cells and slots at the entry, the entry's addresses and how many -/
abbrev CT : Type := Option (Program × Launch × Env × Room × State × MethodId × Array Value × List Frame × Method × Code × (State → Prop) × (Nat → ClassId) × (Nat → Nat → Nat) × (Nat → ClassId) × (Nat → Nat) × (Nat → Prop) × Nat × Nat × Nat × (Nat → Nat) × Nat)
def Wd (dC : Nat → ClassId) (dI : Nat → Nat → Nat) (dA : Nat → ClassId) (A : Nat → Prop) (ρ0 : Nat → Nat) (n0 : Nat) (ρ : Nat → Nat) (S : Sp) (d : Dt) (s : State) (H : Heap) (locs : List Loc) : Prop :=
  va_P (dC, dI) mmCl (mmW dA ρ S d) H ∧ va_D A (mmW dA ρ S d) ∧ va_S A s.heap H locs ∧ (∀ x, (x < n0 ∨ OPQ ≤ x) → ρ x = ρ0 x)
def cvL (ρ : Nat → Nat) (lv : List (Nat × Value)) : List (Nat × Value) := lv.map (fun q => (q.1, cvV ρ q.2))
/-- what stays true all through a body -/
def Ctx {α : Type} (X : CT) (F : α × Sp × Dt) (own : String) (cc : ByteArray) (nL' : Nat) : Prop := match X with
  | none => True
  | some (p, l, _, R, s, m, args, _, meth, c, _, dC, dI, dA, oa, A, nL, c0, s0, ρ0, _) =>
    p.tables.exec = Jvm.exec ∧ c.code = cc ∧ (c.maxLocals = nL ∧ nL = nL') ∧ s.vm.findClass own = some m.cls ∧ (∀ w ∈ lw_all, w.before args s = true) ∧ meth.locks = false ∧ va_K (dC, dI) mmCl (mmTs dA) s ∧ TB oa s ∧ E0 oa A s s.heap ∧ (∀ q : Nat, s.heap.size ≤ q → A q) ∧
    F.2.1.1.length ≤ OPQ ∧ R.cells = F.2.1.2.2.1 - c0 ∧ R.slots = F.2.1.2.2.2 - s0 ∧ l.flags = flags0 ∧ ∀ k, ρ0 (OPQ + k) = oa k
def Jm (X : CT) (S : Sp) (d : Dt) (pc : Nat) (lv : List (Nat × Value)) (st : List Value) : Prop := match X with
  | none => True
  | some (p, l, e, R, s, m, args, below, meth, c, Q, dC, dI, dA, _, A, nL, c0, s0, ρ0, n0) =>
    Cl S → (∀ x ∈ st, okV S x) → (∀ q ∈ lv, okV S q.2) → c0 ≤ S.2.2.1 → s0 ≤ S.2.2.2 → n0 ≤ S.1.length → ∀ (ρ : Nat → Nat) (H : Heap) (locs : List Loc) (ls : Array Slot), Wd dC dI dA A ρ0 n0 ρ S d s H locs → lv_has ls nL (cvL ρ lv) →
      W p l e R s m args below meth c H locs (S.2.2.1 - c0) (S.2.2.2 - s0) Q (F0 m pc ls (st.map (cvV ρ)))
def J {α β : Type} (X : CT) (F : α × Sp × Dt) (Λ : β → Sp → Dt → α × Sp × Dt) (S : Sp) (d : Dt) (pc : Nat) (lv : List (Nat × Value)) (st : List Value) (r : Option β) : Prop :=
  ∀ b, r = some b → Λ b S d = F → Le S F.2.1 ∧ Jm X S d pc lv st
/-- a row of the machine that changes no cell -/
def JRow (X : CT) (S : Sp) (d : Dt) (pc : Nat) (lv : List (Nat × Value)) (st : List Value) (pc' : Nat) (lv' : List (Nat × Value)) (st' : List Value) : Prop := match X with
  | none => True
  | some (p, l, e, R, s, m, args, below, meth, c, Q, dC, dI, dA, _, A, nL, _, _, ρ0, n0) =>
    ∀ (ρ : Nat → Nat) (H : Heap) (locs : List Loc) (ls : Array Slot) (cells slots : Nat), Wd dC dI dA A ρ0 n0 ρ S d s H locs → lv_has ls nL (cvL ρ lv) →
      (∀ ls', lv_has ls' nL (cvL ρ lv') → W p l e R s m args below meth c H locs cells slots Q (F0 m pc' ls' (st'.map (cvV ρ)))) → W p l e R s m args below meth c H locs cells slots Q (F0 m pc ls (st.map (cvV ρ)))
/-- a row of the machine that changes cells, or makes them -/
def JChg (X : CT) (S : Sp) (d : Dt) (pc : Nat) (lv : List (Nat × Value)) (st : List Value) (S' : Sp) (d' : Dt) (pc' : Nat) (st' : List Value) : Prop := match X with
  | none => True
  | some (p, l, e, R, s, m, args, below, meth, c, Q, dC, dI, dA, _, A, nL, _, _, ρ0, n0) =>
    ∀ (ρ : Nat → Nat) (H : Heap) (locs : List Loc) (ls : Array Slot) (cells slots : Nat), Cl S → (∀ x ∈ st, okV S x) → S.1.length ≤ OPQ → S'.1.length ≤ OPQ → cells + (S'.2.2.1 - S.2.2.1) ≤ R.cells → slots + (S'.2.2.2 - S.2.2.2) ≤ R.slots → Wd dC dI dA A ρ0 n0 ρ S d s H locs → lv_has ls nL (cvL ρ lv) →
      (∀ (ρ' : Nat → Nat) (H' : Heap) (locs' : List Loc), (∀ t, okR S t → ρ' t = ρ t) → va_P (dC, dI) mmCl (mmW dA ρ' S' d') H' → va_D A (mmW dA ρ' S' d') → va_S A s.heap H' locs' →
        W p l e R s m args below meth c H' locs' (cells + (S'.2.2.1 - S.2.2.1)) (slots + (S'.2.2.2 - S.2.2.2)) Q (F0 m pc' ls (st'.map (cvV ρ')))) →
      W p l e R s m args below meth c H locs cells slots Q (F0 m pc ls (st.map (cvV ρ)))
section
variable {α β : Type} {X : CT} {F : α × Sp × Dt} {Λ : β → Sp → Dt → α × Sp × Dt} {S S' : Sp} {d d' : Dt} {pc pc' nL' : Nat} {lv lv' : List (Nat × Value)} {st st' : List Value} {r : Option β} {own : String} {cc : ByteArray}
theorem J.lift (hok : Cl S → (∀ x ∈ st, okV S x) → (∀ q ∈ lv, okV S q.2) → ∀ x ∈ st', okV S x) (hlo : (∀ x ∈ st, okV S x) → (∀ q ∈ lv, okV S q.2) → ∀ q ∈ lv', okV S q.2) (row : JRow X S d pc lv st pc' lv' st') (hk : J X F Λ S d pc' lv' st' r) : J X F Λ S d pc lv st r := by
  intro b hr hΛ
  obtain ⟨h1, h2⟩ := hk b hr hΛ
  refine ⟨h1, ?_⟩
  obtain _ | ⟨p, l, e, R, s, m, args, below, meth, c, Q, dC, dI, dA, oa, A, nL, c0, s0, ρ0, n0⟩ := X
  · exact trivial
  · exact fun hC hs hl k1 k2 k3 ρ H locs ls hW hL => row ρ H locs ls _ _ hW hL (fun ls' hL' => h2 hC (hok hC hs hl) (hlo hs hl) k1 k2 k3 ρ H locs ls' hW hL')
theorem J.chg (G : Ctx X F own cc nL') (hΛ' : ∀ b, Λ b S' d' = Λ b S d) (hle : Le S S') (hcl : Cl S → (∀ x ∈ st, okV S x) → Cl S') (hok : Cl S → (∀ x ∈ st, okV S x) → ∀ x ∈ st', okV S' x) (row : JChg X S d pc lv st S' d' pc' st') (hk : J X F Λ S' d' pc' lv st' r) : J X F Λ S d pc lv st r := by
  intro b hr hΛ
  obtain ⟨h1, h2⟩ := hk b hr ((hΛ' b).trans hΛ)
  refine ⟨hle.tr h1, ?_⟩
  obtain _ | ⟨p, l, e, R, s, m, args, below, meth, c, Q, dC, dI, dA, oa, A, nL, c0, s0, ρ0, n0⟩ := X
  · exact trivial
  obtain ⟨hx, hb, hml, hown, hts, hlk, hK, hT, hE, hA, hO, hRc, hRs, hfl, hoa⟩ := G
  intro hC hs hl k1 k2 k3 ρ H locs ls hW hL
  have a1 := hle.2.1
  have a2 := hle.2.2
  have a3 := h1.2.1
  have a4 := h1.2.2
  have a5 := hle.len
  have a6 := h1.len
  refine row ρ H locs ls _ _ hC hs (by omega) (by omega) (by omega) (by omega) hW hL (fun ρ' H' locs' hρ w1 w2 w3 => ?_)
  rw [show S.2.2.1 - c0 + (S'.2.2.1 - S.2.2.1) = S'.2.2.1 - c0 from by omega, show S.2.2.2 - s0 + (S'.2.2.2 - S.2.2.2) = S'.2.2.2 - s0 from by omega]
  refine h2 (hcl hC hs) (hok hC hs) (fun q hq => hle.okV (hl q hq)) (by omega) (by omega) (by omega) ρ' H' locs' ls ⟨w1, w2, w3, fun x hx => ?_⟩ ?_
  · rw [hρ x (hx.imp (fun q => by omega) id)]
    exact hW.2.2.2 x hx
  · have e : cvL ρ' lv = cvL ρ lv := List.map_congr_left (fun q hq => by rw [cvV_congr hρ (hl q hq)])
    rw [e]
    exact hL
/-- a guard of the pure text -/
theorem J_bd {γ : Type} {g : Option γ} {f : γ → Option β} (hk : ∀ v, g = some v → J X F Λ S d pc lv st (f v)) : J X F Λ S d pc lv st (g.bind f) := by
  intro b hr
  cases hg : g with
  | none => rw [hg] at hr; cases hr
  | some v => rw [hg] at hr; exact hk v hg b hr
theorem J_no : J X F Λ S d pc lv st (none : Option β) := by
  intro b hr
  cases hr
theorem J_if {cd : Prop} [Decidable cd] {r1 r2 : Option β} (h1 : cd → J X F Λ S d pc lv st r1) (h2 : ¬ cd → J X F Λ S d pc lv st r2) : J X F Λ S d pc lv st (if cd then r1 else r2) := by
  by_cases h : cd
  · rw [if_pos h]; exact h1 h
  · rw [if_neg h]; exact h2 h
theorem J_eq {r' : Option β} (h : r = r') (hk : J X F Λ S d pc lv st r') : J X F Λ S d pc lv st r := h ▸ hk
/-- a computed number gets a name -/
theorem J_nm {x : Int32} {f : Int32 → Option β} (hk : ∀ y, y = x → J X F Λ S d pc lv (.int y :: st) (f y)) : J X F Λ S d pc lv (.int x :: st) ((some x).bind f) := hk x rfl
/-- branches -/
def JBr (X : CT) (pc : Nat) (st : List Value) (cd : Prop) (pt pf : Nat) (st' : List Value) : Prop := match X with
  | none => True
  | some (p, l, e, R, s, m, args, below, meth, c, Q, _, _, _, _, _, _, _, _, _, _) =>
    ∀ (ρ : Nat → Nat) (H : Heap) (locs : List Loc) (ls : Array Slot) (cells slots : Nat),
      (cd → W p l e R s m args below meth c H locs cells slots Q (F0 m pt ls (st'.map (cvV ρ)))) → (¬ cd → W p l e R s m args below meth c H locs cells slots Q (F0 m pf ls (st'.map (cvV ρ)))) → W p l e R s m args below meth c H locs cells slots Q (F0 m pc ls (st.map (cvV ρ)))
theorem J.br {cd : Prop} [Decidable cd] {r1 r2 : Option β} {pt pf : Nat} (hok : (∀ x ∈ st, okV S x) → ∀ x ∈ st', okV S x) (row : JBr X pc st cd pt pf st') (h1 : cd → J X F Λ S d pt lv st' r1) (h2 : ¬ cd → J X F Λ S d pf lv st' r2) : J X F Λ S d pc lv st (if cd then r1 else r2) := by
  intro b hr hΛ
  by_cases h : cd
  · rw [if_pos h] at hr
    obtain ⟨g1, g2⟩ := h1 h b hr hΛ
    refine ⟨g1, ?_⟩
    obtain _ | ⟨p, l, e, R, s, m, args, below, meth, c, Q, dC, dI, dA, oa, A, nL, c0, s0, ρ0, n0⟩ := X
    · exact trivial
    · exact fun hC hs hl k1 k2 k3 ρ H locs ls hW hL => row ρ H locs ls _ _ (fun _ => g2 hC (hok hs) hl k1 k2 k3 ρ H locs ls hW hL) (fun q => absurd h q)
  · rw [if_neg h] at hr
    obtain ⟨g1, g2⟩ := h2 h b hr hΛ
    refine ⟨g1, ?_⟩
    obtain _ | ⟨p, l, e, R, s, m, args, below, meth, c, Q, dC, dI, dA, oa, A, nL, c0, s0, ρ0, n0⟩ := X
    · exact trivial
    · exact fun hC hs hl k1 k2 k3 ρ H locs ls hW hL => row ρ H locs ls _ _ (fun q => absurd q h) (fun _ => g2 hC (hok hs) hl k1 k2 k3 ρ H locs ls hW hL)
end
/-! the stack's and the locals' references are of this memory -/
theorem ok_i {S : Sp} {st : List Value} {x : Int32} (h : ∀ v ∈ st, okV S v) : ∀ v ∈ Value.int x :: st, okV S v := List.forall_mem_cons.mpr ⟨okV_int, h⟩
theorem ok_l {S : Sp} {st : List Value} {x : Int64} (h : ∀ v ∈ st, okV S v) : ∀ v ∈ Value.long x :: st, okV S v := List.forall_mem_cons.mpr ⟨okV_long, h⟩
theorem ok_f {S : Sp} {st : List Value} {x : UInt32} (h : ∀ v ∈ st, okV S v) : ∀ v ∈ Value.float x :: st, okV S v := List.forall_mem_cons.mpr ⟨okV_float, h⟩
theorem ok_d {S : Sp} {st : List Value} {x : UInt64} (h : ∀ v ∈ st, okV S v) : ∀ v ∈ Value.double x :: st, okV S v := List.forall_mem_cons.mpr ⟨okV_double, h⟩
theorem ok_r {S : Sp} {st : List Value} {o : Option Nat} (ho : okO S o) (h : ∀ v ∈ st, okV S v) : ∀ v ∈ va_rf o :: st, okV S v := List.forall_mem_cons.mpr ⟨okV_rf.mpr ho, h⟩
theorem ok_t {S : Sp} {st : List Value} {x : Value} (h : ∀ v ∈ x :: st, okV S v) : ∀ v ∈ st, okV S v := fun v hv => h v (List.mem_cons_of_mem _ hv)
theorem ok_h {S : Sp} {st : List Value} {x : Value} (h : ∀ v ∈ x :: st, okV S v) : okV S x := h x List.mem_cons_self
theorem ok_ho {S : Sp} {st : List Value} {o : Option Nat} (h : ∀ v ∈ va_rf o :: st, okV S v) : okO S o := okV_rf.mp (ok_h h)
/-- a local by its number -/
def lvG (lv : List (Nat × Value)) (i : Nat) : Option Value := match lv with
  | [] => none
  | q :: l => if q.1 = i then some q.2 else lvG l i
theorem lvG_mem {lv : List (Nat × Value)} {i : Nat} {v : Value} (h : lvG lv i = some v) : (i, v) ∈ lv := by
  induction lv with
  | nil => cases h
  | cons q l ih =>
    unfold lvG at h
    split at h
    · rename_i hq
      cases h
      rw [← hq]
      exact List.mem_cons_self
    · exact List.mem_cons_of_mem _ (ih h)
theorem lvG_has {lv : List (Nat × Value)} {i nL : Nat} {v : Value} {ρ : Nat → Nat} {ls : Array Slot} (h : lvG lv i = some v) (hl : lv_has ls nL (cvL ρ lv)) : ls[i]? = some (.val (cvV ρ v)) :=
  hl.2.2 (i, cvV ρ v) (List.mem_map.mpr ⟨_, lvG_mem h, rfl⟩)
/-- the locals with one of one word written -/
def lvS (lv : List (Nat × Value)) (i : Nat) (v : Value) : List (Nat × Value) := (i, v) :: lv.filter (fun q => !(q.1 == i) && !(q.1 + 1 == i && q.2.category == 2))
theorem cvV_cat {ρ : Nat → Nat} {v : Value} : (cvV ρ v).category = v.category := by cases v <;> rfl
theorem cvL_set {ρ : Nat → Nat} {lv : List (Nat × Value)} {i : Nat} {v : Value} : cvL ρ (lvS lv i v) = (i, cvV ρ v) :: (cvL ρ lv).filter (fun q => !(q.1 == i) && !(q.1 + 1 == i && q.2.category == 2)) := by
  unfold cvL lvS
  rw [List.map_cons, List.filter_map]
  simp [Function.comp_def, cvV_cat]
theorem lvS_ok {S : Sp} {lv : List (Nat × Value)} {i : Nat} {v : Value} (hv : okV S v) (h : ∀ q ∈ lv, okV S q.2) : ∀ q ∈ lvS lv i v, okV S q.2 := by
  intro q hq
  rcases List.mem_cons.mp hq with e | e
  · rw [e]; exact hv
  · exact h q (List.mem_filter.mp e).1
theorem rf_cat (o : Option Nat) : (va_rf o).category = 1 := by cases o <;> rfl
