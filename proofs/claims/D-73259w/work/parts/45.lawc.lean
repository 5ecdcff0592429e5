/-! THE LAW's OWN WALK: two memories, the component's and the model's, side by side; a call into one of them -/
set_option maxRecDepth 100000
abbrev lwA (s : State) : Nat → Prop := fun q => s.heap.size ≤ q
/-- what holds of the start, once and for all -/
def LB (dC : Nat → ClassId) (dI : Nat → Nat → Nat) (dA : Nat → ClassId) (oa : Nat → Nat) (s : State) : Prop := va_K (dC, dI) mmCl (mmTs dA) s ∧ TB oa s ∧ E0 oa (lwA s) s s.heap
/-- a memory of the law's: its cells stand in the heap -/
def LM (dC : Nat → ClassId) (dI : Nat → Nat → Nat) (dA : Nat → ClassId) (oa : Nat → Nat) (s : State) (ρ : Nat → Nat) (S : Sp) (d : Dt) (H : Heap) : Prop :=
  va_P (dC, dI) mmCl (mmW dA ρ S d) H ∧ va_D (lwA s) (mmW dA ρ S d) ∧ Cl S ∧ (∀ k, ρ (OPQ + k) = oa k) ∧ 0 < S.1.length
/-- a memory that may be empty -/
def LM0 (dC : Nat → ClassId) (dI : Nat → Nat → Nat) (dA : Nat → ClassId) (oa : Nat → Nat) (s : State) (ρ : Nat → Nat) (S : Sp) (d : Dt) (H : Heap) : Prop :=
  va_P (dC, dI) mmCl (mmW dA ρ S d) H ∧ va_D (lwA s) (mmW dA ρ S d) ∧ Cl S ∧ ∀ k, ρ (OPQ + k) = oa k
theorem LM.o {dC : Nat → ClassId} {dI : Nat → Nat → Nat} {dA : Nat → ClassId} {oa : Nat → Nat} {s : State} {ρ : Nat → Nat} {S : Sp} {d : Dt} {H : Heap} (h : LM dC dI dA oa s ρ S d H) : LM0 dC dI dA oa s ρ S d H := ⟨h.1, h.2.1, h.2.2.1, h.2.2.2.1⟩
theorem LM0.m {dC : Nat → ClassId} {dI : Nat → Nat → Nat} {dA : Nat → ClassId} {oa : Nat → Nat} {s : State} {ρ : Nat → Nat} {S : Sp} {d : Dt} {H : Heap} (h : LM0 dC dI dA oa s ρ S d H) (hn : 0 < S.1.length) : LM dC dI dA oa s ρ S d H := ⟨h.1, h.2.1, h.2.2.1, h.2.2.2, hn⟩
/-- two worlds have no cell in common -/
def LX (w1 w2 : va_W) : Prop := ∀ (i j : Nat) (a : Nat) (e1 e2 : va_E), w1[i]? = some (a, e1) → w2[j]? = some (a, e2) → False
theorem LX.symm {w1 w2 : va_W} (h : LX w1 w2) : LX w2 w1 := fun i j a e1 e2 h1 h2 => h j i a e2 e1 h2 h1
theorem va_P_lt {D : va_G} {cl : List vw_C} {ws : va_W} {H : Heap} (h : va_P D cl ws H) {k : Nat} {q : Nat × va_E} (hk : ws[k]? = some q) : q.1 < H.size := by
  have h8 := h k q hk
  obtain ⟨a8, E8⟩ := q
  obtain E8 | E8 := E8
  · have h8 : H[a8]? = some (vp_cell E8.1 E8.2) := h8
    exact (Array.getElem?_eq_some_iff.mp h8).1
  · obtain ⟨_, _, cl8, h8, _⟩ := h8
    exact (Array.getElem?_eq_some_iff.mp h8).1
section
variable {p : Program} {l : Launch} {e : Env} {s : State} {m : MethodId} {below : List Frame} {meth : Method} {c : Code} {dC : Nat → ClassId} {dI : Nat → Nat → Nat} {dA : Nat → ClassId} {oa : Nat → Nat} {b : Nat} {Q : State → Prop}
/-- the law's place in the judgement of the methods: for its call rows -/
abbrev lwX (p : Program) (l : Launch) (e : Env) (s : State) (m : MethodId) (below : List Frame) (meth : Method) (c : Code) (Q : State → Prop) (dC : Nat → ClassId) (dI : Nat → Nat → Nat) (dA : Nat → ClassId) (oa : Nat → Nat) (b : Nat) : CT :=
  some (p, l, e, room_1, s, m, #[Value.ref b], below, meth, c, Q, dC, dI, dA, oa, lwA s, 4, 0, 0, fun x => oa (x - OPQ), 0)
abbrev lwF : Unit × Sp × Dt := ((), ([], fun _ _ => none, 1136687, 5675420), (fun _ _ => 0, fun _ _ => 0, fun _ _ => 0))
theorem lw_Rm : Rm (lwX p l e s m below meth c Q dC dI dA oa b) 8192 104096 := ⟨rfl, rfl⟩
theorem lw_G {L : Nat} {xs : Nat → Int32} (hfl : l.flags = flags0) (C0 : lw_At p s m meth c b L xs) (hB : LB dC dI dA oa s) : Ctx (lwX p l e s m below meth c Q dC dI dA oa b) lwF R_law code 4 := by
  obtain ⟨hx, hb, hr, hml, hown, hts, hX, hbl, hlk, hgv⟩ := C0
  obtain ⟨hK, hT, hE⟩ := hB
  exact ⟨hx, hb, ⟨hml, rfl⟩, hown, fun w hw => hts w (List.mem_filter.mp hw).1, hlk, hK, hT, hE, fun q h => h, Nat.zero_le _, rfl, rfl, hfl, fun k => by show oa (OPQ + k - OPQ) = oa k; rw [Nat.add_sub_cancel_left]⟩
/-- a call into the memory a; the memory b stands aside -/
theorem lw_call0 {γ δ : Type} {L : Nat} {xs : Nat → Int32} (hfl : l.flags = flags0) (C0 : lw_At p s m meth c b L xs) (hB : LB dC dI dA oa s) {y : MethodName} {ws : List Cond} {fr lo pc : Nat} {av st st' : List Value} {Sa Sb : Sp} {da db : Dt} {ρa ρb : Nat → Nat} {rv : γ → Option Value} {Λ : δ → Sp → Dt → γ × Sp × Dt} {r : Option δ} {β : δ} (hF : Fn y ws fr lo av Sa da rv Λ r) (hr : r = some β)
    (row : JCall (lwX p l e s m below meth c Q dC dI dA oa b) Sa da pc 3 y ws fr lo av st st') (hav : ∀ x ∈ av, okV Sa x) (hst : ∀ x ∈ st', okV Sa x) {H : Heap} {locs : List Loc} {ls : Array Slot} (hMa : LM dC dI dA oa s ρa Sa da H) (hMb : LM0 dC dI dA oa s ρb Sb db H) (hX9 : LX (mmW dA ρa Sa da) (mmW dA ρb Sb db)) (hS : va_S (lwA s) s.heap H locs) (hls : ls.size = 4)
    (hO : (Λ β Sa da).2.1.1.length ≤ OPQ) (hc1 : (Λ β Sa da).2.1.2.2.1 + Sb.2.2.1 ≤ 1136687) (hc2 : (Λ β Sa da).2.1.2.2.2 + Sb.2.2.2 ≤ 5675420)
    (kk : ∀ (ρ' : Nat → Nat) (H' : Heap) (locs' : List Loc), (∀ x, okR Sa x → ρ' x = ρa x) → LM dC dI dA oa s ρ' (Λ β Sa da).2.1 (Λ β Sa da).2.2 H' → LM0 dC dI dA oa s ρb Sb db H' → LX (mmW dA ρ' (Λ β Sa da).2.1 (Λ β Sa da).2.2) (mmW dA ρb Sb db) → va_S (lwA s) s.heap H' locs' →
      W p l e room_1 s m #[Value.ref b] below meth c H' locs' ((Λ β Sa da).2.1.2.2.1 + Sb.2.2.1) ((Λ β Sa da).2.1.2.2.2 + Sb.2.2.2) Q (F0 m (pc + 3) ls (((rv (Λ β Sa da).1).map (cvV ρ')).toList ++ st'.map (cvV ρa)))) :
    W p l e room_1 s m #[Value.ref b] below meth c H locs (Sa.2.2.1 + Sb.2.2.1) (Sa.2.2.2 + Sb.2.2.2) Q (F0 m pc ls (st.map (cvV ρa))) := by
  obtain ⟨hLe, hM⟩ := hF β hr
  obtain ⟨hPa, hDa, hCa, hρa, hna⟩ := hMa
  obtain ⟨hPb, hDb, hCb, hρb⟩ := hMb
  have hMet := hM hO hCa hav l hfl dC dI dA oa ρa H.size hρa
  have a1 := hLe.2.1
  have a2 := hLe.2.2
  obtain ⟨hK, hT, hE⟩ := hB
  have hsub : ∀ q, va_A (mmW dA ρa Sa da) H.size q → lwA s q := by
    intro q hq
    rcases hq with ⟨k, e9, hq⟩ | hq
    · exact hDa.2 k (q, e9) hq
    · exact Nat.le_trans hS.1 hq
  intro T hT9 X0
  obtain ⟨v, st₀, t, T', L9, g0, X', hL9, e1, e2, hq, stp⟩ := row _ _ _ _ ρa H locs ls _ _ hMet (by show _ ≤ 1136687; omega) (by show _ ≤ 5675420; omega) ⟨hPa, hDa, hS, fun x hx => by
      rcases hx with hx | hx
      · exact absurd hx (Nat.not_lt_zero _)
      · have h9 := hρa (x - OPQ)
        rw [Nat.add_sub_cancel' hx] at h9
        exact h9⟩ hls (fun U hU hWm => ⟨rfl, by rw [hU], by rw [hU]; exact hPa, va_K.moved hWm.alike hK, hDa.weaken (fun _ _ _ _ => trivial), TB.warm hWm hT, by
      rw [hU]
      exact E0.moved hWm.alike ((E0.kept hE (fun a ha hna => hS.2.1 a ha hna)).narrow hsub)⟩) T hT9 X0
  obtain ⟨⟨ρ', hρ, hv, hP1, hD1, hC1, hok1⟩, hz, hkk⟩ := hq
  cases hv
  rw [g0] at hz hkk
  have hS1 : va_S (lwA s) s.heap T'.heap (locs ++ L9) := ⟨Nat.le_trans hS.1 (by rw [e1]; exact hz), fun q z1 z2 => by rw [e1, hkk q (Nat.lt_of_lt_of_le z1 hS.1) (fun z => z2 (hsub q z))]; exact hS.2.1 q z1 z2, fun q hq => by
    rcases List.mem_append.mp hq with z | z
    · exact hS.2.2 q z
    · exact hsub _ (hL9 q z)⟩
  have hPb' : va_P (dC, dI) mmCl (mmW dA ρb Sb db) T'.heap := by
    rw [e1]
    refine hPb.kept (fun k q hk => hkk q.1 (va_P_lt hPb hk) (fun z => ?_))
    rcases z with ⟨k2, e8, z⟩ | z
    · exact hX9 k2 k q.1 e8 q.2 z hk
    · exact absurd (va_P_lt hPb hk) (Nat.not_lt.mpr z)
  have hX1 : LX (mmW dA ρ' (Λ β Sa da).2.1 (Λ β Sa da).2.2) (mmW dA ρb Sb db) := by
    intro i j a f1 f2 z1 z2
    have h9 := hD1.2 i (a, f1) z1
    rcases h9 with ⟨k2, e8, z⟩ | z
    · exact hX9 k2 j a e8 f2 z z2
    · exact absurd (va_P_lt hPb z2) (Nat.not_lt.mpr z)
  have hlen := hLe.len
  have h5 := kk ρ' T'.heap (locs ++ L9) hρ ⟨by rw [e1]; exact hP1, hD1.weaken (fun k q hq z => hsub _ z), hC1, fun k => by rw [hρ _ (Or.inr (Nat.le_add_right _ _))]; exact hρa k, Nat.lt_of_lt_of_le hna hlen⟩ ⟨hPb', hDb, hCb, hρb⟩ hX1 hS1
  rw [show Sa.2.2.1 + Sb.2.2.1 + ((Λ β Sa da).2.1.2.2.1 - Sa.2.2.1) = (Λ β Sa da).2.1.2.2.1 + Sb.2.2.1 from by omega, show Sa.2.2.2 + Sb.2.2.2 + ((Λ β Sa da).2.1.2.2.2 - Sa.2.2.2) = (Λ β Sa da).2.1.2.2.2 + Sb.2.2.2 from by omega] at X'
  obtain ⟨tf, z1, z2⟩ := h5 T' rfl X'
  exact ⟨tf, stp tf z1, z2⟩
/-- a call into the memory a; the memory b stands aside -/
theorem lw_call {γ δ : Type} {L : Nat} {xs : Nat → Int32} (hfl : l.flags = flags0) (C0 : lw_At p s m meth c b L xs) (hB : LB dC dI dA oa s) {y : MethodName} {ws : List Cond} {fr lo pc : Nat} {av st st' : List Value} {Sa Sb : Sp} {da db : Dt} {ρa ρb : Nat → Nat} {rv : γ → Option Value} {Λ : δ → Sp → Dt → γ × Sp × Dt} {r : Option δ} {β : δ} (hF : Fn y ws fr lo av Sa da rv Λ r) (hr : r = some β)
    (row : JCall (lwX p l e s m below meth c Q dC dI dA oa b) Sa da pc 3 y ws fr lo av st st') (hav : ∀ x ∈ av, okV Sa x) (hst : ∀ x ∈ st', okV Sa x) {H : Heap} {locs : List Loc} {ls : Array Slot} (hMa : LM dC dI dA oa s ρa Sa da H) (hMb : LM dC dI dA oa s ρb Sb db H) (hX9 : LX (mmW dA ρa Sa da) (mmW dA ρb Sb db)) (hS : va_S (lwA s) s.heap H locs) (hls : ls.size = 4)
    (hO : (Λ β Sa da).2.1.1.length ≤ OPQ) (hc1 : (Λ β Sa da).2.1.2.2.1 + Sb.2.2.1 ≤ 1136687) (hc2 : (Λ β Sa da).2.1.2.2.2 + Sb.2.2.2 ≤ 5675420)
    (kk : ∀ (ρ' : Nat → Nat) (H' : Heap) (locs' : List Loc), (∀ x, okR Sa x → ρ' x = ρa x) → LM dC dI dA oa s ρ' (Λ β Sa da).2.1 (Λ β Sa da).2.2 H' → LM dC dI dA oa s ρb Sb db H' → LX (mmW dA ρ' (Λ β Sa da).2.1 (Λ β Sa da).2.2) (mmW dA ρb Sb db) → va_S (lwA s) s.heap H' locs' →
      W p l e room_1 s m #[Value.ref b] below meth c H' locs' ((Λ β Sa da).2.1.2.2.1 + Sb.2.2.1) ((Λ β Sa da).2.1.2.2.2 + Sb.2.2.2) Q (F0 m (pc + 3) ls (((rv (Λ β Sa da).1).map (cvV ρ')).toList ++ st'.map (cvV ρa)))) :
    W p l e room_1 s m #[Value.ref b] below meth c H locs (Sa.2.2.1 + Sb.2.2.1) (Sa.2.2.2 + Sb.2.2.2) Q (F0 m pc ls (st.map (cvV ρa))) :=
  lw_call0 hfl C0 hB hF hr row hav hst hMa hMb.o hX9 hS hls hO hc1 hc2 (fun ρ' H' locs' z0 z1 z2 z3 z4 => kk ρ' H' locs' z0 z1 (z2.m hMb.2.2.2.2) z3 z4)
/-- a new object in the memory a -/
theorem lw_new {L : Nat} {xs : Nat → Int32} (C0 : lw_At p s m meth c b L xs) (hB : LB dC dI dA oa s) {C : String} {Tt : u_T} {N cn idx pc : Nat} (hc : mmCl[cn]? = some (C, Tt, N)) (hin : ∀ w ∈ u_ws C Tt N, w ∈ lw_all) (hty : ∀ k, k < N → parseFieldDescriptor (Tt k).2.2.1 = some (mmTy cn k)) (hr9 : ¬ (50 ≤ cn ∧ cn ≤ 5)) (hlg : ∀ k, k < N → mmTy cn k ≠ .long) (hcl : Cond.classLink R_law idx C ∈ lw_all) (hinst : Cond.instantiable C N ∈ lw_all) (hini : Cond.initialized C ∈ lw_all) (hd : decode code pc = .ok (.new idx, 3))
    {Sa Sb : Sp} {da db : Dt} {ρa ρb : Nat → Nat} {H : Heap} {locs : List Loc} {ls : Array Slot} {st : List Value} (hMa : LM0 dC dI dA oa s ρa Sa da H) (hMb : LM0 dC dI dA oa s ρb Sb db H) (hX9 : LX (mmW dA ρa Sa da) (mmW dA ρb Sb db)) (hS : va_S (lwA s) s.heap H locs) (hn9 : Sa.1.length < OPQ) (hc1 : Sa.2.2.1 + Sb.2.2.1 + 1 ≤ 1136687) (hc2 : Sa.2.2.2 + Sb.2.2.2 + N ≤ 5675420)
    (kk : ∀ (ρ' : Nat → Nat) (H' : Heap), (∀ x, okR Sa x → ρ' x = ρa x) → LM dC dI dA oa s ρ' (mmNew Sa (cn, 0) N) (mmNewD Sa da) H' → LM0 dC dI dA oa s ρb Sb db H' → LX (mmW dA ρ' (mmNew Sa (cn, 0) N) (mmNewD Sa da)) (mmW dA ρb Sb db) → va_S (lwA s) s.heap H' locs →
      W p l e room_1 s m #[Value.ref b] below meth c H' locs (Sa.2.2.1 + Sb.2.2.1 + 1) (Sa.2.2.2 + Sb.2.2.2 + N) Q (F0 m (pc + 3) ls (.ref (ρ' Sa.1.length) :: st))) :
    W p l e room_1 s m #[Value.ref b] below meth c H locs (Sa.2.2.1 + Sb.2.2.1) (Sa.2.2.2 + Sb.2.2.2) Q (F0 m pc ls st) := by
  obtain ⟨hx, hb, hr, hml, hown, hts0, hX, hbl, hlk, hgv⟩ := C0
  have hts : ∀ w ∈ lw_all, w.before #[Value.ref b] s = true := fun w hw => hts0 w (List.mem_filter.mp hw).1
  obtain ⟨hK, hT, hE⟩ := hB
  obtain ⟨hPa, hDa, hCa, hρa⟩ := hMa
  obtain ⟨hPb, hDb, hCb, hρb⟩ := hMb
  obtain ⟨hc91, hc92⟩ := mm_cl hc
  have hA : ∀ q : Nat, s.heap.size ≤ q → lwA s q := fun _ h => h
  have hjP : va_P (dC, dI) mmCl (mmW dA ρa Sa da ++ mmW dA ρb Sb db) H := hPa.app hPb
  have hjD : va_D (lwA s) (mmW dA ρa Sa da ++ mmW dA ρb Sb db) := by
    refine ⟨fun i j u v hi hj he => ?_, fun k q hk => ?_⟩
    · by_cases h1 : i < (mmW dA ρa Sa da).length <;> by_cases h2 : j < (mmW dA ρa Sa da).length
      · rw [List.getElem?_append_left h1] at hi
        rw [List.getElem?_append_left h2] at hj
        exact hDa.1 i j u v hi hj he
      · rw [List.getElem?_append_left h1] at hi
        rw [List.getElem?_append_right (Nat.not_lt.mp h2)] at hj
        obtain ⟨u1, u2⟩ := u
        obtain ⟨v1, v2⟩ := v
        dsimp only at he
        subst he
        exact (hX9 _ _ _ _ _ hi hj).elim
      · rw [List.getElem?_append_right (Nat.not_lt.mp h1)] at hi
        rw [List.getElem?_append_left h2] at hj
        obtain ⟨u1, u2⟩ := u
        obtain ⟨v1, v2⟩ := v
        dsimp only at he
        subst he
        exact (hX9 _ _ _ _ _ hj hi).elim
      · rw [List.getElem?_append_right (Nat.not_lt.mp h1)] at hi
        rw [List.getElem?_append_right (Nat.not_lt.mp h2)] at hj
        have h9 := hDb.1 _ _ u v hi hj he
        omega
    · by_cases h1 : k < (mmW dA ρa Sa da).length
      · rw [List.getElem?_append_left h1] at hk
        exact hDa.2 k q hk
      · rw [List.getElem?_append_right (Nat.not_lt.mp h1)] at hk
        exact hDb.2 _ q hk
  refine va_new (D := (dC, dI)) (fs := (List.range N).map (fun j => defaultValue (mmTy cn j))) hx hb hts hin (mmTy cn) hty hown (hts _ hcl) (hts _ hinst) (hts _ hini) hK hjP hjD hS hA hc (fun j hj => by simp [vp_V, hj]) hc1 hc2 hd (fun q H1 g1 g2 g3 => ?_)
  have hEq : mmE dA (mmRho Sa ρa q) (mmNew Sa (cn, 0) N) (mmNewD Sa da) Sa.1.length (cn, 0) = .inr (cn, (List.range N).map (fun j => defaultValue (mmTy cn j))) := by
    rw [mmE_obj hc91]
    unfold mmF
    rw [if_neg hr9, hc92]
    congr 2
    apply List.map_congr_left
    intro j hj
    exact mmV_new (hlg j (by simpa using hj))
  have hw := mmW_new (dA := dA) (ρ := ρa) (q := q) hCa hn9 hEq
  have hi1 : ∀ (k : Nat) (u : Nat × va_E), (mmW dA (mmRho Sa ρa q) (mmNew Sa (cn, 0) N) (mmNewD Sa da))[k]? = some u → (mmW dA ρa Sa da)[k]? = some u ∨ u = (q, .inr (cn, (List.range N).map (fun j => defaultValue (mmTy cn j)))) ∧ k = (mmW dA ρa Sa da).length := by
    intro k u hk
    rw [hw] at hk
    by_cases h1 : k < (mmW dA ρa Sa da).length
    · rw [List.getElem?_append_left h1] at hk
      exact Or.inl hk
    · rw [List.getElem?_append_right (Nat.not_lt.mp h1)] at hk
      have h2 : k - (mmW dA ρa Sa da).length = 0 := by
        have := (List.getElem?_eq_some_iff.mp hk).1
        simp at this
        omega
      rw [h2] at hk
      cases hk
      exact Or.inr ⟨rfl, by omega⟩
  have hqn : ((mmW dA ρa Sa da ++ mmW dA ρb Sb db) ++ [(q, .inr (cn, (List.range N).map (fun j => defaultValue (mmTy cn j))))])[(mmW dA ρa Sa da ++ mmW dA ρb Sb db).length]? = some (q, (.inr (cn, (List.range N).map (fun j => defaultValue (mmTy cn j))) : va_E)) := List.getElem?_concat_length
  have hlift : ∀ (k : Nat) (u : Nat × va_E), (mmW dA ρa Sa da)[k]? = some u → ((mmW dA ρa Sa da ++ mmW dA ρb Sb db) ++ [(q, .inr (cn, (List.range N).map (fun j => defaultValue (mmTy cn j))))])[k]? = some u := by
    intro k u hk
    have h1 := (List.getElem?_eq_some_iff.mp hk).1
    rw [List.getElem?_append_left (by rw [List.length_append]; omega), List.getElem?_append_left h1]
    exact hk
  have hliftb : ∀ (k : Nat) (u : Nat × va_E), (mmW dA ρb Sb db)[k]? = some u → ((mmW dA ρa Sa da ++ mmW dA ρb Sb db) ++ [(q, .inr (cn, (List.range N).map (fun j => defaultValue (mmTy cn j))))])[(mmW dA ρa Sa da).length + k]? = some u := by
    intro k u hk
    have h1 := (List.getElem?_eq_some_iff.mp hk).1
    rw [List.getElem?_append_left (by rw [List.length_append]; omega), List.getElem?_append_right (Nat.le_add_right _ _), Nat.add_sub_cancel_left]
    exact hk
  have h5 := kk (mmRho Sa ρa q) H1 (mmRho_eq hn9) ⟨fun k u hk => by
      rcases hi1 k u hk with h | ⟨h, -⟩
      · exact g1 _ _ (hlift k u h)
      · rw [h]; exact g1 _ _ hqn, ⟨fun i j u v hi hj he => by
      rcases hi1 i u hi with h | ⟨h, hl1⟩ <;> rcases hi1 j v hj with h' | ⟨h', hl2⟩
      · exact hDa.1 i j u v h h' he
      · exfalso
        have h9 := g2.1 _ _ u v (hlift i u h) (by rw [h']; exact hqn) he
        have := (List.getElem?_eq_some_iff.mp h).1
        rw [List.length_append] at h9
        omega
      · exfalso
        have h9 := g2.1 _ _ u v (by rw [h]; exact hqn) (hlift j v h') he
        have := (List.getElem?_eq_some_iff.mp h').1
        rw [List.length_append] at h9
        omega
      · omega, fun k u hk => by
      rcases hi1 k u hk with h | ⟨h, -⟩
      · exact g2.2 _ _ (hlift k u h)
      · rw [h]; exact g2.2 _ _ hqn⟩, mmNew_cl hCa, fun k => by rw [mmRho_eq hn9 _ (Or.inr (Nat.le_add_right _ _))]; exact hρa k, by simp [mmNew]⟩ ⟨fun k u hk => g1 _ _ (hliftb k u hk), hDb, hCb, hρb⟩ (fun i j a e1 e2 h1 h2 => by
      rcases hi1 i (a, e1) h1 with h | ⟨h, -⟩
      · exact hX9 i j a e1 e2 h h2
      · have h9 := g2.1 _ _ _ _ (hliftb j (a, e2) h2) hqn (by rw [← h])
        have := (List.getElem?_eq_some_iff.mp h2).1
        rw [List.length_append] at h9
        omega) g3
  rw [mmRho_at] at h5
  exact h5
end
