/-! ROWS that change no cell -/
set_option maxRecDepth 100000
section
variable {α β : Type} {X : CT} {F : α × Sp × Dt} {Λ : β → Sp → Dt → α × Sp × Dt} {S : Sp} {d : Dt} {pc nN : Nat} {lv lv' : List (Nat × Value)} {st : List Value} {r : Option β} {own : String} {cc : ByteArray}
/-- a guard: an object or array of kind k, not null -/
def isK (S : Sp) (k : Nat) (o : Option Nat) : Option Nat := o.bind fun v => if (S.1[v]?).map Prod.fst = some k then some v else none
theorem isK_at {S : Sp} {k v : Nat} {o : Option Nat} (h : isK S k o = some v) : o = some v ∧ ∃ n, S.1[v]? = some (k, n) := by
  cases o with
  | none => cases h
  | some w =>
    simp only [isK, Option.bind_some] at h
    split at h
    · rename_i hq
      cases h
      obtain ⟨sh, h1, h2⟩ := Option.map_eq_some_iff.mp hq
      exact ⟨rfl, sh.2, by rw [h1, ← h2]⟩
    · cases h
theorem isK_of {S : Sp} {k v n : Nat} (h : S.1[v]? = some (k, n)) : isK S k (some v) = some v := by
  simp [isK, h]
/-- a guard: an array of kind k, the index in its range -/
def aix (S : Sp) (k : Nat) (o : Option Nat) (i : Int32) : Option (Nat × Nat) := o.bind fun v => match S.1[v]? with
  | some sh => if sh.1 = k ∧ ¬ (i < 0 ∨ sh.2 ≤ i.toNatClampNeg) then some (v, i.toNatClampNeg) else none
  | none => none
theorem aix_at {S : Sp} {k : Nat} {o : Option Nat} {i : Int32} {q : Nat × Nat} (h : aix S k o i = some q) : o = some q.1 ∧ q.2 = i.toNatClampNeg ∧ ∃ n, S.1[q.1]? = some (k, n) ∧ vp_in i n := by
  cases o with
  | none => cases h
  | some v =>
    simp only [aix, Option.bind_some] at h
    split at h
    · rename_i sh hs
      split at h
      · rename_i hq
        cases h
        exact ⟨rfl, rfl, sh.2, by rw [hs, ← hq.1], hq.2⟩
      · cases h
    · cases h
theorem aix_of {S : Sp} {k v n : Nat} {i : Int32} (h : S.1[v]? = some (k, n)) (hi : vp_in i n) : aix S k (some v) i = some (v, i.toNatClampNeg) := by
  show (match S.1[v]? with | some sh => if sh.1 = k ∧ ¬ (i < 0 ∨ sh.2 ≤ i.toNatClampNeg) then some (v, i.toNatClampNeg) else none | none => none) = _
  rw [h]
  exact if_pos ⟨rfl, hi⟩
/-- a guard: an array of kind k, its length -/
def aln (S : Sp) (k : Nat) (o : Option Nat) : Option Nat := o.bind fun v => match S.1[v]? with
  | some sh => if sh.1 = k then some sh.2 else none
  | none => none
theorem aln_at {S : Sp} {k n : Nat} {o : Option Nat} (h : aln S k o = some n) : ∃ v, o = some v ∧ S.1[v]? = some (k, n) := by
  cases o with
  | none => cases h
  | some v =>
    simp only [aln, Option.bind_some] at h
    split at h
    · rename_i sh hs
      split at h
      · rename_i hq
        cases h
        exact ⟨v, rfl, by rw [hs, ← hq]⟩
      · cases h
    · cases h
theorem aln_of {S : Sp} {k v n : Nat} (h : S.1[v]? = some (k, n)) : aln S k (some v) = some n := by
  simp [aln, h]
/-- guards of numbers: a divisor, a float, a double, a truth value -/
def gz (y : Int32) : Option Unit := if y = 0 then none else some ()
def gf (x : UInt32) : Option UInt32 := if x &&& 0x7fffffff ≤ 0x7f800000 then some x else none
def gd (x : UInt64) : Option UInt64 := if x &&& 0x7fffffffffffffff ≤ 0x7ff0000000000000 then some x else none
def gb (x : Int32) : Option Int32 := if x = 0 ∨ x = 1 then some x else none
theorem gz_at {y : Int32} {u : Unit} (h : gz y = some u) : ¬ y = 0 := by
  unfold gz at h
  split at h
  · cases h
  · assumption
theorem gf_at {x y : UInt32} (h : gf x = some y) : y = x ∧ vf_n32 x := by
  unfold gf at h
  split at h
  · rename_i q
    cases h
    exact ⟨rfl, q⟩
  · cases h
theorem gd_at {x y : UInt64} (h : gd x = some y) : y = x ∧ vf_n64 x := by
  unfold gd at h
  split at h
  · rename_i q
    cases h
    exact ⟨rfl, q⟩
  · cases h
theorem gb_at {x y : Int32} (h : gb x = some y) : y = x ∧ (x = 0 ∨ x = 1) := by
  unfold gb at h
  split at h
  · rename_i q
    cases h
    exact ⟨rfl, q⟩
  · cases h
/-- what is left over by a division -/
def irm (x y : Int32) : Int32 := x - x / y * y
theorem mm_cl {c : Nat} {q : vw_C} (h : mmCl[c]? = some q) : c < 50 ∧ mmN c = q.2.2 := by
  have h1 : c < mmCl.length := (List.getElem?_eq_some_iff.mp h).1
  have h2 : mmCl.length = 18 := rfl
  refine ⟨by omega, ?_⟩
  unfold mmN
  rw [h]
theorem tb_word {oa : Nat → Nat} {s : State} {w : Cond} (h : TB oa s) (hw : w ∈ lw_tbl) (ht : tbW w = true) : va_Nw w s := h.1 w hw ht

theorem JR_iconst (G : Ctx X F own cc nN) {n : Int} {v : Int32} (hv : Int32.ofInt n = v) (hd : decode cc pc = .ok (.iconst n, 1)) (hk : J X F Λ S d (pc + 1) lv (.int v :: st) r) : J X F Λ S d pc lv (st) r := by
  refine J.lift (fun _ hs _ => ok_i hs) (fun _ h => h) ?_ hk
  obtain _ | ⟨p, l, e, R, s, m, args, below, meth, c, Q, dC, dI, dA, oa, A, nL, c0, s0, ρ0, n0⟩ := X
  · exact trivial
  obtain ⟨hx, hb, hml, hown, hts, hlk, hK, hT, hE, hA, hO, hRc, hRs, hfl, hoa⟩ := G
  intro ρ H locs ls cells slots hW hL k9
  exact lv_iconst hx hb hd hv (k9 ls hL)
theorem JR_bipush (G : Ctx X F own cc nN) {n : Int} {v : Int32} (hv : (Int8.ofInt n).toInt32 = v) (hd : decode cc pc = .ok (.bipush n, 2)) (hk : J X F Λ S d (pc + 2) lv (.int v :: st) r) : J X F Λ S d pc lv (st) r := by
  refine J.lift (fun _ hs _ => ok_i hs) (fun _ h => h) ?_ hk
  obtain _ | ⟨p, l, e, R, s, m, args, below, meth, c, Q, dC, dI, dA, oa, A, nL, c0, s0, ρ0, n0⟩ := X
  · exact trivial
  obtain ⟨hx, hb, hml, hown, hts, hlk, hK, hT, hE, hA, hO, hRc, hRs, hfl, hoa⟩ := G
  intro ρ H locs ls cells slots hW hL k9
  exact lv_bipush hx hb hd hv (k9 ls hL)
theorem JR_sipush (G : Ctx X F own cc nN) {n : Int} {v : Int32} (hv : (Int16.ofInt n).toInt32 = v) (hd : decode cc pc = .ok (.sipush n, 3)) (hk : J X F Λ S d (pc + 3) lv (.int v :: st) r) : J X F Λ S d pc lv (st) r := by
  refine J.lift (fun _ hs _ => ok_i hs) (fun _ h => h) ?_ hk
  obtain _ | ⟨p, l, e, R, s, m, args, below, meth, c, Q, dC, dI, dA, oa, A, nL, c0, s0, ρ0, n0⟩ := X
  · exact trivial
  obtain ⟨hx, hb, hml, hown, hts, hlk, hK, hT, hE, hA, hO, hRc, hRs, hfl, hoa⟩ := G
  intro ρ H locs ls cells slots hW hL k9
  exact lv_sipush hx hb hd hv (k9 ls hL)
theorem JR_lconst (G : Ctx X F own cc nN) {n : Fin 2} {v : Int64} (hv : Int64.ofNat (n : Nat) = v) (hd : decode cc pc = .ok (.lconst n, 1)) (hk : J X F Λ S d (pc + 1) lv (.long v :: st) r) : J X F Λ S d pc lv (st) r := by
  refine J.lift (fun _ hs _ => ok_l hs) (fun _ h => h) ?_ hk
  obtain _ | ⟨p, l, e, R, s, m, args, below, meth, c, Q, dC, dI, dA, oa, A, nL, c0, s0, ρ0, n0⟩ := X
  · exact trivial
  obtain ⟨hx, hb, hml, hown, hts, hlk, hK, hT, hE, hA, hO, hRc, hRs, hfl, hoa⟩ := G
  intro ρ H locs ls cells slots hW hL k9
  exact lv_lconst hx hb hd hv (k9 ls hL)
theorem JR_fconst0 (G : Ctx X F own cc nN)  (hd : decode cc pc = .ok (.fconst 0, 1)) (hk : J X F Λ S d (pc + 1) lv (.float FP.fconst0 :: st) r) : J X F Λ S d pc lv (st) r := by
  refine J.lift (fun _ hs _ => ok_f hs) (fun _ h => h) ?_ hk
  obtain _ | ⟨p, l, e, R, s, m, args, below, meth, c, Q, dC, dI, dA, oa, A, nL, c0, s0, ρ0, n0⟩ := X
  · exact trivial
  obtain ⟨hx, hb, hml, hown, hts, hlk, hK, hT, hE, hA, hO, hRc, hRs, hfl, hoa⟩ := G
  intro ρ H locs ls cells slots hW hL k9
  exact lv_fconst0 hx hb hd (k9 ls hL)
theorem JR_fconst1 (G : Ctx X F own cc nN)  (hd : decode cc pc = .ok (.fconst 1, 1)) (hk : J X F Λ S d (pc + 1) lv (.float FP.fconst1 :: st) r) : J X F Λ S d pc lv (st) r := by
  refine J.lift (fun _ hs _ => ok_f hs) (fun _ h => h) ?_ hk
  obtain _ | ⟨p, l, e, R, s, m, args, below, meth, c, Q, dC, dI, dA, oa, A, nL, c0, s0, ρ0, n0⟩ := X
  · exact trivial
  obtain ⟨hx, hb, hml, hown, hts, hlk, hK, hT, hE, hA, hO, hRc, hRs, hfl, hoa⟩ := G
  intro ρ H locs ls cells slots hW hL k9
  exact lv_fconst1 hx hb hd (k9 ls hL)
theorem JR_fconst2 (G : Ctx X F own cc nN)  (hd : decode cc pc = .ok (.fconst 2, 1)) (hk : J X F Λ S d (pc + 1) lv (.float FP.fconst2 :: st) r) : J X F Λ S d pc lv (st) r := by
  refine J.lift (fun _ hs _ => ok_f hs) (fun _ h => h) ?_ hk
  obtain _ | ⟨p, l, e, R, s, m, args, below, meth, c, Q, dC, dI, dA, oa, A, nL, c0, s0, ρ0, n0⟩ := X
  · exact trivial
  obtain ⟨hx, hb, hml, hown, hts, hlk, hK, hT, hE, hA, hO, hRc, hRs, hfl, hoa⟩ := G
  intro ρ H locs ls cells slots hW hL k9
  exact lv_fconst2 hx hb hd (k9 ls hL)
theorem JR_dconst0 (G : Ctx X F own cc nN)  (hd : decode cc pc = .ok (.dconst 0, 1)) (hk : J X F Λ S d (pc + 1) lv (.double FP.dconst0 :: st) r) : J X F Λ S d pc lv (st) r := by
  refine J.lift (fun _ hs _ => ok_d hs) (fun _ h => h) ?_ hk
  obtain _ | ⟨p, l, e, R, s, m, args, below, meth, c, Q, dC, dI, dA, oa, A, nL, c0, s0, ρ0, n0⟩ := X
  · exact trivial
  obtain ⟨hx, hb, hml, hown, hts, hlk, hK, hT, hE, hA, hO, hRc, hRs, hfl, hoa⟩ := G
  intro ρ H locs ls cells slots hW hL k9
  exact lv_dconst0 hx hb hd (k9 ls hL)
theorem JR_null (G : Ctx X F own cc nN)  (hd : decode cc pc = .ok (.aconst_null, 1)) (hk : J X F Λ S d (pc + 1) lv (va_rf none :: st) r) : J X F Λ S d pc lv (st) r := by
  refine J.lift (fun _ hs _ => ok_r okO_none hs) (fun _ h => h) ?_ hk
  obtain _ | ⟨p, l, e, R, s, m, args, below, meth, c, Q, dC, dI, dA, oa, A, nL, c0, s0, ρ0, n0⟩ := X
  · exact trivial
  obtain ⟨hx, hb, hml, hown, hts, hlk, hK, hT, hE, hA, hO, hRc, hRs, hfl, hoa⟩ := G
  intro ρ H locs ls cells slots hW hL k9
  exact lv_null hx hb hd (k9 ls hL)
theorem JR_ldcI (G : Ctx X F own cc nN) {i : Nat} {v : Int32} (hq : Cond.constant own i v ∈ lw_all) (hd : decode cc pc = .ok (.ldc i, 2)) (hk : J X F Λ S d (pc + 2) lv (.int v :: st) r) : J X F Λ S d pc lv (st) r := by
  refine J.lift (fun _ hs _ => ok_i hs) (fun _ h => h) ?_ hk
  obtain _ | ⟨p, l, e, R, s, m, args, below, meth, c, Q, dC, dI, dA, oa, A, nL, c0, s0, ρ0, n0⟩ := X
  · exact trivial
  obtain ⟨hx, hb, hml, hown, hts, hlk, hK, hT, hE, hA, hO, hRc, hRs, hfl, hoa⟩ := G
  intro ρ H locs ls cells slots hW hL k9
  exact lv_ldc hx hb hown (hts _ hq) hd (k9 ls hL)
theorem JR_ldcwI (G : Ctx X F own cc nN) {i : Nat} {v : Int32} (hq : Cond.constant own i v ∈ lw_all) (hd : decode cc pc = .ok (.ldc_w i, 3)) (hk : J X F Λ S d (pc + 3) lv (.int v :: st) r) : J X F Λ S d pc lv (st) r := by
  refine J.lift (fun _ hs _ => ok_i hs) (fun _ h => h) ?_ hk
  obtain _ | ⟨p, l, e, R, s, m, args, below, meth, c, Q, dC, dI, dA, oa, A, nL, c0, s0, ρ0, n0⟩ := X
  · exact trivial
  obtain ⟨hx, hb, hml, hown, hts, hlk, hK, hT, hE, hA, hO, hRc, hRs, hfl, hoa⟩ := G
  intro ρ H locs ls cells slots hW hL k9
  exact lv_ldcw hx hb hown (hts _ hq) hd (k9 ls hL)
theorem JR_ldcF (G : Ctx X F own cc nN) {i : Nat} {v : UInt32} (hq : Cond.constantFloat own i v ∈ lw_all) (hd : decode cc pc = .ok (.ldc i, 2)) (hk : J X F Λ S d (pc + 2) lv (.float v :: st) r) : J X F Λ S d pc lv (st) r := by
  refine J.lift (fun _ hs _ => ok_f hs) (fun _ h => h) ?_ hk
  obtain _ | ⟨p, l, e, R, s, m, args, below, meth, c, Q, dC, dI, dA, oa, A, nL, c0, s0, ρ0, n0⟩ := X
  · exact trivial
  obtain ⟨hx, hb, hml, hown, hts, hlk, hK, hT, hE, hA, hO, hRc, hRs, hfl, hoa⟩ := G
  intro ρ H locs ls cells slots hW hL k9
  exact lv_ldcf hx hb hown (hts _ hq) hd (k9 ls hL)
theorem JR_ldc2 (G : Ctx X F own cc nN) {i : Nat} {v : Int64} (hq : Cond.constantLong own i v ∈ lw_all) (hd : decode cc pc = .ok (.ldc2_w i, 3)) (hk : J X F Λ S d (pc + 3) lv (.long v :: st) r) : J X F Λ S d pc lv (st) r := by
  refine J.lift (fun _ hs _ => ok_l hs) (fun _ h => h) ?_ hk
  obtain _ | ⟨p, l, e, R, s, m, args, below, meth, c, Q, dC, dI, dA, oa, A, nL, c0, s0, ρ0, n0⟩ := X
  · exact trivial
  obtain ⟨hx, hb, hml, hown, hts, hlk, hK, hT, hE, hA, hO, hRc, hRs, hfl, hoa⟩ := G
  intro ρ H locs ls cells slots hW hL k9
  exact lv_ldc2 hx hb hown (hts _ hq) hd (k9 ls hL)
theorem ldcwF_ {p : Program} {l : Launch} {e : Env} {R : Room} {s : State} {m : MethodId} {args : Array Value} {below : List Frame} {meth : Method} {c : Code} {H : Heap} {locs : List Loc} {cells slots : Nat} {Q : State → Prop} {cc : ByteArray} {pc : Nat} {ls : Array Slot} {rest : List Value} (hexec : p.tables.exec = Jvm.exec) (hb : c.code = cc) {own : String} {index : Nat} {v : UInt32} (hown : s.vm.findClass own = some m.cls)
    (hconst : (Cond.constantFloat own index v).before args s = true) (hdg : decode cc pc = .ok (.ldc_w index, 3)) (k : W p l e R s m args below meth c H locs cells slots Q (F0 m (pc + 3) ls (.float v :: rest))) : W p l e R s m args below meth c H locs cells slots Q (F0 m pc ls rest) := by
  intro T hT X
  obtain ⟨t, a, b⟩ := k T hT X
  refine ⟨t, ?_, b⟩
  obtain ⟨k0, cf, hk, hcf, hcp⟩ := Cond.constantFloat_spec hown hconst
  obtain ⟨k', hk', he⟩ := X.warmed.alike.2.2 _ _ hk
  have hdg' : decode c.code pc = .ok (.ldc_w index, 3) := by rw [hb]; exact hdg
  jvm_step X.here [hexec, hdg', ldc_w.wp_float (s := T) (f := F0 m pc ls rest) X.here.top hk' (by rw [he]; exact hcf) hcp]
  exact a
theorem ldcwS_ {p : Program} {l : Launch} {e : Env} {R : Room} {s : State} {m : MethodId} {args : Array Value} {below : List Frame} {meth : Method} {c : Code} {H : Heap} {locs : List Loc} {cells slots : Nat} {Q : State → Prop} {cc : ByteArray} {pc : Nat} {ls : Array Slot} {rest : List Value} (hexec : p.tables.exec = Jvm.exec) (hb : c.code = cc) {own tx : String} {index q : Nat} (hown : s.vm.findClass own = some m.cls)
    (hZ : vk_R own index tx q s) (hdg : decode cc pc = .ok (.ldc_w index, 3)) (k : W p l e R s m args below meth c H locs cells slots Q (F0 m (pc + 3) ls (.ref q :: rest))) : W p l e R s m args below meth c H locs cells slots Q (F0 m pc ls rest) := by
  intro T hT X
  obtain ⟨t, a, b⟩ := k T hT X
  refine ⟨t, ?_, b⟩
  obtain ⟨k0, cf, i, a', hk, hcf, hcp, -, hr, hev'⟩ := Cond.stringRef_spec hown hZ.1
  cases hZ.2.symm.trans hev'
  obtain ⟨k', hk', he⟩ := X.warmed.alike.2.2 _ _ hk
  have hr' : k'.resolved[index]? = some (some (.string q)) := by
    rcases X.warmed.entry hk hk' index with h | ⟨h, -⟩
    · rw [h]; exact hr
    · rw [hr] at h; cases h
  have hdg' : decode c.code pc = .ok (.ldc_w index, 3) := by rw [hb]; exact hdg
  jvm_step X.here [hexec, hdg', ldc_w.wp_string (e := e) (s := T) (f := F0 m pc ls rest) X.here.top hk' (by rw [he]; exact hcf) hcp hr']
  exact a
theorem JR_ldcwF (G : Ctx X F own cc nN) {i : Nat} {v : UInt32} (hq : Cond.constantFloat own i v ∈ lw_all) (hd : decode cc pc = .ok (.ldc_w i, 3)) (hk : J X F Λ S d (pc + 3) lv (.float v :: st) r) : J X F Λ S d pc lv (st) r := by
  refine J.lift (fun _ hs _ => ok_f hs) (fun _ h => h) ?_ hk
  obtain _ | ⟨p, l, e, R, s, m, args, below, meth, c, Q, dC, dI, dA, oa, A, nL, c0, s0, ρ0, n0⟩ := X
  · exact trivial
  obtain ⟨hx, hb, hml, hown, hts, hlk, hK, hT, hE, hA, hO, hRc, hRs, hfl, hoa⟩ := G
  intro ρ H locs ls cells slots hW hL k9
  exact ldcwF_ hx hb hown (hts _ hq) hd (k9 ls hL)
theorem JR_ldcSR (G : Ctx X F "WatchStack$Reader" cc nN) {i j : Nat} (hj : j < 24) (hi : (ldcR.getD j (0, 0)).1 = i) (hd : decode cc pc = .ok (.ldc i, 2)) (hk : J X F Λ S d (pc + 2) lv (va_rf (some (OPQ + j)) :: st) r) : J X F Λ S d pc lv st r := by
  refine J.lift (fun _ hs _ => ok_r (okO_some (Or.inr (Nat.le_add_right _ _))) hs) (fun _ h => h) ?_ hk
  obtain _ | ⟨p, l, e, R, s, m, args, below, meth, c, Q, dC, dI, dA, oa, A, nL, c0, s0, ρ0, n0⟩ := X
  · exact trivial
  obtain ⟨hx, hb, hml, hown, hts, hlk, hK, hT, hE, hA, hO, hRc, hRs, hfl, hoa⟩ := G
  intro ρ H locs ls cells slots hW hL k9
  have h1 := (hT.2.2.2.1 j hj).1
  rw [hi] at h1
  refine va_ldcS hx hb hown h1 hd ?_
  have h2 := k9 ls hL
  have h3 : ρ (OPQ + j) = oa j := (hW.2.2.2 _ (Or.inr (Nat.le_add_right _ _))).trans (hoa j)
  rw [← h3]
  exact h2
theorem JR_ldcSM (G : Ctx X F "WatchStackModel" cc nN) {i j : Nat} (hj : j < 24) (hi : (ldcR.getD j (0, 0)).2 = i) (hd : decode cc pc = .ok (.ldc i, 2)) (hk : J X F Λ S d (pc + 2) lv (va_rf (some (OPQ + j)) :: st) r) : J X F Λ S d pc lv st r := by
  refine J.lift (fun _ hs _ => ok_r (okO_some (Or.inr (Nat.le_add_right _ _))) hs) (fun _ h => h) ?_ hk
  obtain _ | ⟨p, l, e, R, s, m, args, below, meth, c, Q, dC, dI, dA, oa, A, nL, c0, s0, ρ0, n0⟩ := X
  · exact trivial
  obtain ⟨hx, hb, hml, hown, hts, hlk, hK, hT, hE, hA, hO, hRc, hRs, hfl, hoa⟩ := G
  intro ρ H locs ls cells slots hW hL k9
  have h1 := (hT.2.2.2.1 j hj).2
  rw [hi] at h1
  refine va_ldcS hx hb hown h1 hd ?_
  have h2 := k9 ls hL
  have h3 : ρ (OPQ + j) = oa j := (hW.2.2.2 _ (Or.inr (Nat.le_add_right _ _))).trans (hoa j)
  rw [← h3]
  exact h2
theorem JR_ldcwSM (G : Ctx X F "WatchStackModel" cc nN) {i j : Nat} (hj : j < 24) (hi : (ldcR.getD j (0, 0)).2 = i) (hd : decode cc pc = .ok (.ldc_w i, 3)) (hk : J X F Λ S d (pc + 3) lv (va_rf (some (OPQ + j)) :: st) r) : J X F Λ S d pc lv st r := by
  refine J.lift (fun _ hs _ => ok_r (okO_some (Or.inr (Nat.le_add_right _ _))) hs) (fun _ h => h) ?_ hk
  obtain _ | ⟨p, l, e, R, s, m, args, below, meth, c, Q, dC, dI, dA, oa, A, nL, c0, s0, ρ0, n0⟩ := X
  · exact trivial
  obtain ⟨hx, hb, hml, hown, hts, hlk, hK, hT, hE, hA, hO, hRc, hRs, hfl, hoa⟩ := G
  intro ρ H locs ls cells slots hW hL k9
  have h1 := (hT.2.2.2.1 j hj).2
  rw [hi] at h1
  refine ldcwS_ hx hb hown h1 hd ?_
  have h2 := k9 ls hL
  have h3 : ρ (OPQ + j) = oa j := (hW.2.2.2 _ (Or.inr (Nat.le_add_right _ _))).trans (hoa j)
  rw [← h3]
  exact h2
theorem JR_iload_n (G : Ctx X F own cc nN) {k : Fin 4} {i : Nat} {x : Int32} (hi : (k : Nat) = i) (hl : lvG lv i = some (.int x)) (hd : decode cc pc = .ok (.iload_n k, 1)) (hk : J X F Λ S d (pc + 1) lv (.int x :: st) r) : J X F Λ S d pc lv (st) r := by
  refine J.lift (fun _ hs _ => ok_i hs) (fun _ h => h) ?_ hk
  obtain _ | ⟨p, l, e, R, s, m, args, below, meth, c, Q, dC, dI, dA, oa, A, nL, c0, s0, ρ0, n0⟩ := X
  · exact trivial
  obtain ⟨hx, hb, hml, hown, hts, hlk, hK, hT, hE, hA, hO, hRc, hRs, hfl, hoa⟩ := G
  intro ρ H locs ls cells slots hW hL k9
  exact lv_iload_n hx hb hd hi (lvG_has hl hL) (k9 ls hL)
theorem JR_iload (G : Ctx X F own cc nN) {i : Nat} {x : Int32} (hl : lvG lv i = some (.int x)) (hd : decode cc pc = .ok (.iload i, 2)) (hk : J X F Λ S d (pc + 2) lv (.int x :: st) r) : J X F Λ S d pc lv (st) r := by
  refine J.lift (fun _ hs _ => ok_i hs) (fun _ h => h) ?_ hk
  obtain _ | ⟨p, l, e, R, s, m, args, below, meth, c, Q, dC, dI, dA, oa, A, nL, c0, s0, ρ0, n0⟩ := X
  · exact trivial
  obtain ⟨hx, hb, hml, hown, hts, hlk, hK, hT, hE, hA, hO, hRc, hRs, hfl, hoa⟩ := G
  intro ρ H locs ls cells slots hW hL k9
  exact lv_iload hx hb hd (lvG_has hl hL) (k9 ls hL)
theorem JR_lload_n (G : Ctx X F own cc nN) {k : Fin 4} {i : Nat} {x : Int64} (hi : (k : Nat) = i) (hl : lvG lv i = some (.long x)) (hd : decode cc pc = .ok (.lload_n k, 1)) (hk : J X F Λ S d (pc + 1) lv (.long x :: st) r) : J X F Λ S d pc lv (st) r := by
  refine J.lift (fun _ hs _ => ok_l hs) (fun _ h => h) ?_ hk
  obtain _ | ⟨p, l, e, R, s, m, args, below, meth, c, Q, dC, dI, dA, oa, A, nL, c0, s0, ρ0, n0⟩ := X
  · exact trivial
  obtain ⟨hx, hb, hml, hown, hts, hlk, hK, hT, hE, hA, hO, hRc, hRs, hfl, hoa⟩ := G
  intro ρ H locs ls cells slots hW hL k9
  exact lv_lload_n hx hb hd hi (lvG_has hl hL) (k9 ls hL)
theorem JR_lload (G : Ctx X F own cc nN) {i : Nat} {x : Int64} (hl : lvG lv i = some (.long x)) (hd : decode cc pc = .ok (.lload i, 2)) (hk : J X F Λ S d (pc + 2) lv (.long x :: st) r) : J X F Λ S d pc lv (st) r := by
  refine J.lift (fun _ hs _ => ok_l hs) (fun _ h => h) ?_ hk
  obtain _ | ⟨p, l, e, R, s, m, args, below, meth, c, Q, dC, dI, dA, oa, A, nL, c0, s0, ρ0, n0⟩ := X
  · exact trivial
  obtain ⟨hx, hb, hml, hown, hts, hlk, hK, hT, hE, hA, hO, hRc, hRs, hfl, hoa⟩ := G
  intro ρ H locs ls cells slots hW hL k9
  exact lv_lload hx hb hd (lvG_has hl hL) (k9 ls hL)
theorem JR_fload_n (G : Ctx X F own cc nN) {k : Fin 4} {i : Nat} {x : UInt32} (hi : (k : Nat) = i) (hl : lvG lv i = some (.float x)) (hd : decode cc pc = .ok (.fload_n k, 1)) (hk : J X F Λ S d (pc + 1) lv (.float x :: st) r) : J X F Λ S d pc lv (st) r := by
  refine J.lift (fun _ hs _ => ok_f hs) (fun _ h => h) ?_ hk
  obtain _ | ⟨p, l, e, R, s, m, args, below, meth, c, Q, dC, dI, dA, oa, A, nL, c0, s0, ρ0, n0⟩ := X
  · exact trivial
  obtain ⟨hx, hb, hml, hown, hts, hlk, hK, hT, hE, hA, hO, hRc, hRs, hfl, hoa⟩ := G
  intro ρ H locs ls cells slots hW hL k9
  exact lv_fload_n hx hb hd hi (lvG_has hl hL) (k9 ls hL)
theorem JR_fload (G : Ctx X F own cc nN) {i : Nat} {x : UInt32} (hl : lvG lv i = some (.float x)) (hd : decode cc pc = .ok (.fload i, 2)) (hk : J X F Λ S d (pc + 2) lv (.float x :: st) r) : J X F Λ S d pc lv (st) r := by
  refine J.lift (fun _ hs _ => ok_f hs) (fun _ h => h) ?_ hk
  obtain _ | ⟨p, l, e, R, s, m, args, below, meth, c, Q, dC, dI, dA, oa, A, nL, c0, s0, ρ0, n0⟩ := X
  · exact trivial
  obtain ⟨hx, hb, hml, hown, hts, hlk, hK, hT, hE, hA, hO, hRc, hRs, hfl, hoa⟩ := G
  intro ρ H locs ls cells slots hW hL k9
  exact lv_fload hx hb hd (lvG_has hl hL) (k9 ls hL)
theorem JR_dload_n (G : Ctx X F own cc nN) {k : Fin 4} {i : Nat} {x : UInt64} (hi : (k : Nat) = i) (hl : lvG lv i = some (.double x)) (hd : decode cc pc = .ok (.dload_n k, 1)) (hk : J X F Λ S d (pc + 1) lv (.double x :: st) r) : J X F Λ S d pc lv (st) r := by
  refine J.lift (fun _ hs _ => ok_d hs) (fun _ h => h) ?_ hk
  obtain _ | ⟨p, l, e, R, s, m, args, below, meth, c, Q, dC, dI, dA, oa, A, nL, c0, s0, ρ0, n0⟩ := X
  · exact trivial
  obtain ⟨hx, hb, hml, hown, hts, hlk, hK, hT, hE, hA, hO, hRc, hRs, hfl, hoa⟩ := G
  intro ρ H locs ls cells slots hW hL k9
  exact lv_dload_n hx hb hd hi (lvG_has hl hL) (k9 ls hL)
theorem JR_dload (G : Ctx X F own cc nN) {i : Nat} {x : UInt64} (hl : lvG lv i = some (.double x)) (hd : decode cc pc = .ok (.dload i, 2)) (hk : J X F Λ S d (pc + 2) lv (.double x :: st) r) : J X F Λ S d pc lv (st) r := by
  refine J.lift (fun _ hs _ => ok_d hs) (fun _ h => h) ?_ hk
  obtain _ | ⟨p, l, e, R, s, m, args, below, meth, c, Q, dC, dI, dA, oa, A, nL, c0, s0, ρ0, n0⟩ := X
  · exact trivial
  obtain ⟨hx, hb, hml, hown, hts, hlk, hK, hT, hE, hA, hO, hRc, hRs, hfl, hoa⟩ := G
  intro ρ H locs ls cells slots hW hL k9
  exact lv_dload hx hb hd (lvG_has hl hL) (k9 ls hL)
theorem JR_aload_n (G : Ctx X F own cc nN) {k : Fin 4} {i : Nat} {o : Option Nat} (hi : (k : Nat) = i) (hl : lvG lv i = some (va_rf o)) (hd : decode cc pc = .ok (.aload_n k, 1)) (hk : J X F Λ S d (pc + 1) lv (va_rf o :: st) r) : J X F Λ S d pc lv (st) r := by
  refine J.lift (fun _ hs hl9 => ok_r (okV_rf.mp (hl9 _ (lvG_mem hl))) hs) (fun _ h => h) ?_ hk
  obtain _ | ⟨p, l, e, R, s, m, args, below, meth, c, Q, dC, dI, dA, oa, A, nL, c0, s0, ρ0, n0⟩ := X
  · exact trivial
  obtain ⟨hx, hb, hml, hown, hts, hlk, hK, hT, hE, hA, hO, hRc, hRs, hfl, hoa⟩ := G
  intro ρ H locs ls cells slots hW hL k9
  have h1 := lvG_has hl hL
  rw [cvV_rf] at h1
  have h2 := k9 ls hL
  rw [List.map_cons, cvV_rf] at h2
  cases o with
  | none => exact lv_aload_nN hx hb hd hi h1 h2
  | some a => exact lv_aload_n hx hb hd hi h1 h2
theorem JR_aload (G : Ctx X F own cc nN) {i : Nat} {o : Option Nat} (hl : lvG lv i = some (va_rf o)) (hd : decode cc pc = .ok (.aload i, 2)) (hk : J X F Λ S d (pc + 2) lv (va_rf o :: st) r) : J X F Λ S d pc lv (st) r := by
  refine J.lift (fun _ hs hl9 => ok_r (okV_rf.mp (hl9 _ (lvG_mem hl))) hs) (fun _ h => h) ?_ hk
  obtain _ | ⟨p, l, e, R, s, m, args, below, meth, c, Q, dC, dI, dA, oa, A, nL, c0, s0, ρ0, n0⟩ := X
  · exact trivial
  obtain ⟨hx, hb, hml, hown, hts, hlk, hK, hT, hE, hA, hO, hRc, hRs, hfl, hoa⟩ := G
  intro ρ H locs ls cells slots hW hL k9
  have h1 := lvG_has hl hL
  rw [cvV_rf] at h1
  have h2 := k9 ls hL
  rw [List.map_cons, cvV_rf] at h2
  cases o with
  | none => exact lv_aloadN hx hb hd h1 h2
  | some a => exact lv_aload hx hb hd h1 h2
theorem JR_istore_n (G : Ctx X F own cc nN) {k : Fin 4} {i : Nat} {x : Int32} (hi : (k : Nat) = i) (hn : i < nN) (hl : lvS lv i (.int x) = lv') (hd : decode cc pc = .ok (.istore_n k, 1)) (hk : J X F Λ S d (pc + 1) lv' (st) r) : J X F Λ S d pc lv (.int x :: st) r := by
  refine J.lift (fun _ hs _ => ok_t hs) (fun hs h => hl ▸ lvS_ok okV_int h) ?_ hk
  obtain _ | ⟨p, l, e, R, s, m, args, below, meth, c, Q, dC, dI, dA, oa, A, nL, c0, s0, ρ0, n0⟩ := X
  · exact trivial
  obtain ⟨hx, hb, hml, hown, hts, hlk, hK, hT, hE, hA, hO, hRc, hRs, hfl, hoa⟩ := G
  intro ρ H locs ls cells slots hW hL k9
  subst hl
  exact lv_istore_n hx hb hd hi hL (by omega) rfl (fun ls' h' => k9 ls' (by rw [cvL_set]; exact h'))
theorem JR_istore (G : Ctx X F own cc nN) {i : Nat} {x : Int32}  (hn : i < nN) (hl : lvS lv i (.int x) = lv') (hd : decode cc pc = .ok (.istore i, 2)) (hk : J X F Λ S d (pc + 2) lv' (st) r) : J X F Λ S d pc lv (.int x :: st) r := by
  refine J.lift (fun _ hs _ => ok_t hs) (fun hs h => hl ▸ lvS_ok okV_int h) ?_ hk
  obtain _ | ⟨p, l, e, R, s, m, args, below, meth, c, Q, dC, dI, dA, oa, A, nL, c0, s0, ρ0, n0⟩ := X
  · exact trivial
  obtain ⟨hx, hb, hml, hown, hts, hlk, hK, hT, hE, hA, hO, hRc, hRs, hfl, hoa⟩ := G
  intro ρ H locs ls cells slots hW hL k9
  subst hl
  exact lv_istore hx hb hd hL (by omega) rfl (fun ls' h' => k9 ls' (by rw [cvL_set]; exact h'))
theorem JR_fstore_n (G : Ctx X F own cc nN) {k : Fin 4} {i : Nat} {x : UInt32} (hi : (k : Nat) = i) (hn : i < nN) (hl : lvS lv i (.float x) = lv') (hd : decode cc pc = .ok (.fstore_n k, 1)) (hk : J X F Λ S d (pc + 1) lv' (st) r) : J X F Λ S d pc lv (.float x :: st) r := by
  refine J.lift (fun _ hs _ => ok_t hs) (fun hs h => hl ▸ lvS_ok okV_float h) ?_ hk
  obtain _ | ⟨p, l, e, R, s, m, args, below, meth, c, Q, dC, dI, dA, oa, A, nL, c0, s0, ρ0, n0⟩ := X
  · exact trivial
  obtain ⟨hx, hb, hml, hown, hts, hlk, hK, hT, hE, hA, hO, hRc, hRs, hfl, hoa⟩ := G
  intro ρ H locs ls cells slots hW hL k9
  subst hl
  exact lv_fstore_n hx hb hd hi hL (by omega) rfl (fun ls' h' => k9 ls' (by rw [cvL_set]; exact h'))
theorem JR_fstore (G : Ctx X F own cc nN) {i : Nat} {x : UInt32}  (hn : i < nN) (hl : lvS lv i (.float x) = lv') (hd : decode cc pc = .ok (.fstore i, 2)) (hk : J X F Λ S d (pc + 2) lv' (st) r) : J X F Λ S d pc lv (.float x :: st) r := by
  refine J.lift (fun _ hs _ => ok_t hs) (fun hs h => hl ▸ lvS_ok okV_float h) ?_ hk
  obtain _ | ⟨p, l, e, R, s, m, args, below, meth, c, Q, dC, dI, dA, oa, A, nL, c0, s0, ρ0, n0⟩ := X
  · exact trivial
  obtain ⟨hx, hb, hml, hown, hts, hlk, hK, hT, hE, hA, hO, hRc, hRs, hfl, hoa⟩ := G
  intro ρ H locs ls cells slots hW hL k9
  subst hl
  exact lv_fstore hx hb hd hL (by omega) rfl (fun ls' h' => k9 ls' (by rw [cvL_set]; exact h'))
theorem JR_astore_n (G : Ctx X F own cc nN) {k : Fin 4} {i : Nat} {o : Option Nat} (hi : (k : Nat) = i) (hn : i < nN) (hl : lvS lv i (va_rf o) = lv') (hd : decode cc pc = .ok (.astore_n k, 1)) (hk : J X F Λ S d (pc + 1) lv' (st) r) : J X F Λ S d pc lv (va_rf o :: st) r := by
  refine J.lift (fun _ hs _ => ok_t hs) (fun hs h => hl ▸ lvS_ok (ok_h hs) h) ?_ hk
  obtain _ | ⟨p, l, e, R, s, m, args, below, meth, c, Q, dC, dI, dA, oa, A, nL, c0, s0, ρ0, n0⟩ := X
  · exact trivial
  obtain ⟨hx, hb, hml, hown, hts, hlk, hK, hT, hE, hA, hO, hRc, hRs, hfl, hoa⟩ := G
  intro ρ H locs ls cells slots hW hL k9
  subst hl
  have h2 : ∀ ls', lv_has ls' nL ((i, va_rf (o.map ρ)) :: (cvL ρ lv).filter (fun q => !(q.1 == i) && !(q.1 + 1 == i && q.2.category == 2))) → W p l e R s m args below meth c H locs cells slots Q (F0 m (pc + 1) ls' (st.map (cvV ρ))) := fun ls' h' => k9 ls' (by rw [cvL_set, cvV_rf]; exact h')
  rw [List.map_cons, cvV_rf]
  cases o with
  | none => exact lv_astore_nN hx hb hd hi hL (by omega) rfl h2
  | some a => exact lv_astore_n hx hb hd hi hL (by omega) rfl h2
theorem JR_astore (G : Ctx X F own cc nN) {i : Nat} {o : Option Nat}  (hn : i < nN) (hl : lvS lv i (va_rf o) = lv') (hd : decode cc pc = .ok (.astore i, 2)) (hk : J X F Λ S d (pc + 2) lv' (st) r) : J X F Λ S d pc lv (va_rf o :: st) r := by
  refine J.lift (fun _ hs _ => ok_t hs) (fun hs h => hl ▸ lvS_ok (ok_h hs) h) ?_ hk
  obtain _ | ⟨p, l, e, R, s, m, args, below, meth, c, Q, dC, dI, dA, oa, A, nL, c0, s0, ρ0, n0⟩ := X
  · exact trivial
  obtain ⟨hx, hb, hml, hown, hts, hlk, hK, hT, hE, hA, hO, hRc, hRs, hfl, hoa⟩ := G
  intro ρ H locs ls cells slots hW hL k9
  subst hl
  have h2 : ∀ ls', lv_has ls' nL ((i, va_rf (o.map ρ)) :: (cvL ρ lv).filter (fun q => !(q.1 == i) && !(q.1 + 1 == i && q.2.category == 2))) → W p l e R s m args below meth c H locs cells slots Q (F0 m (pc + 2) ls' (st.map (cvV ρ))) := fun ls' h' => k9 ls' (by rw [cvL_set, cvV_rf]; exact h')
  rw [List.map_cons, cvV_rf]
  cases o with
  | none => exact lv_astoreN hx hb hd hL (by omega) rfl h2
  | some a => exact lv_astore hx hb hd hL (by omega) rfl h2
theorem JR_iinc (G : Ctx X F own cc nN) {i : Nat} {n : Int} {x v : Int32} (hg : lvG lv i = some (.int x)) (hv : x + Int32.ofInt n = v) (hn : i < nN) (hl : lvS lv i (.int v) = lv') (hd : decode cc pc = .ok (.iinc i n, 3)) (hk : J X F Λ S d (pc + 3) lv' (st) r) : J X F Λ S d pc lv (st) r := by
  refine J.lift (fun _ hs _ => hs) (fun _ h => hl ▸ lvS_ok okV_int h) ?_ hk
  obtain _ | ⟨p, l, e, R, s, m, args, below, meth, c, Q, dC, dI, dA, oa, A, nL, c0, s0, ρ0, n0⟩ := X
  · exact trivial
  obtain ⟨hx, hb, hml, hown, hts, hlk, hK, hT, hE, hA, hO, hRc, hRs, hfl, hoa⟩ := G
  intro ρ H locs ls cells slots hW hL k9
  subst hl
  obtain ⟨k0, hk0⟩ := List.getElem?_of_mem (List.mem_map.mpr ⟨_, lvG_mem hg, rfl⟩ : (i, cvV ρ (.int x)) ∈ cvL ρ lv)
  exact lv_iinc hx hb hd hL (k := k0) hk0 hv (by omega) rfl (fun ls' h' => k9 ls' (by rw [cvL_set]; exact h'))
theorem JR_iadd (G : Ctx X F own cc nN) {x y : Int32} (hd : decode cc pc = .ok (.iadd, 1)) (hk : J X F Λ S d (pc + 1) lv (.int (x + y) :: st) r) : J X F Λ S d pc lv (.int y :: .int x :: st) r := by
  refine J.lift (fun _ hs _ => ok_i (ok_t (ok_t hs))) (fun _ h => h) ?_ hk
  obtain _ | ⟨p, l, e, R, s, m, args, below, meth, c, Q, dC, dI, dA, oa, A, nL, c0, s0, ρ0, n0⟩ := X
  · exact trivial
  obtain ⟨hx, hb, hml, hown, hts, hlk, hK, hT, hE, hA, hO, hRc, hRs, hfl, hoa⟩ := G
  intro ρ H locs ls cells slots hW hL k9
  exact lv_iadd hx hb hd (k9 ls hL)
theorem JR_isub (G : Ctx X F own cc nN) {x y : Int32} (hd : decode cc pc = .ok (.isub, 1)) (hk : J X F Λ S d (pc + 1) lv (.int (x - y) :: st) r) : J X F Λ S d pc lv (.int y :: .int x :: st) r := by
  refine J.lift (fun _ hs _ => ok_i (ok_t (ok_t hs))) (fun _ h => h) ?_ hk
  obtain _ | ⟨p, l, e, R, s, m, args, below, meth, c, Q, dC, dI, dA, oa, A, nL, c0, s0, ρ0, n0⟩ := X
  · exact trivial
  obtain ⟨hx, hb, hml, hown, hts, hlk, hK, hT, hE, hA, hO, hRc, hRs, hfl, hoa⟩ := G
  intro ρ H locs ls cells slots hW hL k9
  exact lv_isub hx hb hd (k9 ls hL)
theorem JR_imul (G : Ctx X F own cc nN) {x y : Int32} (hd : decode cc pc = .ok (.imul, 1)) (hk : J X F Λ S d (pc + 1) lv (.int (x * y) :: st) r) : J X F Λ S d pc lv (.int y :: .int x :: st) r := by
  refine J.lift (fun _ hs _ => ok_i (ok_t (ok_t hs))) (fun _ h => h) ?_ hk
  obtain _ | ⟨p, l, e, R, s, m, args, below, meth, c, Q, dC, dI, dA, oa, A, nL, c0, s0, ρ0, n0⟩ := X
  · exact trivial
  obtain ⟨hx, hb, hml, hown, hts, hlk, hK, hT, hE, hA, hO, hRc, hRs, hfl, hoa⟩ := G
  intro ρ H locs ls cells slots hW hL k9
  exact lv_imul hx hb hd (k9 ls hL)
theorem JR_iand (G : Ctx X F own cc nN) {x y : Int32} (hd : decode cc pc = .ok (.iand, 1)) (hk : J X F Λ S d (pc + 1) lv (.int (x &&& y) :: st) r) : J X F Λ S d pc lv (.int y :: .int x :: st) r := by
  refine J.lift (fun _ hs _ => ok_i (ok_t (ok_t hs))) (fun _ h => h) ?_ hk
  obtain _ | ⟨p, l, e, R, s, m, args, below, meth, c, Q, dC, dI, dA, oa, A, nL, c0, s0, ρ0, n0⟩ := X
  · exact trivial
  obtain ⟨hx, hb, hml, hown, hts, hlk, hK, hT, hE, hA, hO, hRc, hRs, hfl, hoa⟩ := G
  intro ρ H locs ls cells slots hW hL k9
  exact lv_iand hx hb hd (k9 ls hL)
theorem JR_ior (G : Ctx X F own cc nN) {x y : Int32} (hd : decode cc pc = .ok (.ior, 1)) (hk : J X F Λ S d (pc + 1) lv (.int (x ||| y) :: st) r) : J X F Λ S d pc lv (.int y :: .int x :: st) r := by
  refine J.lift (fun _ hs _ => ok_i (ok_t (ok_t hs))) (fun _ h => h) ?_ hk
  obtain _ | ⟨p, l, e, R, s, m, args, below, meth, c, Q, dC, dI, dA, oa, A, nL, c0, s0, ρ0, n0⟩ := X
  · exact trivial
  obtain ⟨hx, hb, hml, hown, hts, hlk, hK, hT, hE, hA, hO, hRc, hRs, hfl, hoa⟩ := G
  intro ρ H locs ls cells slots hW hL k9
  exact lv_ior hx hb hd (k9 ls hL)
theorem JR_ixor (G : Ctx X F own cc nN) {x y : Int32} (hd : decode cc pc = .ok (.ixor, 1)) (hk : J X F Λ S d (pc + 1) lv (.int (x ^^^ y) :: st) r) : J X F Λ S d pc lv (.int y :: .int x :: st) r := by
  refine J.lift (fun _ hs _ => ok_i (ok_t (ok_t hs))) (fun _ h => h) ?_ hk
  obtain _ | ⟨p, l, e, R, s, m, args, below, meth, c, Q, dC, dI, dA, oa, A, nL, c0, s0, ρ0, n0⟩ := X
  · exact trivial
  obtain ⟨hx, hb, hml, hown, hts, hlk, hK, hT, hE, hA, hO, hRc, hRs, hfl, hoa⟩ := G
  intro ρ H locs ls cells slots hW hL k9
  exact lv_ixor hx hb hd (k9 ls hL)
theorem JR_ishl (G : Ctx X F own cc nN) {x y : Int32} (hd : decode cc pc = .ok (.ishl, 1)) (hk : J X F Λ S d (pc + 1) lv (.int (x <<< (y &&& 31)) :: st) r) : J X F Λ S d pc lv (.int y :: .int x :: st) r := by
  refine J.lift (fun _ hs _ => ok_i (ok_t (ok_t hs))) (fun _ h => h) ?_ hk
  obtain _ | ⟨p, l, e, R, s, m, args, below, meth, c, Q, dC, dI, dA, oa, A, nL, c0, s0, ρ0, n0⟩ := X
  · exact trivial
  obtain ⟨hx, hb, hml, hown, hts, hlk, hK, hT, hE, hA, hO, hRc, hRs, hfl, hoa⟩ := G
  intro ρ H locs ls cells slots hW hL k9
  exact lv_ishl hx hb hd (k9 ls hL)
theorem JR_ishr (G : Ctx X F own cc nN) {x y : Int32} (hd : decode cc pc = .ok (.ishr, 1)) (hk : J X F Λ S d (pc + 1) lv (.int (x >>> (y &&& 31)) :: st) r) : J X F Λ S d pc lv (.int y :: .int x :: st) r := by
  refine J.lift (fun _ hs _ => ok_i (ok_t (ok_t hs))) (fun _ h => h) ?_ hk
  obtain _ | ⟨p, l, e, R, s, m, args, below, meth, c, Q, dC, dI, dA, oa, A, nL, c0, s0, ρ0, n0⟩ := X
  · exact trivial
  obtain ⟨hx, hb, hml, hown, hts, hlk, hK, hT, hE, hA, hO, hRc, hRs, hfl, hoa⟩ := G
  intro ρ H locs ls cells slots hW hL k9
  exact lv_ishr hx hb hd (k9 ls hL)
theorem JR_iushr (G : Ctx X F own cc nN) {x y : Int32} (hd : decode cc pc = .ok (.iushr, 1)) (hk : J X F Λ S d (pc + 1) lv (.int ((x.toUInt32 >>> (y.toUInt32 &&& Int32.toUInt32 31)).toInt32) :: st) r) : J X F Λ S d pc lv (.int y :: .int x :: st) r := by
  refine J.lift (fun _ hs _ => ok_i (ok_t (ok_t hs))) (fun _ h => h) ?_ hk
  obtain _ | ⟨p, l, e, R, s, m, args, below, meth, c, Q, dC, dI, dA, oa, A, nL, c0, s0, ρ0, n0⟩ := X
  · exact trivial
  obtain ⟨hx, hb, hml, hown, hts, hlk, hK, hT, hE, hA, hO, hRc, hRs, hfl, hoa⟩ := G
  intro ρ H locs ls cells slots hW hL k9
  exact lv_iushr hx hb hd rfl (k9 ls hL)
theorem JR_idiv (G : Ctx X F own cc nN) {x y : Int32} (hne : ¬ y = 0) (hd : decode cc pc = .ok (.idiv, 1)) (hk : J X F Λ S d (pc + 1) lv (.int (x / y) :: st) r) : J X F Λ S d pc lv (.int y :: .int x :: st) r := by
  refine J.lift (fun _ hs _ => ok_i (ok_t (ok_t hs))) (fun _ h => h) ?_ hk
  obtain _ | ⟨p, l, e, R, s, m, args, below, meth, c, Q, dC, dI, dA, oa, A, nL, c0, s0, ρ0, n0⟩ := X
  · exact trivial
  obtain ⟨hx, hb, hml, hown, hts, hlk, hK, hT, hE, hA, hO, hRc, hRs, hfl, hoa⟩ := G
  intro ρ H locs ls cells slots hW hL k9
  exact lv_idiv hx hb hd hne (k9 ls hL)
theorem JR_irem (G : Ctx X F own cc nN) {x y : Int32} (hne : ¬ y = 0) (hd : decode cc pc = .ok (.irem, 1)) (hk : J X F Λ S d (pc + 1) lv (.int (irm x y) :: st) r) : J X F Λ S d pc lv (.int y :: .int x :: st) r := by
  refine J.lift (fun _ hs _ => ok_i (ok_t (ok_t hs))) (fun _ h => h) ?_ hk
  obtain _ | ⟨p, l, e, R, s, m, args, below, meth, c, Q, dC, dI, dA, oa, A, nL, c0, s0, ρ0, n0⟩ := X
  · exact trivial
  obtain ⟨hx, hb, hml, hown, hts, hlk, hK, hT, hE, hA, hO, hRc, hRs, hfl, hoa⟩ := G
  intro ρ H locs ls cells slots hW hL k9
  exact lv_irem hx hb hd hne (k9 ls hL)
theorem JR_i2l (G : Ctx X F own cc nN) {x : Int32} (hd : decode cc pc = .ok (.i2l, 1)) (hk : J X F Λ S d (pc + 1) lv (.long x.toInt64 :: st) r) : J X F Λ S d pc lv (.int x :: st) r := by
  refine J.lift (fun _ hs _ => ok_l (ok_t hs)) (fun _ h => h) ?_ hk
  obtain _ | ⟨p, l, e, R, s, m, args, below, meth, c, Q, dC, dI, dA, oa, A, nL, c0, s0, ρ0, n0⟩ := X
  · exact trivial
  obtain ⟨hx, hb, hml, hown, hts, hlk, hK, hT, hE, hA, hO, hRc, hRs, hfl, hoa⟩ := G
  intro ρ H locs ls cells slots hW hL k9
  exact lv_i2l hx hb hd rfl (k9 ls hL)
theorem JR_i2b (G : Ctx X F own cc nN) {x : Int32} (hd : decode cc pc = .ok (.i2b, 1)) (hk : J X F Λ S d (pc + 1) lv (.int x.toInt8.toInt32 :: st) r) : J X F Λ S d pc lv (.int x :: st) r := by
  refine J.lift (fun _ hs _ => ok_i (ok_t hs)) (fun _ h => h) ?_ hk
  obtain _ | ⟨p, l, e, R, s, m, args, below, meth, c, Q, dC, dI, dA, oa, A, nL, c0, s0, ρ0, n0⟩ := X
  · exact trivial
  obtain ⟨hx, hb, hml, hown, hts, hlk, hK, hT, hE, hA, hO, hRc, hRs, hfl, hoa⟩ := G
  intro ρ H locs ls cells slots hW hL k9
  exact lv_i2b hx hb hd rfl (k9 ls hL)
theorem JR_i2f (G : Ctx X F own cc nN) {x : Int32} (hd : decode cc pc = .ok (.i2f, 1)) (hk : J X F Λ S d (pc + 1) lv (.float (FP.i2f x) :: st) r) : J X F Λ S d pc lv (.int x :: st) r := by
  refine J.lift (fun _ hs _ => ok_f (ok_t hs)) (fun _ h => h) ?_ hk
  obtain _ | ⟨p, l, e, R, s, m, args, below, meth, c, Q, dC, dI, dA, oa, A, nL, c0, s0, ρ0, n0⟩ := X
  · exact trivial
  obtain ⟨hx, hb, hml, hown, hts, hlk, hK, hT, hE, hA, hO, hRc, hRs, hfl, hoa⟩ := G
  intro ρ H locs ls cells slots hW hL k9
  exact lv_i2f hx hb hd (k9 ls hL)
theorem JR_i2d (G : Ctx X F own cc nN) {x : Int32} (hd : decode cc pc = .ok (.i2d, 1)) (hk : J X F Λ S d (pc + 1) lv (.double (FP.i2d x) :: st) r) : J X F Λ S d pc lv (.int x :: st) r := by
  refine J.lift (fun _ hs _ => ok_d (ok_t hs)) (fun _ h => h) ?_ hk
  obtain _ | ⟨p, l, e, R, s, m, args, below, meth, c, Q, dC, dI, dA, oa, A, nL, c0, s0, ρ0, n0⟩ := X
  · exact trivial
  obtain ⟨hx, hb, hml, hown, hts, hlk, hK, hT, hE, hA, hO, hRc, hRs, hfl, hoa⟩ := G
  intro ρ H locs ls cells slots hW hL k9
  exact lv_i2d hx hb hd (k9 ls hL)
theorem JR_f2i (G : Ctx X F own cc nN) {x : UInt32} (hd : decode cc pc = .ok (.f2i, 1)) (hk : J X F Λ S d (pc + 1) lv (.int (FP.f2i x) :: st) r) : J X F Λ S d pc lv (.float x :: st) r := by
  refine J.lift (fun _ hs _ => ok_i (ok_t hs)) (fun _ h => h) ?_ hk
  obtain _ | ⟨p, l, e, R, s, m, args, below, meth, c, Q, dC, dI, dA, oa, A, nL, c0, s0, ρ0, n0⟩ := X
  · exact trivial
  obtain ⟨hx, hb, hml, hown, hts, hlk, hK, hT, hE, hA, hO, hRc, hRs, hfl, hoa⟩ := G
  intro ρ H locs ls cells slots hW hL k9
  exact lv_f2i hx hb hd (k9 ls hL)
theorem JR_f2d (G : Ctx X F own cc nN) {x : UInt32} {z : UInt64} (hz : gd (FP.f2d x) = some z) (hd : decode cc pc = .ok (.f2d, 1)) (hk : J X F Λ S d (pc + 1) lv (.double z :: st) r) : J X F Λ S d pc lv (.float x :: st) r := by
  refine J.lift (fun _ hs _ => ok_d (ok_t hs)) (fun _ h => h) ?_ hk
  obtain _ | ⟨p, l, e, R, s, m, args, below, meth, c, Q, dC, dI, dA, oa, A, nL, c0, s0, ρ0, n0⟩ := X
  · exact trivial
  obtain ⟨hx, hb, hml, hown, hts, hlk, hK, hT, hE, hA, hO, hRc, hRs, hfl, hoa⟩ := G
  intro ρ H locs ls cells slots hW hL k9
  obtain ⟨rfl, h2⟩ := gd_at hz
  exact lv_f2d hx hb hd h2 (k9 ls hL)
theorem JR_fadd (G : Ctx X F own cc nN) {x y z : UInt32} (hz : gf (FP.fadd x y) = some z) (hd : decode cc pc = .ok (.fadd, 1)) (hk : J X F Λ S d (pc + 1) lv (.float z :: st) r) : J X F Λ S d pc lv (.float y :: .float x :: st) r := by
  refine J.lift (fun _ hs _ => ok_f (ok_t (ok_t hs))) (fun _ h => h) ?_ hk
  obtain _ | ⟨p, l, e, R, s, m, args, below, meth, c, Q, dC, dI, dA, oa, A, nL, c0, s0, ρ0, n0⟩ := X
  · exact trivial
  obtain ⟨hx, hb, hml, hown, hts, hlk, hK, hT, hE, hA, hO, hRc, hRs, hfl, hoa⟩ := G
  intro ρ H locs ls cells slots hW hL k9
  obtain ⟨rfl, h2⟩ := gf_at hz
  exact lv_fadd hx hb hd h2 (k9 ls hL)
theorem JR_fsub (G : Ctx X F own cc nN) {x y z : UInt32} (hz : gf (FP.fsub x y) = some z) (hd : decode cc pc = .ok (.fsub, 1)) (hk : J X F Λ S d (pc + 1) lv (.float z :: st) r) : J X F Λ S d pc lv (.float y :: .float x :: st) r := by
  refine J.lift (fun _ hs _ => ok_f (ok_t (ok_t hs))) (fun _ h => h) ?_ hk
  obtain _ | ⟨p, l, e, R, s, m, args, below, meth, c, Q, dC, dI, dA, oa, A, nL, c0, s0, ρ0, n0⟩ := X
  · exact trivial
  obtain ⟨hx, hb, hml, hown, hts, hlk, hK, hT, hE, hA, hO, hRc, hRs, hfl, hoa⟩ := G
  intro ρ H locs ls cells slots hW hL k9
  obtain ⟨rfl, h2⟩ := gf_at hz
  exact lv_fsub hx hb hd h2 (k9 ls hL)
theorem JR_fmul (G : Ctx X F own cc nN) {x y z : UInt32} (hz : gf (FP.fmul x y) = some z) (hd : decode cc pc = .ok (.fmul, 1)) (hk : J X F Λ S d (pc + 1) lv (.float z :: st) r) : J X F Λ S d pc lv (.float y :: .float x :: st) r := by
  refine J.lift (fun _ hs _ => ok_f (ok_t (ok_t hs))) (fun _ h => h) ?_ hk
  obtain _ | ⟨p, l, e, R, s, m, args, below, meth, c, Q, dC, dI, dA, oa, A, nL, c0, s0, ρ0, n0⟩ := X
  · exact trivial
  obtain ⟨hx, hb, hml, hown, hts, hlk, hK, hT, hE, hA, hO, hRc, hRs, hfl, hoa⟩ := G
  intro ρ H locs ls cells slots hW hL k9
  obtain ⟨rfl, h2⟩ := gf_at hz
  exact lv_fmul hx hb hd h2 (k9 ls hL)
theorem JR_fdiv (G : Ctx X F own cc nN) {x y z : UInt32} (hz : gf (FP.fdiv x y) = some z) (hd : decode cc pc = .ok (.fdiv, 1)) (hk : J X F Λ S d (pc + 1) lv (.float z :: st) r) : J X F Λ S d pc lv (.float y :: .float x :: st) r := by
  refine J.lift (fun _ hs _ => ok_f (ok_t (ok_t hs))) (fun _ h => h) ?_ hk
  obtain _ | ⟨p, l, e, R, s, m, args, below, meth, c, Q, dC, dI, dA, oa, A, nL, c0, s0, ρ0, n0⟩ := X
  · exact trivial
  obtain ⟨hx, hb, hml, hown, hts, hlk, hK, hT, hE, hA, hO, hRc, hRs, hfl, hoa⟩ := G
  intro ρ H locs ls cells slots hW hL k9
  obtain ⟨rfl, h2⟩ := gf_at hz
  exact lv_fdiv hx hb hd h2 (k9 ls hL)
theorem JR_dadd (G : Ctx X F own cc nN) {x y z : UInt64} (hz : gd (FP.dadd x y) = some z) (hd : decode cc pc = .ok (.dadd, 1)) (hk : J X F Λ S d (pc + 1) lv (.double z :: st) r) : J X F Λ S d pc lv (.double y :: .double x :: st) r := by
  refine J.lift (fun _ hs _ => ok_d (ok_t (ok_t hs))) (fun _ h => h) ?_ hk
  obtain _ | ⟨p, l, e, R, s, m, args, below, meth, c, Q, dC, dI, dA, oa, A, nL, c0, s0, ρ0, n0⟩ := X
  · exact trivial
  obtain ⟨hx, hb, hml, hown, hts, hlk, hK, hT, hE, hA, hO, hRc, hRs, hfl, hoa⟩ := G
  intro ρ H locs ls cells slots hW hL k9
  obtain ⟨rfl, h2⟩ := gd_at hz
  exact lv_dadd hx hb hd h2 (k9 ls hL)
theorem JR_ddiv (G : Ctx X F own cc nN) {x y z : UInt64} (hz : gd (FP.ddiv x y) = some z) (hd : decode cc pc = .ok (.ddiv, 1)) (hk : J X F Λ S d (pc + 1) lv (.double z :: st) r) : J X F Λ S d pc lv (.double y :: .double x :: st) r := by
  refine J.lift (fun _ hs _ => ok_d (ok_t (ok_t hs))) (fun _ h => h) ?_ hk
  obtain _ | ⟨p, l, e, R, s, m, args, below, meth, c, Q, dC, dI, dA, oa, A, nL, c0, s0, ρ0, n0⟩ := X
  · exact trivial
  obtain ⟨hx, hb, hml, hown, hts, hlk, hK, hT, hE, hA, hO, hRc, hRs, hfl, hoa⟩ := G
  intro ρ H locs ls cells slots hW hL k9
  obtain ⟨rfl, h2⟩ := gd_at hz
  exact lv_ddiv hx hb hd h2 (k9 ls hL)
theorem JR_fcmp (G : Ctx X F own cc nN) {x y : UInt32} {op : CmpOp} (hd : decode cc pc = .ok (.fcmp op, 1)) (hk : J X F Λ S d (pc + 1) lv (.int (Op.cmpValue (FP.fcmp x y) op) :: st) r) : J X F Λ S d pc lv (.float y :: .float x :: st) r := by
  refine J.lift (fun _ hs _ => ok_i (ok_t (ok_t hs))) (fun _ h => h) ?_ hk
  obtain _ | ⟨p, l, e, R, s, m, args, below, meth, c, Q, dC, dI, dA, oa, A, nL, c0, s0, ρ0, n0⟩ := X
  · exact trivial
  obtain ⟨hx, hb, hml, hown, hts, hlk, hK, hT, hE, hA, hO, hRc, hRs, hfl, hoa⟩ := G
  intro ρ H locs ls cells slots hW hL k9
  exact lv_fcmp hx hb hd (k9 ls hL)
theorem JR_lcmp (G : Ctx X F own cc nN) {x y : Int64} (hd : decode cc pc = .ok (.lcmp, 1)) (hk : J X F Λ S d (pc + 1) lv (.int (lg_cmp x y) :: st) r) : J X F Λ S d pc lv (.long y :: .long x :: st) r := by
  refine J.lift (fun _ hs _ => ok_i (ok_t (ok_t hs))) (fun _ h => h) ?_ hk
  obtain _ | ⟨p, l, e, R, s, m, args, below, meth, c, Q, dC, dI, dA, oa, A, nL, c0, s0, ρ0, n0⟩ := X
  · exact trivial
  obtain ⟨hx, hb, hml, hown, hts, hlk, hK, hT, hE, hA, hO, hRc, hRs, hfl, hoa⟩ := G
  intro ρ H locs ls cells slots hW hL k9
  exact W.lcmp hx hb hd (k9 ls hL)
theorem JR_dup (G : Ctx X F own cc nN) {v : Value} (hv : v.category = 1) (hd : decode cc pc = .ok (.dup, 1)) (hk : J X F Λ S d (pc + 1) lv (v :: v :: st) r) : J X F Λ S d pc lv (v :: st) r := by
  refine J.lift (fun _ hs _ => List.forall_mem_cons.mpr ⟨ok_h hs, hs⟩) (fun _ h => h) ?_ hk
  obtain _ | ⟨p, l, e, R, s, m, args, below, meth, c, Q, dC, dI, dA, oa, A, nL, c0, s0, ρ0, n0⟩ := X
  · exact trivial
  obtain ⟨hx, hb, hml, hown, hts, hlk, hK, hT, hE, hA, hO, hRc, hRs, hfl, hoa⟩ := G
  intro ρ H locs ls cells slots hW hL k9
  exact lv_dup hx hb hd (cvV_cat.trans hv) (k9 ls hL)
theorem JR_pop (G : Ctx X F own cc nN) {v : Value} (hv : v.category = 1) (hd : decode cc pc = .ok (.pop, 1)) (hk : J X F Λ S d (pc + 1) lv (st) r) : J X F Λ S d pc lv (v :: st) r := by
  refine J.lift (fun _ hs _ => ok_t hs) (fun _ h => h) ?_ hk
  obtain _ | ⟨p, l, e, R, s, m, args, below, meth, c, Q, dC, dI, dA, oa, A, nL, c0, s0, ρ0, n0⟩ := X
  · exact trivial
  obtain ⟨hx, hb, hml, hown, hts, hlk, hK, hT, hE, hA, hO, hRc, hRs, hfl, hoa⟩ := G
  intro ρ H locs ls cells slots hW hL k9
  exact lv_pop hx hb hd (cvV_cat.trans hv) (k9 ls hL)
theorem JR_dup_x1 (G : Ctx X F own cc nN) {v w : Value} (hv : v.category = 1) (hw : w.category = 1) (hd : decode cc pc = .ok (.dup_x1, 1)) (hk : J X F Λ S d (pc + 1) lv (v :: w :: v :: st) r) : J X F Λ S d pc lv (v :: w :: st) r := by
  refine J.lift (fun _ hs _ => List.forall_mem_cons.mpr ⟨ok_h hs, List.forall_mem_cons.mpr ⟨ok_h (ok_t hs), List.forall_mem_cons.mpr ⟨ok_h hs, ok_t (ok_t hs)⟩⟩⟩) (fun _ h => h) ?_ hk
  obtain _ | ⟨p, l, e, R, s, m, args, below, meth, c, Q, dC, dI, dA, oa, A, nL, c0, s0, ρ0, n0⟩ := X
  · exact trivial
  obtain ⟨hx, hb, hml, hown, hts, hlk, hK, hT, hE, hA, hO, hRc, hRs, hfl, hoa⟩ := G
  intro ρ H locs ls cells slots hW hL k9
  exact lv_dup_x1 hx hb hd (cvV_cat.trans hv) (cvV_cat.trans hw) (k9 ls hL)
theorem JR_dup2 (G : Ctx X F own cc nN) {v w : Value} (hv : v.category = 1) (hw : w.category = 1) (hd : decode cc pc = .ok (.dup2, 1)) (hk : J X F Λ S d (pc + 1) lv (v :: w :: v :: w :: st) r) : J X F Λ S d pc lv (v :: w :: st) r := by
  refine J.lift (fun _ hs _ => List.forall_mem_cons.mpr ⟨ok_h hs, List.forall_mem_cons.mpr ⟨ok_h (ok_t hs), hs⟩⟩) (fun _ h => h) ?_ hk
  obtain _ | ⟨p, l, e, R, s, m, args, below, meth, c, Q, dC, dI, dA, oa, A, nL, c0, s0, ρ0, n0⟩ := X
  · exact trivial
  obtain ⟨hx, hb, hml, hown, hts, hlk, hK, hT, hE, hA, hO, hRc, hRs, hfl, hoa⟩ := G
  intro ρ H locs ls cells slots hW hL k9
  exact lv_dup2_11 hx hb hd (cvV_cat.trans hv) (cvV_cat.trans hw) (k9 ls hL)
theorem JR_goto (G : Ctx X F own cc nN) {off : Int} {tgt : Nat} (hd : decode cc pc = .ok (.goto off, 3)) (ht : (pc : Int) + off = (tgt : Int)) (hk : J X F Λ S d tgt lv st r) : J X F Λ S d pc lv st r := by
  refine J.lift (fun _ hs _ => hs) (fun _ h => h) ?_ hk
  obtain _ | ⟨p, l, e, R, s, m, args, below, meth, c, Q, dC, dI, dA, oa, A, nL, c0, s0, ρ0, n0⟩ := X
  · exact trivial
  obtain ⟨hx, hb, hml, hown, hts, hlk, hK, hT, hE, hA, hO, hRc, hRs, hfl, hoa⟩ := G
  intro ρ H locs ls cells slots hW hL k9
  exact lv_goto hx hb hd ht (k9 ls hL)
theorem JR_if_eq (G : Ctx X F own cc nN) {x : Int32} {off : Int} {tgt : Nat} {r1 r2 : Option β} (hd : decode cc pc = .ok (.ifCond .eq off, 3)) (ht : (pc : Int) + off = (tgt : Int)) (h1 : x = 0 → J X F Λ S d tgt lv st r1) (h2 : ¬ (x = 0) → J X F Λ S d (pc + 3) lv st r2) : J X F Λ S d pc lv (.int x :: st) (if x = 0 then r1 else r2) := by
  refine J.br (fun hs => ok_t hs) ?_ h1 h2
  obtain _ | ⟨p, l, e, R, s, m, args, below, meth, c, Q, dC, dI, dA, oa, A, nL, c0, s0, ρ0, n0⟩ := X
  · exact trivial
  obtain ⟨hx, hb, hml, hown, hts, hlk, hK, hT, hE, hA, hO, hRc, hRs, hfl, hoa⟩ := G
  intro ρ H locs ls cells slots k1 k2
  exact lv_if_eq hx hb hd ht k1 k2
theorem JR_if_lt (G : Ctx X F own cc nN) {x : Int32} {off : Int} {tgt : Nat} {r1 r2 : Option β} (hd : decode cc pc = .ok (.ifCond .lt off, 3)) (ht : (pc : Int) + off = (tgt : Int)) (h1 : x < 0 → J X F Λ S d tgt lv st r1) (h2 : ¬ (x < 0) → J X F Λ S d (pc + 3) lv st r2) : J X F Λ S d pc lv (.int x :: st) (if x < 0 then r1 else r2) := by
  refine J.br (fun hs => ok_t hs) ?_ h1 h2
  obtain _ | ⟨p, l, e, R, s, m, args, below, meth, c, Q, dC, dI, dA, oa, A, nL, c0, s0, ρ0, n0⟩ := X
  · exact trivial
  obtain ⟨hx, hb, hml, hown, hts, hlk, hK, hT, hE, hA, hO, hRc, hRs, hfl, hoa⟩ := G
  intro ρ H locs ls cells slots k1 k2
  exact lv_if_lt hx hb hd ht k1 k2
theorem JR_if_ge (G : Ctx X F own cc nN) {x : Int32} {off : Int} {tgt : Nat} {r1 r2 : Option β} (hd : decode cc pc = .ok (.ifCond .ge off, 3)) (ht : (pc : Int) + off = (tgt : Int)) (h1 : 0 ≤ x → J X F Λ S d tgt lv st r1) (h2 : ¬ (0 ≤ x) → J X F Λ S d (pc + 3) lv st r2) : J X F Λ S d pc lv (.int x :: st) (if 0 ≤ x then r1 else r2) := by
  refine J.br (fun hs => ok_t hs) ?_ h1 h2
  obtain _ | ⟨p, l, e, R, s, m, args, below, meth, c, Q, dC, dI, dA, oa, A, nL, c0, s0, ρ0, n0⟩ := X
  · exact trivial
  obtain ⟨hx, hb, hml, hown, hts, hlk, hK, hT, hE, hA, hO, hRc, hRs, hfl, hoa⟩ := G
  intro ρ H locs ls cells slots k1 k2
  exact lv_if_ge hx hb hd ht k1 k2
theorem JR_if_gt (G : Ctx X F own cc nN) {x : Int32} {off : Int} {tgt : Nat} {r1 r2 : Option β} (hd : decode cc pc = .ok (.ifCond .gt off, 3)) (ht : (pc : Int) + off = (tgt : Int)) (h1 : 0 < x → J X F Λ S d tgt lv st r1) (h2 : ¬ (0 < x) → J X F Λ S d (pc + 3) lv st r2) : J X F Λ S d pc lv (.int x :: st) (if 0 < x then r1 else r2) := by
  refine J.br (fun hs => ok_t hs) ?_ h1 h2
  obtain _ | ⟨p, l, e, R, s, m, args, below, meth, c, Q, dC, dI, dA, oa, A, nL, c0, s0, ρ0, n0⟩ := X
  · exact trivial
  obtain ⟨hx, hb, hml, hown, hts, hlk, hK, hT, hE, hA, hO, hRc, hRs, hfl, hoa⟩ := G
  intro ρ H locs ls cells slots k1 k2
  exact lv_if_gt hx hb hd ht k1 k2
theorem JR_if_le (G : Ctx X F own cc nN) {x : Int32} {off : Int} {tgt : Nat} {r1 r2 : Option β} (hd : decode cc pc = .ok (.ifCond .le off, 3)) (ht : (pc : Int) + off = (tgt : Int)) (h1 : x ≤ 0 → J X F Λ S d tgt lv st r1) (h2 : ¬ (x ≤ 0) → J X F Λ S d (pc + 3) lv st r2) : J X F Λ S d pc lv (.int x :: st) (if x ≤ 0 then r1 else r2) := by
  refine J.br (fun hs => ok_t hs) ?_ h1 h2
  obtain _ | ⟨p, l, e, R, s, m, args, below, meth, c, Q, dC, dI, dA, oa, A, nL, c0, s0, ρ0, n0⟩ := X
  · exact trivial
  obtain ⟨hx, hb, hml, hown, hts, hlk, hK, hT, hE, hA, hO, hRc, hRs, hfl, hoa⟩ := G
  intro ρ H locs ls cells slots k1 k2
  exact lv_if_le hx hb hd ht k1 k2
theorem JR_if_ne (G : Ctx X F own cc nN) {x : Int32} {off : Int} {tgt : Nat} {r1 r2 : Option β} (hd : decode cc pc = .ok (.ifCond .ne off, 3)) (ht : (pc : Int) + off = (tgt : Int)) (h1 : ¬ x = 0 → J X F Λ S d tgt lv st r1) (h2 : ¬ (¬ x = 0) → J X F Λ S d (pc + 3) lv st r2) : J X F Λ S d pc lv (.int x :: st) (if ¬ x = 0 then r1 else r2) := by
  refine J.br (fun hs => ok_t hs) ?_ h1 h2
  obtain _ | ⟨p, l, e, R, s, m, args, below, meth, c, Q, dC, dI, dA, oa, A, nL, c0, s0, ρ0, n0⟩ := X
  · exact trivial
  obtain ⟨hx, hb, hml, hown, hts, hlk, hK, hT, hE, hA, hO, hRc, hRs, hfl, hoa⟩ := G
  intro ρ H locs ls cells slots k1 k2
  exact lv_if_ne hx hb hd ht k1 (fun q => k2 (fun z => z q))
theorem JR_icmp_eq (G : Ctx X F own cc nN) {x y : Int32} {off : Int} {tgt : Nat} {r1 r2 : Option β} (hd : decode cc pc = .ok (.if_icmp .eq off, 3)) (ht : (pc : Int) + off = (tgt : Int)) (h1 : x = y → J X F Λ S d tgt lv st r1) (h2 : ¬ (x = y) → J X F Λ S d (pc + 3) lv st r2) : J X F Λ S d pc lv (.int y :: .int x :: st) (if x = y then r1 else r2) := by
  refine J.br (fun hs => ok_t (ok_t hs)) ?_ h1 h2
  obtain _ | ⟨p, l, e, R, s, m, args, below, meth, c, Q, dC, dI, dA, oa, A, nL, c0, s0, ρ0, n0⟩ := X
  · exact trivial
  obtain ⟨hx, hb, hml, hown, hts, hlk, hK, hT, hE, hA, hO, hRc, hRs, hfl, hoa⟩ := G
  intro ρ H locs ls cells slots k1 k2
  exact lv_icmp_eq hx hb hd ht k1 k2
theorem JR_icmp_lt (G : Ctx X F own cc nN) {x y : Int32} {off : Int} {tgt : Nat} {r1 r2 : Option β} (hd : decode cc pc = .ok (.if_icmp .lt off, 3)) (ht : (pc : Int) + off = (tgt : Int)) (h1 : x < y → J X F Λ S d tgt lv st r1) (h2 : ¬ (x < y) → J X F Λ S d (pc + 3) lv st r2) : J X F Λ S d pc lv (.int y :: .int x :: st) (if x < y then r1 else r2) := by
  refine J.br (fun hs => ok_t (ok_t hs)) ?_ h1 h2
  obtain _ | ⟨p, l, e, R, s, m, args, below, meth, c, Q, dC, dI, dA, oa, A, nL, c0, s0, ρ0, n0⟩ := X
  · exact trivial
  obtain ⟨hx, hb, hml, hown, hts, hlk, hK, hT, hE, hA, hO, hRc, hRs, hfl, hoa⟩ := G
  intro ρ H locs ls cells slots k1 k2
  exact lv_icmp_lt hx hb hd ht k1 k2
theorem JR_icmp_ge (G : Ctx X F own cc nN) {x y : Int32} {off : Int} {tgt : Nat} {r1 r2 : Option β} (hd : decode cc pc = .ok (.if_icmp .ge off, 3)) (ht : (pc : Int) + off = (tgt : Int)) (h1 : y ≤ x → J X F Λ S d tgt lv st r1) (h2 : ¬ (y ≤ x) → J X F Λ S d (pc + 3) lv st r2) : J X F Λ S d pc lv (.int y :: .int x :: st) (if y ≤ x then r1 else r2) := by
  refine J.br (fun hs => ok_t (ok_t hs)) ?_ h1 h2
  obtain _ | ⟨p, l, e, R, s, m, args, below, meth, c, Q, dC, dI, dA, oa, A, nL, c0, s0, ρ0, n0⟩ := X
  · exact trivial
  obtain ⟨hx, hb, hml, hown, hts, hlk, hK, hT, hE, hA, hO, hRc, hRs, hfl, hoa⟩ := G
  intro ρ H locs ls cells slots k1 k2
  exact lv_icmp_ge hx hb hd ht k1 k2
theorem JR_icmp_gt (G : Ctx X F own cc nN) {x y : Int32} {off : Int} {tgt : Nat} {r1 r2 : Option β} (hd : decode cc pc = .ok (.if_icmp .gt off, 3)) (ht : (pc : Int) + off = (tgt : Int)) (h1 : y < x → J X F Λ S d tgt lv st r1) (h2 : ¬ (y < x) → J X F Λ S d (pc + 3) lv st r2) : J X F Λ S d pc lv (.int y :: .int x :: st) (if y < x then r1 else r2) := by
  refine J.br (fun hs => ok_t (ok_t hs)) ?_ h1 h2
  obtain _ | ⟨p, l, e, R, s, m, args, below, meth, c, Q, dC, dI, dA, oa, A, nL, c0, s0, ρ0, n0⟩ := X
  · exact trivial
  obtain ⟨hx, hb, hml, hown, hts, hlk, hK, hT, hE, hA, hO, hRc, hRs, hfl, hoa⟩ := G
  intro ρ H locs ls cells slots k1 k2
  exact lv_icmp_gt hx hb hd ht k1 k2
theorem JR_icmp_le (G : Ctx X F own cc nN) {x y : Int32} {off : Int} {tgt : Nat} {r1 r2 : Option β} (hd : decode cc pc = .ok (.if_icmp .le off, 3)) (ht : (pc : Int) + off = (tgt : Int)) (h1 : x ≤ y → J X F Λ S d tgt lv st r1) (h2 : ¬ (x ≤ y) → J X F Λ S d (pc + 3) lv st r2) : J X F Λ S d pc lv (.int y :: .int x :: st) (if x ≤ y then r1 else r2) := by
  refine J.br (fun hs => ok_t (ok_t hs)) ?_ h1 h2
  obtain _ | ⟨p, l, e, R, s, m, args, below, meth, c, Q, dC, dI, dA, oa, A, nL, c0, s0, ρ0, n0⟩ := X
  · exact trivial
  obtain ⟨hx, hb, hml, hown, hts, hlk, hK, hT, hE, hA, hO, hRc, hRs, hfl, hoa⟩ := G
  intro ρ H locs ls cells slots k1 k2
  exact lv_icmp_le hx hb hd ht k1 k2
theorem JR_icmp_ne (G : Ctx X F own cc nN) {x y : Int32} {off : Int} {tgt : Nat} {r1 r2 : Option β} (hd : decode cc pc = .ok (.if_icmp .ne off, 3)) (ht : (pc : Int) + off = (tgt : Int)) (h1 : ¬ x = y → J X F Λ S d tgt lv st r1) (h2 : ¬ (¬ x = y) → J X F Λ S d (pc + 3) lv st r2) : J X F Λ S d pc lv (.int y :: .int x :: st) (if ¬ x = y then r1 else r2) := by
  refine J.br (fun hs => ok_t (ok_t hs)) ?_ h1 h2
  obtain _ | ⟨p, l, e, R, s, m, args, below, meth, c, Q, dC, dI, dA, oa, A, nL, c0, s0, ρ0, n0⟩ := X
  · exact trivial
  obtain ⟨hx, hb, hml, hown, hts, hlk, hK, hT, hE, hA, hO, hRc, hRs, hfl, hoa⟩ := G
  intro ρ H locs ls cells slots k1 k2
  exact lv_icmp_ne hx hb hd ht k1 (fun q => k2 (fun z => z q))
theorem JR_acmp_neE (G : Ctx X F own cc nN) {off : Int} {x : Option Nat} (hd : decode cc pc = .ok (.if_acmp .ne off, 3)) {tgt : Nat} (ht : (pc : Int) + off = (tgt : Int)) (hk : J X F Λ S d (pc + 3) lv st r) : J X F Λ S d pc lv (va_rf x :: va_rf x :: st) r := by
  refine J.lift (fun _ hs _ => ok_t (ok_t hs)) (fun _ h => h) ?_ hk
  obtain _ | ⟨p, l, e, R, s, m, args, below, meth, c, Q, dC, dI, dA, oa, A, nL, c0, s0, ρ0, n0⟩ := X
  · exact trivial
  obtain ⟨hx, hb, hml, hown, hts, hlk, hK, hT, hE, hA, hO, hRc, hRs, hfl, hoa⟩ := G
  intro ρ H locs ls cells slots hW hL k9
  rw [List.map_cons, List.map_cons, cvV_rf]
  exact lv_acmp_ne hx hb hd ht (fun q => absurd rfl q) (fun _ => k9 ls hL)
theorem JR_ifnull (G : Ctx X F own cc nN) {o : Option Nat} {off : Int} {tgt : Nat} {r1 r2 : Option β} (hd : decode cc pc = .ok (.ifnull off, 3)) (ht : (pc : Int) + off = (tgt : Int)) (h1 : o = none → J X F Λ S d tgt lv st r1) (h2 : ¬ (o = none) → J X F Λ S d (pc + 3) lv st r2) : J X F Λ S d pc lv (va_rf o :: st) (if o = none then r1 else r2) := by
  refine J.br (fun hs => ok_t hs) ?_ h1 h2
  obtain _ | ⟨p, l, e, R, s, m, args, below, meth, c, Q, dC, dI, dA, oa, A, nL, c0, s0, ρ0, n0⟩ := X
  · exact trivial
  obtain ⟨hx, hb, hml, hown, hts, hlk, hK, hT, hE, hA, hO, hRc, hRs, hfl, hoa⟩ := G
  intro ρ H locs ls cells slots k1 k2
  rw [List.map_cons, cvV_rf]
  cases o with
  | none => exact lv_ifnullN hx hb hd ht (k1 rfl)
  | some a => exact lv_ifnull hx hb hd (k2 (fun z => nomatch z))
theorem JR_ifnonnull (G : Ctx X F own cc nN) {o : Option Nat} {off : Int} {tgt : Nat} {r1 r2 : Option β} (hd : decode cc pc = .ok (.ifnonnull off, 3)) (ht : (pc : Int) + off = (tgt : Int)) (h1 : ¬ o = none → J X F Λ S d tgt lv st r1) (h2 : ¬ (¬ o = none) → J X F Λ S d (pc + 3) lv st r2) : J X F Λ S d pc lv (va_rf o :: st) (if ¬ o = none then r1 else r2) := by
  refine J.br (fun hs => ok_t hs) ?_ h1 h2
  obtain _ | ⟨p, l, e, R, s, m, args, below, meth, c, Q, dC, dI, dA, oa, A, nL, c0, s0, ρ0, n0⟩ := X
  · exact trivial
  obtain ⟨hx, hb, hml, hown, hts, hlk, hK, hT, hE, hA, hO, hRc, hRs, hfl, hoa⟩ := G
  intro ρ H locs ls cells slots k1 k2
  rw [List.map_cons, cvV_rf]
  cases o with
  | none => exact lv_ifnonnullN hx hb hd (k2 (fun z => z rfl))
  | some a => exact lv_ifnonnull hx hb hd ht (k1 (fun z => nomatch z))
theorem JR_tsIn (G : Ctx X F own cc nN) {dflt hi : Int} {offs : Array Int} {len k tgt : Nat} {x : Int32} {off : Int} (hd : decode cc pc = .ok (.tableswitch dflt 0 hi offs, len)) (hx9 : x = nI k) (hk9 : k < 2 ^ 31) (h2 : (k : Int) ≤ hi) (ho : offs[k]? = some off) (ht : (pc : Int) + off = (tgt : Int)) (hk : J X F Λ S d tgt lv st r) : J X F Λ S d pc lv (.int x :: st) r := by
  refine J.lift (fun _ hs _ => ok_t hs) (fun _ h => h) ?_ hk
  obtain _ | ⟨p, l, e, R, s, m, args, below, meth, c, Q, dC, dI, dA, oa, A, nL, c0, s0, ρ0, n0⟩ := X
  · exact trivial
  obtain ⟨hx, hb, hml, hown, hts, hlk, hK, hT, hE, hA, hO, hRc, hRs, hfl, hoa⟩ := G
  intro ρ H locs ls cells slots hW hL kk
  have e : x.toInt = (k : Int) := by rw [hx9]; exact nI_toInt hk9
  exact lv_tableIn hx hb hd (by rw [e]; omega) (by rw [e]; omega) (by rw [e, show ((k : Int) - 0).toNat = k from by omega]; exact ho) ht (kk ls hL)
theorem JR_tsOut (G : Ctx X F own cc nN) {dflt hi : Int} {offs : Array Int} {len tgt n : Nat} {x : Int32} (hd : decode cc pc = .ok (.tableswitch dflt 0 hi offs, len)) (hn : hi = (n : Int)) (hn9 : n < 2 ^ 31) (hx9 : ∀ k : Nat, k ≤ n → ¬ x = nI k) (ht : (pc : Int) + dflt = (tgt : Int)) (hk : J X F Λ S d tgt lv st r) : J X F Λ S d pc lv (.int x :: st) r := by
  refine J.lift (fun _ hs _ => ok_t hs) (fun _ h => h) ?_ hk
  obtain _ | ⟨p, l, e, R, s, m, args, below, meth, c, Q, dC, dI, dA, oa, A, nL, c0, s0, ρ0, n0⟩ := X
  · exact trivial
  obtain ⟨hx, hb, hml, hown, hts, hlk, hK, hT, hE, hA, hO, hRc, hRs, hfl, hoa⟩ := G
  intro ρ H locs ls cells slots hW hL kk
  refine lv_tableOut hx hb hd ?_ ht (kk ls hL)
  by_cases h0 : x.toInt < 0
  · exact Or.inl h0
  · refine Or.inr (Int.not_le.mp (fun h1 => ?_))
    refine hx9 x.toInt.toNat (by omega) (Int32.toInt_inj.mp ?_)
    rw [nI_toInt (by omega)]
    omega
theorem JR_gI (G : Ctx X F own cc nN) {C ref : String} {T : u_T} {N cn k idx : Nat} (hc : mmCl[cn]? = some (C, T, N)) (hin : ∀ w ∈ u_ws C T N, w ∈ lw_all) (hk9 : k < N) (hr9 : ¬ (50 ≤ cn ∧ cn ≤ 5)) (ht9 : mmK (mmTy cn k) = 0) (hsm : ref = (T k).1 ∨ Cond.sameField ref (T k).1 (T k).2.1 (T k).2.2.1 ∈ lw_all) (hl : Cond.fieldLink own idx ref (T k).2.1 (T k).2.2.1 ∈ lw_all) {o : Option Nat} {v : Nat} (hv : isK S cn o = some v) (hd : decode cc pc = .ok (.getfield idx, 3)) (hk : J X F Λ S d (pc + 3) lv (.int (d.1 v k) :: st) r) : J X F Λ S d pc lv (va_rf o :: st) r := by
  refine J.lift (fun _ hs _ => ok_i (ok_t hs)) (fun _ h => h) ?_ hk
  obtain _ | ⟨p, l, e, R, s, m, args, below, meth, c, Q, dC, dI, dA, oa, A, nL, c0, s0, ρ0, n0⟩ := X
  · exact trivial
  obtain ⟨hx, hb, hml, hown, hts, hlk, hK, hT, hE, hA, hO, hRc, hRs, hfl, hoa⟩ := G
  intro ρ H locs ls cells slots hW hL k9
  obtain ⟨rfl, n, hs⟩ := isK_at hv
  obtain ⟨hc1, hc2⟩ := mm_cl hc
  have hws := mmW_get (dA := dA) (ρ := ρ) (d := d) hs
  rw [mmE_obj hc1] at hws
  have hf := mmF_get (ρ := ρ) (S := S) (d := d) (v := v) (k := k) (by rw [hc2]; exact hk9) hr9
  rw [ht9] at hf
  rw [List.map_cons, cvV_rf]
  refine va_get (D := (dC, dI)) hx hb hts hin hown hK hW.1 v hws hc k hk9 (hts _ hl) (fun x hx9 => hsm.elim (fun q => by rw [q]; exact hx9) (fun q => u_same (hts _ q) x hx9)) hf hd ?_
  exact k9 ls hL
theorem JR_gIN (G : Ctx X F own cc nN) {C ref : String} {T : u_T} {N cn k idx : Nat} (hc : mmCl[cn]? = some (C, T, N)) (hin : ∀ w ∈ u_ws C T N, w ∈ lw_all) (hk9 : k < N) (hr9 : ¬ (50 ≤ cn ∧ cn ≤ 5)) (ht9 : mmK (mmTy cn k) = 0) (hsm : ref = (T k).1 ∨ Cond.sameField ref (T k).1 (T k).2.1 (T k).2.2.1 ∈ lw_all) {host : String} (hl : Cond.fieldLinkNest own idx ref (T k).2.1 (T k).2.2.1 host ∈ lw_tbl) {o : Option Nat} {v : Nat} (hv : isK S cn o = some v) (hd : decode cc pc = .ok (.getfield idx, 3)) (hk : J X F Λ S d (pc + 3) lv (.int (d.1 v k) :: st) r) : J X F Λ S d pc lv (va_rf o :: st) r := by
  refine J.lift (fun _ hs _ => ok_i (ok_t hs)) (fun _ h => h) ?_ hk
  obtain _ | ⟨p, l, e, R, s, m, args, below, meth, c, Q, dC, dI, dA, oa, A, nL, c0, s0, ρ0, n0⟩ := X
  · exact trivial
  obtain ⟨hx, hb, hml, hown, hts, hlk, hK, hT, hE, hA, hO, hRc, hRs, hfl, hoa⟩ := G
  intro ρ H locs ls cells slots hW hL k9
  obtain ⟨rfl, n, hs⟩ := isK_at hv
  obtain ⟨hc1, hc2⟩ := mm_cl hc
  have hws := mmW_get (dA := dA) (ρ := ρ) (d := d) hs
  rw [mmE_obj hc1] at hws
  have hf := mmF_get (ρ := ρ) (S := S) (d := d) (v := v) (k := k) (by rw [hc2]; exact hk9) hr9
  rw [ht9] at hf
  rw [List.map_cons, cvV_rf]
  refine va_getN (D := (dC, dI)) hx hb hts hin hown hK hW.1 v hws hc k hk9 (va_Nw.use rfl (tb_word hT hl rfl)) (fun x hx9 => hsm.elim (fun q => by rw [q]; exact hx9) (fun q => u_same (hts _ q) x hx9)) hf hd ?_
  exact k9 ls hL
theorem JR_gF (G : Ctx X F own cc nN) {C ref : String} {T : u_T} {N cn k idx : Nat} (hc : mmCl[cn]? = some (C, T, N)) (hin : ∀ w ∈ u_ws C T N, w ∈ lw_all) (hk9 : k < N) (hr9 : ¬ (50 ≤ cn ∧ cn ≤ 5)) (ht9 : mmK (mmTy cn k) = 1) (hsm : ref = (T k).1 ∨ Cond.sameField ref (T k).1 (T k).2.1 (T k).2.2.1 ∈ lw_all) (hl : Cond.fieldLink own idx ref (T k).2.1 (T k).2.2.1 ∈ lw_all) {o : Option Nat} {v : Nat} (hv : isK S cn o = some v) (hd : decode cc pc = .ok (.getfield idx, 3)) (hk : J X F Λ S d (pc + 3) lv (.float (d.2.1 v k) :: st) r) : J X F Λ S d pc lv (va_rf o :: st) r := by
  refine J.lift (fun _ hs _ => ok_f (ok_t hs)) (fun _ h => h) ?_ hk
  obtain _ | ⟨p, l, e, R, s, m, args, below, meth, c, Q, dC, dI, dA, oa, A, nL, c0, s0, ρ0, n0⟩ := X
  · exact trivial
  obtain ⟨hx, hb, hml, hown, hts, hlk, hK, hT, hE, hA, hO, hRc, hRs, hfl, hoa⟩ := G
  intro ρ H locs ls cells slots hW hL k9
  obtain ⟨rfl, n, hs⟩ := isK_at hv
  obtain ⟨hc1, hc2⟩ := mm_cl hc
  have hws := mmW_get (dA := dA) (ρ := ρ) (d := d) hs
  rw [mmE_obj hc1] at hws
  have hf := mmF_get (ρ := ρ) (S := S) (d := d) (v := v) (k := k) (by rw [hc2]; exact hk9) hr9
  rw [ht9] at hf
  rw [List.map_cons, cvV_rf]
  refine va_get (D := (dC, dI)) hx hb hts hin hown hK hW.1 v hws hc k hk9 (hts _ hl) (fun x hx9 => hsm.elim (fun q => by rw [q]; exact hx9) (fun q => u_same (hts _ q) x hx9)) hf hd ?_
  exact k9 ls hL
theorem JR_gFN (G : Ctx X F own cc nN) {C ref : String} {T : u_T} {N cn k idx : Nat} (hc : mmCl[cn]? = some (C, T, N)) (hin : ∀ w ∈ u_ws C T N, w ∈ lw_all) (hk9 : k < N) (hr9 : ¬ (50 ≤ cn ∧ cn ≤ 5)) (ht9 : mmK (mmTy cn k) = 1) (hsm : ref = (T k).1 ∨ Cond.sameField ref (T k).1 (T k).2.1 (T k).2.2.1 ∈ lw_all) {host : String} (hl : Cond.fieldLinkNest own idx ref (T k).2.1 (T k).2.2.1 host ∈ lw_tbl) {o : Option Nat} {v : Nat} (hv : isK S cn o = some v) (hd : decode cc pc = .ok (.getfield idx, 3)) (hk : J X F Λ S d (pc + 3) lv (.float (d.2.1 v k) :: st) r) : J X F Λ S d pc lv (va_rf o :: st) r := by
  refine J.lift (fun _ hs _ => ok_f (ok_t hs)) (fun _ h => h) ?_ hk
  obtain _ | ⟨p, l, e, R, s, m, args, below, meth, c, Q, dC, dI, dA, oa, A, nL, c0, s0, ρ0, n0⟩ := X
  · exact trivial
  obtain ⟨hx, hb, hml, hown, hts, hlk, hK, hT, hE, hA, hO, hRc, hRs, hfl, hoa⟩ := G
  intro ρ H locs ls cells slots hW hL k9
  obtain ⟨rfl, n, hs⟩ := isK_at hv
  obtain ⟨hc1, hc2⟩ := mm_cl hc
  have hws := mmW_get (dA := dA) (ρ := ρ) (d := d) hs
  rw [mmE_obj hc1] at hws
  have hf := mmF_get (ρ := ρ) (S := S) (d := d) (v := v) (k := k) (by rw [hc2]; exact hk9) hr9
  rw [ht9] at hf
  rw [List.map_cons, cvV_rf]
  refine va_getN (D := (dC, dI)) hx hb hts hin hown hK hW.1 v hws hc k hk9 (va_Nw.use rfl (tb_word hT hl rfl)) (fun x hx9 => hsm.elim (fun q => by rw [q]; exact hx9) (fun q => u_same (hts _ q) x hx9)) hf hd ?_
  exact k9 ls hL
theorem JR_gD (G : Ctx X F own cc nN) {C ref : String} {T : u_T} {N cn k idx : Nat} (hc : mmCl[cn]? = some (C, T, N)) (hin : ∀ w ∈ u_ws C T N, w ∈ lw_all) (hk9 : k < N) (hr9 : ¬ (50 ≤ cn ∧ cn ≤ 5)) (ht9 : mmK (mmTy cn k) = 2) (hsm : ref = (T k).1 ∨ Cond.sameField ref (T k).1 (T k).2.1 (T k).2.2.1 ∈ lw_all) (hl : Cond.fieldLink own idx ref (T k).2.1 (T k).2.2.1 ∈ lw_all) {o : Option Nat} {v : Nat} (hv : isK S cn o = some v) (hd : decode cc pc = .ok (.getfield idx, 3)) (hk : J X F Λ S d (pc + 3) lv (.double (d.2.2 v k) :: st) r) : J X F Λ S d pc lv (va_rf o :: st) r := by
  refine J.lift (fun _ hs _ => ok_d (ok_t hs)) (fun _ h => h) ?_ hk
  obtain _ | ⟨p, l, e, R, s, m, args, below, meth, c, Q, dC, dI, dA, oa, A, nL, c0, s0, ρ0, n0⟩ := X
  · exact trivial
  obtain ⟨hx, hb, hml, hown, hts, hlk, hK, hT, hE, hA, hO, hRc, hRs, hfl, hoa⟩ := G
  intro ρ H locs ls cells slots hW hL k9
  obtain ⟨rfl, n, hs⟩ := isK_at hv
  obtain ⟨hc1, hc2⟩ := mm_cl hc
  have hws := mmW_get (dA := dA) (ρ := ρ) (d := d) hs
  rw [mmE_obj hc1] at hws
  have hf := mmF_get (ρ := ρ) (S := S) (d := d) (v := v) (k := k) (by rw [hc2]; exact hk9) hr9
  rw [ht9] at hf
  rw [List.map_cons, cvV_rf]
  refine va_get (D := (dC, dI)) hx hb hts hin hown hK hW.1 v hws hc k hk9 (hts _ hl) (fun x hx9 => hsm.elim (fun q => by rw [q]; exact hx9) (fun q => u_same (hts _ q) x hx9)) hf hd ?_
  exact k9 ls hL
theorem JR_gDN (G : Ctx X F own cc nN) {C ref : String} {T : u_T} {N cn k idx : Nat} (hc : mmCl[cn]? = some (C, T, N)) (hin : ∀ w ∈ u_ws C T N, w ∈ lw_all) (hk9 : k < N) (hr9 : ¬ (50 ≤ cn ∧ cn ≤ 5)) (ht9 : mmK (mmTy cn k) = 2) (hsm : ref = (T k).1 ∨ Cond.sameField ref (T k).1 (T k).2.1 (T k).2.2.1 ∈ lw_all) {host : String} (hl : Cond.fieldLinkNest own idx ref (T k).2.1 (T k).2.2.1 host ∈ lw_tbl) {o : Option Nat} {v : Nat} (hv : isK S cn o = some v) (hd : decode cc pc = .ok (.getfield idx, 3)) (hk : J X F Λ S d (pc + 3) lv (.double (d.2.2 v k) :: st) r) : J X F Λ S d pc lv (va_rf o :: st) r := by
  refine J.lift (fun _ hs _ => ok_d (ok_t hs)) (fun _ h => h) ?_ hk
  obtain _ | ⟨p, l, e, R, s, m, args, below, meth, c, Q, dC, dI, dA, oa, A, nL, c0, s0, ρ0, n0⟩ := X
  · exact trivial
  obtain ⟨hx, hb, hml, hown, hts, hlk, hK, hT, hE, hA, hO, hRc, hRs, hfl, hoa⟩ := G
  intro ρ H locs ls cells slots hW hL k9
  obtain ⟨rfl, n, hs⟩ := isK_at hv
  obtain ⟨hc1, hc2⟩ := mm_cl hc
  have hws := mmW_get (dA := dA) (ρ := ρ) (d := d) hs
  rw [mmE_obj hc1] at hws
  have hf := mmF_get (ρ := ρ) (S := S) (d := d) (v := v) (k := k) (by rw [hc2]; exact hk9) hr9
  rw [ht9] at hf
  rw [List.map_cons, cvV_rf]
  refine va_getN (D := (dC, dI)) hx hb hts hin hown hK hW.1 v hws hc k hk9 (va_Nw.use rfl (tb_word hT hl rfl)) (fun x hx9 => hsm.elim (fun q => by rw [q]; exact hx9) (fun q => u_same (hts _ q) x hx9)) hf hd ?_
  exact k9 ls hL
theorem JR_gR (G : Ctx X F own cc nN) {C ref : String} {T : u_T} {N cn k idx : Nat} (hc : mmCl[cn]? = some (C, T, N)) (hin : ∀ w ∈ u_ws C T N, w ∈ lw_all) (hk9 : k < N) (hr9 : ¬ (50 ≤ cn ∧ cn ≤ 5)) (ht9 : mmK (mmTy cn k) = 3) (hsm : ref = (T k).1 ∨ Cond.sameField ref (T k).1 (T k).2.1 (T k).2.2.1 ∈ lw_all) (hl : Cond.fieldLink own idx ref (T k).2.1 (T k).2.2.1 ∈ lw_all) {o : Option Nat} {v : Nat} (hv : isK S cn o = some v) (hd : decode cc pc = .ok (.getfield idx, 3)) (hk : J X F Λ S d (pc + 3) lv (va_rf (S.2.1 v k) :: st) r) : J X F Λ S d pc lv (va_rf o :: st) r := by
  refine J.lift (fun hC hs _ => ok_r (fun t e => hC v k t e) (ok_t hs)) (fun _ h => h) ?_ hk
  obtain _ | ⟨p, l, e, R, s, m, args, below, meth, c, Q, dC, dI, dA, oa, A, nL, c0, s0, ρ0, n0⟩ := X
  · exact trivial
  obtain ⟨hx, hb, hml, hown, hts, hlk, hK, hT, hE, hA, hO, hRc, hRs, hfl, hoa⟩ := G
  intro ρ H locs ls cells slots hW hL k9
  obtain ⟨rfl, n, hs⟩ := isK_at hv
  obtain ⟨hc1, hc2⟩ := mm_cl hc
  have hws := mmW_get (dA := dA) (ρ := ρ) (d := d) hs
  rw [mmE_obj hc1] at hws
  have hf := mmF_get (ρ := ρ) (S := S) (d := d) (v := v) (k := k) (by rw [hc2]; exact hk9) hr9
  rw [ht9] at hf
  rw [List.map_cons, cvV_rf]
  refine va_get (D := (dC, dI)) hx hb hts hin hown hK hW.1 v hws hc k hk9 (hts _ hl) (fun x hx9 => hsm.elim (fun q => by rw [q]; exact hx9) (fun q => u_same (hts _ q) x hx9)) hf hd ?_
  have h2 := k9 ls hL
  rw [List.map_cons, cvV_rf] at h2
  exact h2
theorem JR_gRN (G : Ctx X F own cc nN) {C ref : String} {T : u_T} {N cn k idx : Nat} (hc : mmCl[cn]? = some (C, T, N)) (hin : ∀ w ∈ u_ws C T N, w ∈ lw_all) (hk9 : k < N) (hr9 : ¬ (50 ≤ cn ∧ cn ≤ 5)) (ht9 : mmK (mmTy cn k) = 3) (hsm : ref = (T k).1 ∨ Cond.sameField ref (T k).1 (T k).2.1 (T k).2.2.1 ∈ lw_all) {host : String} (hl : Cond.fieldLinkNest own idx ref (T k).2.1 (T k).2.2.1 host ∈ lw_tbl) {o : Option Nat} {v : Nat} (hv : isK S cn o = some v) (hd : decode cc pc = .ok (.getfield idx, 3)) (hk : J X F Λ S d (pc + 3) lv (va_rf (S.2.1 v k) :: st) r) : J X F Λ S d pc lv (va_rf o :: st) r := by
  refine J.lift (fun hC hs _ => ok_r (fun t e => hC v k t e) (ok_t hs)) (fun _ h => h) ?_ hk
  obtain _ | ⟨p, l, e, R, s, m, args, below, meth, c, Q, dC, dI, dA, oa, A, nL, c0, s0, ρ0, n0⟩ := X
  · exact trivial
  obtain ⟨hx, hb, hml, hown, hts, hlk, hK, hT, hE, hA, hO, hRc, hRs, hfl, hoa⟩ := G
  intro ρ H locs ls cells slots hW hL k9
  obtain ⟨rfl, n, hs⟩ := isK_at hv
  obtain ⟨hc1, hc2⟩ := mm_cl hc
  have hws := mmW_get (dA := dA) (ρ := ρ) (d := d) hs
  rw [mmE_obj hc1] at hws
  have hf := mmF_get (ρ := ρ) (S := S) (d := d) (v := v) (k := k) (by rw [hc2]; exact hk9) hr9
  rw [ht9] at hf
  rw [List.map_cons, cvV_rf]
  refine va_getN (D := (dC, dI)) hx hb hts hin hown hK hW.1 v hws hc k hk9 (va_Nw.use rfl (tb_word hT hl rfl)) (fun x hx9 => hsm.elim (fun q => by rw [q]; exact hx9) (fun q => u_same (hts _ q) x hx9)) hf hd ?_
  have h2 := k9 ls hL
  rw [List.map_cons, cvV_rf] at h2
  exact h2
theorem JR_gO (G : Ctx X F own cc nN) {C : String} {T : u_T} {N cn k idx : Nat} (hc : mmCl[cn]? = some (C, T, N)) (hin : ∀ w ∈ u_ws C T N, w ∈ lw_all) (hk9 : k < N) (hr9 : 50 ≤ cn ∧ cn ≤ 5) (hl : Cond.fieldLink own idx (T k).1 (T k).2.1 (T k).2.2.1 ∈ lw_all) {o : Option Nat} {v : Nat} (hv : isK S cn o = some v) (hd : decode cc pc = .ok (.getfield idx, 3)) (hk : J X F Λ S d (pc + 3) lv (va_rf (S.2.1 v 0) :: st) r) : J X F Λ S d pc lv (va_rf o :: st) r := by
  refine J.lift (fun hC hs _ => ok_r (fun t e => hC v 0 t e) (ok_t hs)) (fun _ h => h) ?_ hk
  obtain _ | ⟨p, l, e, R, s, m, args, below, meth, c, Q, dC, dI, dA, oa, A, nL, c0, s0, ρ0, n0⟩ := X
  · exact trivial
  obtain ⟨hx, hb, hml, hown, hts, hlk, hK, hT, hE, hA, hO, hRc, hRs, hfl, hoa⟩ := G
  intro ρ H locs ls cells slots hW hL k9
  obtain ⟨rfl, n, hs⟩ := isK_at hv
  obtain ⟨hc1, hc2⟩ := mm_cl hc
  have hws := mmW_get (dA := dA) (ρ := ρ) (d := d) hs
  rw [mmE_obj hc1] at hws
  have hf := mmF_getR (ρ := ρ) (S := S) (d := d) (v := v) (k := k) (by rw [hc2]; exact hk9) hr9
  rw [List.map_cons, cvV_rf]
  refine va_get (D := (dC, dI)) hx hb hts hin hown hK hW.1 v hws hc k hk9 (hts _ hl) (fun x hx9 => hx9) hf hd ?_
  have h2 := k9 ls hL
  rw [List.map_cons, cvV_rf] at h2
  exact h2
theorem JR_gON (G : Ctx X F own cc nN) {C : String} {T : u_T} {N cn k idx : Nat} (hc : mmCl[cn]? = some (C, T, N)) (hin : ∀ w ∈ u_ws C T N, w ∈ lw_all) (hk9 : k < N) (hr9 : 50 ≤ cn ∧ cn ≤ 5) {host : String} (hl : Cond.fieldLinkNest own idx (T k).1 (T k).2.1 (T k).2.2.1 host ∈ lw_tbl) {o : Option Nat} {v : Nat} (hv : isK S cn o = some v) (hd : decode cc pc = .ok (.getfield idx, 3)) (hk : J X F Λ S d (pc + 3) lv (va_rf (S.2.1 v 0) :: st) r) : J X F Λ S d pc lv (va_rf o :: st) r := by
  refine J.lift (fun hC hs _ => ok_r (fun t e => hC v 0 t e) (ok_t hs)) (fun _ h => h) ?_ hk
  obtain _ | ⟨p, l, e, R, s, m, args, below, meth, c, Q, dC, dI, dA, oa, A, nL, c0, s0, ρ0, n0⟩ := X
  · exact trivial
  obtain ⟨hx, hb, hml, hown, hts, hlk, hK, hT, hE, hA, hO, hRc, hRs, hfl, hoa⟩ := G
  intro ρ H locs ls cells slots hW hL k9
  obtain ⟨rfl, n, hs⟩ := isK_at hv
  obtain ⟨hc1, hc2⟩ := mm_cl hc
  have hws := mmW_get (dA := dA) (ρ := ρ) (d := d) hs
  rw [mmE_obj hc1] at hws
  have hf := mmF_getR (ρ := ρ) (S := S) (d := d) (v := v) (k := k) (by rw [hc2]; exact hk9) hr9
  rw [List.map_cons, cvV_rf]
  refine va_getN (D := (dC, dI)) hx hb hts hin hown hK hW.1 v hws hc k hk9 (va_Nw.use rfl (tb_word hT hl rfl)) (fun x hx9 => hx9) hf hd ?_
  have h2 := k9 ls hL
  rw [List.map_cons, cvV_rf] at h2
  exact h2
theorem JR_iaload (G : Ctx X F own cc nN) {o : Option Nat} {i : Int32} {q : Nat × Nat} (hq : aix S 50 o i = some q) (hd : decode cc pc = .ok (.iaload, 1)) (hk : J X F Λ S d (pc + 1) lv (.int (d.1 q.1 q.2) :: st) r) : J X F Λ S d pc lv (.int i :: va_rf o :: st) r := by
  refine J.lift (fun _ hs _ => ok_i (ok_t (ok_t hs))) (fun _ h => h) ?_ hk
  obtain _ | ⟨p, l, e, R, s, m, args, below, meth, c, Q, dC, dI, dA, oa, A, nL, c0, s0, ρ0, n0⟩ := X
  · exact trivial
  obtain ⟨hx, hb, hml, hown, hts, hlk, hK, hT, hE, hA, hO, hRc, hRs, hfl, hoa⟩ := G
  intro ρ H locs ls cells slots hW hL k9
  obtain ⟨rfl, h2, n, h3, h4⟩ := aix_at hq
  have hws := mmW_get (dA := dA) (ρ := ρ) (d := d) h3
  rw [show (50 : Nat) = 50 + 0 from rfl, mmE_arr] at hws
  rw [List.map_cons, List.map_cons, cvV_rf]
  refine va_iald (D := (dC, dI)) hx hb hK hW.1 q.1 0 hws (mmTs_at (by decide)) h4 hd ?_
  rw [← h2]
  exact k9 ls hL
theorem JR_zaload (G : Ctx X F own cc nN) {o : Option Nat} {i : Int32} {q : Nat × Nat} (hq : aix S 51 o i = some q) (hd : decode cc pc = .ok (.baload, 1)) (hk : J X F Λ S d (pc + 1) lv (.int (d.1 q.1 q.2) :: st) r) : J X F Λ S d pc lv (.int i :: va_rf o :: st) r := by
  refine J.lift (fun _ hs _ => ok_i (ok_t (ok_t hs))) (fun _ h => h) ?_ hk
  obtain _ | ⟨p, l, e, R, s, m, args, below, meth, c, Q, dC, dI, dA, oa, A, nL, c0, s0, ρ0, n0⟩ := X
  · exact trivial
  obtain ⟨hx, hb, hml, hown, hts, hlk, hK, hT, hE, hA, hO, hRc, hRs, hfl, hoa⟩ := G
  intro ρ H locs ls cells slots hW hL k9
  obtain ⟨rfl, h2, n, h3, h4⟩ := aix_at hq
  have hws := mmW_get (dA := dA) (ρ := ρ) (d := d) h3
  rw [show (51 : Nat) = 50 + 1 from rfl, mmE_arr] at hws
  rw [List.map_cons, List.map_cons, cvV_rf]
  refine va_zald (D := (dC, dI)) hx hb hK hW.1 q.1 1 hws (mmTs_at (by decide)) h4 hd ?_
  rw [← h2]
  exact k9 ls hL
theorem JR_baload (G : Ctx X F own cc nN) {o : Option Nat} {i : Int32} {q : Nat × Nat} (hq : aix S 52 o i = some q) (hd : decode cc pc = .ok (.baload, 1)) (hk : J X F Λ S d (pc + 1) lv (.int (d.1 q.1 q.2) :: st) r) : J X F Λ S d pc lv (.int i :: va_rf o :: st) r := by
  refine J.lift (fun _ hs _ => ok_i (ok_t (ok_t hs))) (fun _ h => h) ?_ hk
  obtain _ | ⟨p, l, e, R, s, m, args, below, meth, c, Q, dC, dI, dA, oa, A, nL, c0, s0, ρ0, n0⟩ := X
  · exact trivial
  obtain ⟨hx, hb, hml, hown, hts, hlk, hK, hT, hE, hA, hO, hRc, hRs, hfl, hoa⟩ := G
  intro ρ H locs ls cells slots hW hL k9
  obtain ⟨rfl, h2, n, h3, h4⟩ := aix_at hq
  have hws := mmW_get (dA := dA) (ρ := ρ) (d := d) h3
  rw [show (52 : Nat) = 50 + 2 from rfl, mmE_arr] at hws
  rw [List.map_cons, List.map_cons, cvV_rf]
  refine va_bald (D := (dC, dI)) hx hb hK hW.1 q.1 2 hws (mmTs_at (by decide)) h4 hd ?_
  rw [← h2]
  exact k9 ls hL
theorem JR_faload (G : Ctx X F own cc nN) {o : Option Nat} {i : Int32} {q : Nat × Nat} (hq : aix S 53 o i = some q) (hd : decode cc pc = .ok (.faload, 1)) (hk : J X F Λ S d (pc + 1) lv (.float (d.2.1 q.1 q.2) :: st) r) : J X F Λ S d pc lv (.int i :: va_rf o :: st) r := by
  refine J.lift (fun _ hs _ => ok_f (ok_t (ok_t hs))) (fun _ h => h) ?_ hk
  obtain _ | ⟨p, l, e, R, s, m, args, below, meth, c, Q, dC, dI, dA, oa, A, nL, c0, s0, ρ0, n0⟩ := X
  · exact trivial
  obtain ⟨hx, hb, hml, hown, hts, hlk, hK, hT, hE, hA, hO, hRc, hRs, hfl, hoa⟩ := G
  intro ρ H locs ls cells slots hW hL k9
  obtain ⟨rfl, h2, n, h3, h4⟩ := aix_at hq
  have hws := mmW_get (dA := dA) (ρ := ρ) (d := d) h3
  rw [show (53 : Nat) = 50 + 3 from rfl, mmE_arr] at hws
  rw [List.map_cons, List.map_cons, cvV_rf]
  refine va_fald (D := (dC, dI)) hx hb hK hW.1 q.1 3 hws (mmTs_at (by decide)) h4 hd ?_
  rw [← h2]
  exact k9 ls hL
theorem JR_daload (G : Ctx X F own cc nN) {o : Option Nat} {i : Int32} {q : Nat × Nat} (hq : aix S 54 o i = some q) (hd : decode cc pc = .ok (.daload, 1)) (hk : J X F Λ S d (pc + 1) lv (.double (d.2.2 q.1 q.2) :: st) r) : J X F Λ S d pc lv (.int i :: va_rf o :: st) r := by
  refine J.lift (fun _ hs _ => ok_d (ok_t (ok_t hs))) (fun _ h => h) ?_ hk
  obtain _ | ⟨p, l, e, R, s, m, args, below, meth, c, Q, dC, dI, dA, oa, A, nL, c0, s0, ρ0, n0⟩ := X
  · exact trivial
  obtain ⟨hx, hb, hml, hown, hts, hlk, hK, hT, hE, hA, hO, hRc, hRs, hfl, hoa⟩ := G
  intro ρ H locs ls cells slots hW hL k9
  obtain ⟨rfl, h2, n, h3, h4⟩ := aix_at hq
  have hws := mmW_get (dA := dA) (ρ := ρ) (d := d) h3
  rw [show (54 : Nat) = 50 + 4 from rfl, mmE_arr] at hws
  rw [List.map_cons, List.map_cons, cvV_rf]
  refine va_dald (D := (dC, dI)) hx hb hK hW.1 q.1 4 hws (mmTs_at (by decide)) h4 hd ?_
  rw [← h2]
  exact k9 ls hL
theorem JR_aaload (G : Ctx X F own cc nN) {C : String} {t : Nat} (ht : t < 12) (hC9 : mmAt t = .object C) {o : Option Nat} {i : Int32} {q : Nat × Nat} (hq : aix S (50 + t) o i = some q) (hd : decode cc pc = .ok (.aaload, 1)) (hk : J X F Λ S d (pc + 1) lv (va_rf (S.2.1 q.1 q.2) :: st) r) : J X F Λ S d pc lv (.int i :: va_rf o :: st) r := by
  refine J.lift (fun hC hs _ => ok_r (fun t e => hC _ _ t e) (ok_t (ok_t hs))) (fun _ h => h) ?_ hk
  obtain _ | ⟨p, l, e, R, s, m, args, below, meth, c, Q, dC, dI, dA, oa, A, nL, c0, s0, ρ0, n0⟩ := X
  · exact trivial
  obtain ⟨hx, hb, hml, hown, hts, hlk, hK, hT, hE, hA, hO, hRc, hRs, hfl, hoa⟩ := G
  intro ρ H locs ls cells slots hW hL k9
  obtain ⟨rfl, h2, n, h3, h4⟩ := aix_at hq
  have hws := mmW_get (dA := dA) (ρ := ρ) (d := d) h3
  rw [mmE_arr, hC9] at hws
  have h5 := mmTs_at (dA := dA) ht
  rw [hC9] at h5
  rw [List.map_cons, List.map_cons, cvV_rf]
  refine va_aldq (D := (dC, dI)) hx hb hK hW.1 q.1 t hws h5 h4 hd ?_
  have h6 := k9 ls hL
  rw [List.map_cons, cvV_rf, h2] at h6
  exact h6
theorem JR_alen (G : Ctx X F own cc nN) {t n : Nat} (ht : t < 12) {o : Option Nat} (hn : aln S (50 + t) o = some n) (hd : decode cc pc = .ok (.arraylength, 1)) (hk : J X F Λ S d (pc + 1) lv (.int (nI n) :: st) r) : J X F Λ S d pc lv (va_rf o :: st) r := by
  refine J.lift (fun _ hs _ => ok_i (ok_t hs)) (fun _ h => h) ?_ hk
  obtain _ | ⟨p, l, e, R, s, m, args, below, meth, c, Q, dC, dI, dA, oa, A, nL, c0, s0, ρ0, n0⟩ := X
  · exact trivial
  obtain ⟨hx, hb, hml, hown, hts, hlk, hK, hT, hE, hA, hO, hRc, hRs, hfl, hoa⟩ := G
  intro ρ H locs ls cells slots hW hL k9
  obtain ⟨v, rfl, h3⟩ := aln_at hn
  have hws := mmW_get (dA := dA) (ρ := ρ) (d := d) h3
  rw [mmE_arr] at hws
  rw [List.map_cons, cvV_rf]
  exact va_alen (D := (dC, dI)) hx hb hK hW.1 v t hws (mmTs_at ht) rfl hd (k9 ls hL)
theorem JR_cast (G : Ctx X F own cc nN) {C nm : String} {T : u_T} {N cn idx : Nat} (hc : mmCl[cn]? = some (C, T, N)) (hcl : Cond.classLink own idx nm ∈ lw_all) (hca : Cond.castable C nm ∈ lw_tbl) {o : Option Nat} {v : Nat} (hv : isK S cn o = some v) (hd : decode cc pc = .ok (.checkcast idx, 3)) (hk : J X F Λ S d (pc + 3) lv (va_rf (some v) :: st) r) : J X F Λ S d pc lv (va_rf o :: st) r := by
  refine J.lift (fun _ hs _ => by rw [← (isK_at hv).1]; exact hs) (fun _ h => h) ?_ hk
  obtain _ | ⟨p, l, e, R, s, m, args, below, meth, c, Q, dC, dI, dA, oa, A, nL, c0, s0, ρ0, n0⟩ := X
  · exact trivial
  obtain ⟨hx, hb, hml, hown, hts, hlk, hK, hT, hE, hA, hO, hRc, hRs, hfl, hoa⟩ := G
  intro ρ H locs ls cells slots hW hL k9
  obtain ⟨rfl, n, hs⟩ := isK_at hv
  obtain ⟨hc1, hc2⟩ := mm_cl hc
  have hws := mmW_get (dA := dA) (ρ := ρ) (d := d) hs
  rw [mmE_obj hc1] at hws
  exact va_castY hx hb hown (hts _ hcl) (tb_word hT hca rfl) (va_recv hK hW.1 hc hws) hd (k9 ls hL)
end
