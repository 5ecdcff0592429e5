/-! SPECIAL ROWS: arraycopy, clone, class objects, a store of a Task or Injection among Objects; -/
set_option maxRecDepth 100000
/-- a guard: what arraycopy asks -/
def gcp (S : Sp) (k : Nat) (a b : Option Nat) (sp dp n : Int32) : Option (Nat × Nat) := a.bind fun v => b.bind fun w => match S.1[v]?, S.1[w]? with
  | some s1, some s2 => if (s1.1 = k ∧ s2.1 = k) ∧ (¬ sp < 0 ∧ ¬ dp < 0 ∧ ¬ n < 0) ∧ sp.toNatClampNeg + n.toNatClampNeg ≤ s1.2 ∧ dp.toNatClampNeg + n.toNatClampNeg ≤ s2.2 then some (v, w) else none
  | _, _ => none
theorem gcp_at {S : Sp} {k : Nat} {a b : Option Nat} {sp dp n : Int32} {q : Nat × Nat} (h : gcp S k a b sp dp n = some q) : a = some q.1 ∧ b = some q.2 ∧ ∃ n1 n2, S.1[q.1]? = some (k, n1) ∧ S.1[q.2]? = some (k, n2) ∧ ¬ sp < 0 ∧ ¬ dp < 0 ∧ ¬ n < 0 ∧ sp.toNatClampNeg + n.toNatClampNeg ≤ n1 ∧ dp.toNatClampNeg + n.toNatClampNeg ≤ n2 := by
  cases a with
  | none => cases h
  | some v =>
    cases b with
    | none => cases h
    | some w =>
      simp only [gcp, Option.bind_some] at h
      split at h
      · rename_i s1 s2 h1 h2
        split at h
        · rename_i hq
          cases h
          obtain ⟨⟨e1, e2⟩, ⟨g1, g2, g3⟩, g4, g5⟩ := hq
          exact ⟨rfl, rfl, s1.2, s2.2, by rw [h1, ← e1], by rw [h2, ← e2], g1, g2, g3, g4, g5⟩
        · cases h
      · cases h
theorem gcp_of {S : Sp} {k v w n1 n2 : Nat} {sp dp n : Int32} (h1 : S.1[v]? = some (k, n1)) (h2 : S.1[w]? = some (k, n2)) (g1 : ¬ sp < 0) (g2 : ¬ dp < 0) (g3 : ¬ n < 0) (g4 : sp.toNatClampNeg + n.toNatClampNeg ≤ n1) (g5 : dp.toNatClampNeg + n.toNatClampNeg ≤ n2) : gcp S k (some v) (some w) sp dp n = some (v, w) := by
  simp only [gcp, Option.bind_some, h1, h2]
  exact if_pos ⟨⟨trivial, trivial⟩, ⟨g1, g2, g3⟩, g4, g5⟩
/-- a table's row v copied into its row w -/
def c2 {α : Type} (f : Nat → Nat → α) (v w sp dp n : Nat) : Nat → Nat → α := fun x j => if x = w then va_cpy (f v) (f w) sp dp n j else f x j
theorem c2_row {α : Type} {f : Nat → Nat → α} {v w sp dp n i : Nat} (h : i ≠ w) : c2 f v w sp dp n i = f i := by
  funext j
  exact if_neg h
theorem c2_at {α : Type} {f : Nat → Nat → α} {v w sp dp n : Nat} : c2 f v w sp dp n w = va_cpy (f v) (f w) sp dp n := by
  funext j
  exact if_pos rfl
/-- an element among Objects: a Task, an Injection, or null -/
def okT (S : Sp) (t : Nat) : Bool := match S.1[t]? with
  | some sh => sh.1 == 12 || sh.1 == 13
  | none => false
def okEl (S : Sp) (v sp n : Nat) : Bool := (List.range n).all (fun i => match S.2.1 v (sp + i) with
  | none => true
  | some t => okT S t)
def gel (S : Sp) (v sp n : Nat) : Option Unit := if okEl S v sp n = true then some () else none
/-- a Task or an Injection -/
def kTI (S : Sp) (o : Option Nat) : Option Nat := o.bind fun v => if okT S v = true then some v else none
theorem okT_at {S : Sp} {t : Nat} (h : okT S t = true) : ∃ n, S.1[t]? = some (12, n) ∨ S.1[t]? = some (13, n) := by
  unfold okT at h
  split at h
  · rename_i sh hs
    obtain ⟨a, b⟩ := sh
    simp only [Bool.or_eq_true, beq_iff_eq] at h
    rcases h with h | h
    · subst h; exact ⟨b, Or.inl hs⟩
    · subst h; exact ⟨b, Or.inr hs⟩
  · cases h
section
variable {α β : Type} {X : CT} {F : α × Sp × Dt} {Λ : β → Sp → Dt → α × Sp × Dt} {S : Sp} {d : Dt} {pc nN fr9 lo9 idx : Nat} {lv : List (Nat × Value)} {st : List Value} {r : Option β} {own : String} {cc : ByteArray}
theorem JW_copyI (G : Ctx X F own cc nN) (hRm : Rm X fr9 lo9) (h1 : Cond.methodLink own idx arraycopyName ∈ lw_all) (h2 : Cond.native arraycopyName ∈ lw_all) (h3 : Cond.static arraycopyName ∈ lw_all) (h4 : Cond.initialized "java/lang/System" ∈ lw_all) (hroom : 1 ≤ fr9 ∧ 40 ≤ lo9) (hst9 : st.length ≤ 4) {a b : Option Nat} {sp dp n : Int32} {q : Nat × Nat} (hq : gcp S 50 a b sp dp n = some q) (hΛ : ∀ b, Λ b S (c2 d.1 q.1 q.2 sp.toNatClampNeg dp.toNatClampNeg n.toNatClampNeg, d.2) = Λ b S d) (hd : decode cc pc = .ok (.invokestatic idx, 3)) (hk : J X F Λ S (c2 d.1 q.1 q.2 sp.toNatClampNeg dp.toNatClampNeg n.toNatClampNeg, d.2) (pc + 3) lv st r) : J X F Λ S d pc lv (.int n :: .int dp :: va_rf b :: .int sp :: va_rf a :: st) r := by
  refine J.chg G hΛ Le.rf (fun hC _ => hC) (fun _ hs => ok_t (ok_t (ok_t (ok_t (ok_t hs))))) ?_ hk
  obtain _ | ⟨p, l, e, R, s, m, args, below, meth, c, Q, dC, dI, dA, oa, A, nL, c0, s0, ρ0, n0⟩ := X
  · exact trivial
  obtain ⟨hx, hb, hml, hown, hts, hlk, hK, hT, hE, hA, hO, hRc, hRs, hfl, hoa⟩ := G
  obtain ⟨hR1, hR2⟩ := hRm
  intro ρ H locs ls cells slots hC hs9 hn0 hn1 hr1 hr2 hW hL k9
  obtain ⟨rfl, rfl, n1, n2, g1, g2, g3, g4, g5, g6, g7⟩ := gcp_at hq
  have w1 := mmW_get (dA := dA) (ρ := ρ) (d := d) g1
  have w2 := mmW_get (dA := dA) (ρ := ρ) (d := d) g2
  rw [show (50 : Nat) = 50 + 0 from rfl, mmE_arr] at w1 w2
  have hcat := cat_le (st.map (cvV ρ)) (by rw [List.length_map]; exact hst9)
  have h9 : nativeFrameWords "java/lang/System" "arraycopy" 5 ≤ 21 := by decide
  have h10 := hroom.2
  rw [← hR2] at h10
  have hloc := Nat.le_trans (Nat.add_le_add hcat (Nat.add_le_add_right h9 11)) (Nat.le_trans (by decide) h10)
  simp only [List.map_cons, cvV_rf]
  refine va_copyi (D := (dC, dI)) hx hb (by rw [hml.1, hL.1]) hown (hts _ h1) (hts _ h2) (hts _ h3) (hts _ h4) hK hW.1 hW.2.1 hW.2.2.1 q.1 q.2 0 0 (ty := .int) w1 w2 (mmTs_at (by decide)) (mmTs_at (by decide)) rfl g3 g4 g5 g6 g7 (fun _ _ => rfl) (by rw [hR1]; exact hroom.1) hloc hd (fun H1 locs1 z1 z2 z3 => ?_)
  have e9 : mmW dA ρ S (c2 d.1 q.1 q.2 sp.toNatClampNeg dp.toNatClampNeg n.toNatClampNeg, d.2) = (mmW dA ρ S d).set q.2 (ρ q.2, .inl (dA 0, n2, .inl (va_cpy (d.1 q.1) (d.1 q.2) sp.toNatClampNeg dp.toNatClampNeg n.toNatClampNeg))) := by
    refine mmW_set g2 rfl (fun i sh' _ hi => mmE_ne (c2_row hi) rfl rfl rfl) ?_
    rw [show (50 : Nat) = 50 + 0 from rfl, mmE_arr]
    refine congrArg (fun z => (Sum.inl (dA 0, n2, z) : va_E)) ?_
    exact congrArg Sum.inl c2_at
  have h5 := k9 ρ H1 locs1 (fun _ _ => rfl) (by rw [e9]; exact z1) (by rw [e9]; exact z2) z3
  simp only [Nat.sub_self, Nat.add_zero] at h5
  exact h5
theorem JW_copyR (G : Ctx X F own cc nN) (hRm : Rm X fr9 lo9) (h1 : Cond.methodLink own idx arraycopyName ∈ lw_all) (h2 : Cond.native arraycopyName ∈ lw_all) (h3 : Cond.static arraycopyName ∈ lw_all) (h4 : Cond.initialized "java/lang/System" ∈ lw_all) (hc1 : Cond.castable "WatchStack$Task" "java/lang/Object" ∈ lw_tbl) (hc2 : Cond.castable "WatchStack$Injection" "java/lang/Object" ∈ lw_tbl) (hroom : 1 ≤ fr9 ∧ 40 ≤ lo9) (hst9 : st.length ≤ 4) {a b : Option Nat} {sp dp n : Int32} {q : Nat × Nat} (hq : gcp S 58 a b sp dp n = some q) {u : Unit} (hel : gel S q.1 sp.toNatClampNeg n.toNatClampNeg = some u) (hΛ : ∀ b, Λ b (S.1, c2 S.2.1 q.1 q.2 sp.toNatClampNeg dp.toNatClampNeg n.toNatClampNeg, S.2.2) d = Λ b S d) (hd : decode cc pc = .ok (.invokestatic idx, 3)) (hk : J X F Λ (S.1, c2 S.2.1 q.1 q.2 sp.toNatClampNeg dp.toNatClampNeg n.toNatClampNeg, S.2.2) d (pc + 3) lv st r) : J X F Λ S d pc lv (.int n :: .int dp :: va_rf b :: .int sp :: va_rf a :: st) r := by
  refine J.chg G hΛ Le_put (fun hC _ => ?_) (fun _ hs => ok_t (ok_t (ok_t (ok_t (ok_t hs))))) ?_ hk
  · intro x j t e
    simp only [c2] at e
    split at e
    · unfold va_cpy at e
      split at e
      · exact hC _ _ t e
      · exact hC _ _ t e
    · exact hC x j t e
  obtain _ | ⟨p, l, e, R, s, m, args, below, meth, c, Q, dC, dI, dA, oa, A, nL, c0, s0, ρ0, n0⟩ := X
  · exact trivial
  obtain ⟨hx, hb, hml, hown, hts, hlk, hK, hT, hE, hA, hO, hRc, hRs, hfl, hoa⟩ := G
  obtain ⟨hR1, hR2⟩ := hRm
  intro ρ H locs ls cells slots hC hs9 hn0 hn1 hr1 hr2 hW hL k9
  obtain ⟨rfl, rfl, n1, n2, g1, g2, g3, g4, g5, g6, g7⟩ := gcp_at hq
  have w1 := mmW_get (dA := dA) (ρ := ρ) (d := d) g1
  have w2 := mmW_get (dA := dA) (ρ := ρ) (d := d) g2
  rw [show (58 : Nat) = 50 + 8 from rfl, mmE_arr] at w1 w2
  have hcat := cat_le (st.map (cvV ρ)) (by rw [List.length_map]; exact hst9)
  have hok : okEl S q.1 sp.toNatClampNeg n.toNatClampNeg = true := by
    unfold gel at hel
    split at hel
    · assumption
    · cases hel
  have hany : ∀ i : Nat, i < n.toNatClampNeg → ∀ y : Nat, (S.2.1 q.1 (sp.toNatClampNeg + i)).map ρ = some y → va_Any "java/lang/Object" s H y := by
    intro i hi y hy
    obtain ⟨t, ht, rfl⟩ := Option.map_eq_some_iff.mp hy
    have h9 := List.all_eq_true.mp hok i (List.mem_range.mpr hi)
    simp only [ht] at h9
    obtain ⟨n9, h8 | h8⟩ := okT_at h9
    · have w3 := mmW_get (dA := dA) (ρ := ρ) (d := d) h8
      rw [mmE_obj (by decide)] at w3
      exact va_rAny hK hW.1 w3 cl_X13 (vb_asgC (tb_word hT hc1 rfl))
    · have w3 := mmW_get (dA := dA) (ρ := ρ) (d := d) h8
      rw [mmE_obj (by decide)] at w3
      exact va_rAny hK hW.1 w3 cl_X14 (vb_asgC (tb_word hT hc2 rfl))
  have h9 : nativeFrameWords "java/lang/System" "arraycopy" 5 ≤ 21 := by decide
  have h10 := hroom.2
  rw [← hR2] at h10
  have hloc := Nat.le_trans (Nat.add_le_add hcat (Nat.add_le_add_right h9 11)) (Nat.le_trans (by decide) h10)
  simp only [List.map_cons, cvV_rf]
  refine va_copyM (D := (dC, dI)) hx hb (by rw [hml.1, hL.1]) hown (hts _ h1) (hts _ h2) (hts _ h3) (hts _ h4) hK hW.1 hW.2.1 hW.2.2.1 q.1 q.2 8 8 (E0 := "java/lang/Object") (E1 := "java/lang/Object") w1 w2 (mmTs_at (by decide)) (mmTs_at (by decide)) g3 g4 g5 g6 g7 hany (by rw [hR1]; exact hroom.1) hloc hd (fun H1 locs1 z1 z2 z3 => ?_)
  have e9 : mmW dA ρ (S.1, c2 S.2.1 q.1 q.2 sp.toNatClampNeg dp.toNatClampNeg n.toNatClampNeg, S.2.2) d = (mmW dA ρ S d).set q.2 (ρ q.2, .inl (dA 8, n2, .inr (.inr (.inr (.inr (va_cpy (fun j => (S.2.1 q.1 j).map ρ) (fun j => (S.2.1 q.2 j).map ρ) sp.toNatClampNeg dp.toNatClampNeg n.toNatClampNeg)))))) := by
    refine mmW_set g2 rfl (fun i sh' _ hi => mmE_ne rfl rfl rfl (c2_row hi)) ?_
    rw [show (58 : Nat) = 50 + 8 from rfl, mmE_arr]
    refine congrArg (fun z => (Sum.inl (dA 8, n2, z) : va_E)) ?_
    show Sum.inr (Sum.inr (Sum.inr (Sum.inr _))) = Sum.inr (Sum.inr (Sum.inr (Sum.inr _)))
    congr 4
    funext j
    simp only [c2_at, va_cpy]
    split <;> rfl
  have h5 := k9 ρ H1 locs1 (fun _ _ => rfl) (by rw [e9]; exact z1) (by rw [e9]; exact z2) z3
  simp only [Nat.sub_self, Nat.add_zero] at h5
  exact h5
theorem JW_aastTI (G : Ctx X F own cc nN) (hc1 : Cond.castable "WatchStack$Task" "java/lang/Object" ∈ lw_tbl) (hc2 : Cond.castable "WatchStack$Injection" "java/lang/Object" ∈ lw_tbl) {w : Option Nat} {v : Nat} (hv : kTI S w = some v) {o : Option Nat} {i : Int32} {q : Nat × Nat} (hq : aix S (50 + 8) o i = some q) (hΛ : ∀ b, Λ b (S.1, u2 S.2.1 q.1 q.2 w, S.2.2) d = Λ b S d) (hd : decode cc pc = .ok (.aastore, 1)) (hk : J X F Λ (S.1, u2 S.2.1 q.1 q.2 w, S.2.2) d (pc + 1) lv st r) : J X F Λ S d pc lv (va_rf w :: .int i :: va_rf o :: st) r := by
  cases w with
  | none => cases hv
  | some t =>
    simp only [kTI, Option.bind_some] at hv
    split at hv
    · rename_i hok
      obtain ⟨n9, h8 | h8⟩ := okT_at hok
      · exact JW_aast G (by decide) rfl cl_X13 hc1 (isK_of h8) hq hΛ hd hk
      · exact JW_aast G (by decide) rfl cl_X14 hc2 (isK_of h8) hq hΛ hd hk
    · cases hv
/-- getClass() of an array of Objects; its class as a constant -/
theorem JR_getC (G : Ctx X F own cc nN) (hRm : Rm X fr9 lo9) (h1 : Cond.methodLink own idx ⟨"java/lang/Object", "getClass", "()Ljava/lang/Class;"⟩ ∈ lw_all) (h2 : Cond.selects "[Ljava/lang/Object;" ⟨"java/lang/Object", "getClass", "()Ljava/lang/Class;"⟩ ⟨"java/lang/Object", "getClass", "()Ljava/lang/Class;"⟩ ∈ lw_all) (h3 : Cond.instanceMethod ⟨"java/lang/Object", "getClass", "()Ljava/lang/Class;"⟩ ∈ lw_all) (h4 : Cond.native ⟨"java/lang/Object", "getClass", "()Ljava/lang/Class;"⟩ ∈ lw_all) (hroom : 1 ≤ fr9 ∧ 23 ≤ lo9) (hst9 : st.length ≤ 4) {o : Option Nat} {n : Nat} (hn : aln S 58 o = some n) (hd : decode cc pc = .ok (.invokevirtual idx, 3)) (hk : J X F Λ S d (pc + 3) lv (va_rf (some (OPQ + 300)) :: st) r) : J X F Λ S d pc lv (va_rf o :: st) r := by
  refine J.lift (fun _ hs _ => ok_r (okO_some (Or.inr (Nat.le_add_right _ _))) (ok_t hs)) (fun _ h => h) ?_ hk
  obtain _ | ⟨p, l, e, R, s, m, args, below, meth, c, Q, dC, dI, dA, oa, A, nL, c0, s0, ρ0, n0⟩ := X
  · exact trivial
  obtain ⟨hx, hb, hml, hown, hts, hlk, hK, hT, hE, hA, hO, hRc, hRs, hfl, hoa⟩ := G
  obtain ⟨hR1, hR2⟩ := hRm
  intro ρ H locs ls cells slots hW hL k9
  obtain ⟨v, rfl, g1⟩ := aln_at hn
  have w1 := mmW_get (dA := dA) (ρ := ρ) (d := d) g1
  rw [show (58 : Nat) = 50 + 8 from rfl, mmE_arr] at w1
  have hcat := cat_le (st.map (cvV ρ)) (by rw [List.length_map]; exact hst9)
  have h9 : ρ (OPQ + 300) = oa 300 := (hW.2.2.2 _ (Or.inr (Nat.le_add_right _ _))).trans (hoa _)
  have hra := (hK.2 8 (dA 8, mmAt 8) (mmTs_at (by decide))).2
  obtain ⟨kA, comp, z1, z2, z3, z4⟩ := hra
  rw [List.map_cons, cvV_rf]
  refine va_getC hx hb (by rw [hml.1, hL.1]) (C := "[Ljava/lang/Object;") (mi := oa 300) hown (hts _ h1) (va_Dc.use hT.2.2.2.2.2.1) (hts _ h2) (hts _ h3) (hts _ h4) hT.2.2.2.2.1 ⟨_, hW.1 _ _ w1, rfl, z4⟩ (by rw [hR1]; exact hroom.1) (by rw [hR2]; have := hroom.2; omega) hd ?_
  have h5 := k9 ls hL
  rw [List.map_cons, cvV_rf, Option.map_some, h9] at h5
  exact h5
theorem JR_ldcM (G : Ctx X F own cc nN) (h1 : Cond.classLink own idx "[Ljava/lang/Object;" ∈ lw_all) (hd : decode cc pc = .ok (.ldc idx, 2)) (hk : J X F Λ S d (pc + 2) lv (va_rf (some (OPQ + 300)) :: st) r) : J X F Λ S d pc lv st r := by
  refine J.lift (fun _ hs _ => ok_r (okO_some (Or.inr (Nat.le_add_right _ _))) hs) (fun _ h => h) ?_ hk
  obtain _ | ⟨p, l, e, R, s, m, args, below, meth, c, Q, dC, dI, dA, oa, A, nL, c0, s0, ρ0, n0⟩ := X
  · exact trivial
  obtain ⟨hx, hb, hml, hown, hts, hlk, hK, hT, hE, hA, hO, hRc, hRs, hfl, hoa⟩ := G
  intro ρ H locs ls cells slots hW hL k9
  have h9 : ρ (OPQ + 300) = oa 300 := (hW.2.2.2 _ (Or.inr (Nat.le_add_right _ _))).trans (hoa _)
  refine va_ldcM hx hb hown (hts _ h1) hT.2.2.2.2.1 hd ?_
  have h5 := k9 ls hL
  rw [List.map_cons, cvV_rf, Option.map_some, h9] at h5
  exact h5
/-- a new int array with the row v's contents -/
def mmCln (S : Sp) (d : Dt) (v : Nat) : Dt := (fun x j => if x = S.1.length then d.1 v j else d.1 x j, z2 d.2.1 S.1.length 0, z2 d.2.2 S.1.length 0)
theorem JW_clone (G : Ctx X F own cc nN) (hRm : Rm X fr9 lo9) (h1 : Cond.methodLink own idx ⟨"[I", "clone", "()Ljava/lang/Object;"⟩ ∈ lw_all) (h2 : Cond.sameMethod "[I" "java/lang/Object" "clone" "()Ljava/lang/Object;" ∈ lw_all) (h3 : Cond.native ⟨"java/lang/Object", "clone", "()Ljava/lang/Object;"⟩ ∈ lw_all) (h4 : Cond.instanceMethod ⟨"java/lang/Object", "clone", "()Ljava/lang/Object;"⟩ ∈ lw_all) (h5 : Cond.selects "[I" ⟨"[I", "clone", "()Ljava/lang/Object;"⟩ ⟨"java/lang/Object", "clone", "()Ljava/lang/Object;"⟩ ∈ lw_all) (h6 : Cond.castable "[I" "java/lang/Cloneable" ∈ lw_tbl) (hroom : 1 ≤ fr9 ∧ 23 ≤ lo9) (hst9 : st.length ≤ 4) {o : Option Nat} {n v : Nat} (ho : o = some v) (hn : S.1[v]? = some (50, n)) (hΛ : ∀ b, Λ b (mmNew S (50, n) n) (mmCln S d v) = Λ b S d) (hd : decode cc pc = .ok (.invokevirtual idx, 3)) (hk : J X F Λ (mmNew S (50, n) n) (mmCln S d v) (pc + 3) lv (va_rf (some S.1.length) :: st) r) : J X F Λ S d pc lv (va_rf o :: st) r := by
  refine J.chg G hΛ mmNew_le (fun hC _ => mmNew_cl hC) (fun _ hs => ok_r (okO_some mmNew_ok) (fun x hx => mmNew_le.okV (ok_t hs x hx))) ?_ hk
  obtain _ | ⟨p, l, e, R, s, m, args, below, meth, c, Q, dC, dI, dA, oa, A, nL, c0, s0, ρ0, n0⟩ := X
  · exact trivial
  obtain ⟨hx, hb, hml, hown, hts, hlk, hK, hT, hE, hA, hO, hRc, hRs, hfl, hoa⟩ := G
  obtain ⟨hR1, hR2⟩ := hRm
  intro ρ H locs ls cells slots hC hs9 hn0 hn1 hr1 hr2 hW hL k9
  subst ho
  have e1 : (mmNew S (50, n) n).2.2.1 - S.2.2.1 = 1 := by simp [mmNew]
  have e2 : (mmNew S (50, n) n).2.2.2 - S.2.2.2 = n := by simp [mmNew]
  rw [e1] at hr1
  rw [e2] at hr2
  rw [e1, e2] at k9
  have hn9 : S.1.length < OPQ := by
    have h1 : (mmNew S (50, n) n).1.length = S.1.length + 1 := by simp [mmNew]
    omega
  have hvn : v < S.1.length := (List.getElem?_eq_some_iff.mp hn).1
  have w1 := mmW_get (dA := dA) (ρ := ρ) (d := d) hn
  rw [show (50 : Nat) = 50 + 0 from rfl, mmE_arr] at w1
  have hcat := cat_le (st.map (cvV ρ)) (by rw [List.length_map]; exact hst9)
  have hra := (hK.2 0 (dA 0, mmAt 0) (mmTs_at (by decide))).2
  rw [List.map_cons, cvV_rf]
  refine va_clone (D := (dC, dI)) hx hb (by rw [hml.1, hL.1]) hown (hts _ h1) (hts _ h2) (hts _ h3) (hts _ h4) (hts _ h5) (tb_word hT h6 rfl) hK hW.1 hW.2.1 hW.2.2.1 hA v 0 (ty := .int) w1 (mmTs_at (by decide)) hra (va_fit (fun _ _ => rfl)) (by rw [hR1]; exact hroom.1) (by rw [hR2]; have := hroom.2; omega) hr1 hr2 hd (fun q H1 g0 g1 g2 g3 => ?_)
  have hEq : mmW dA (mmRho S ρ q) (mmNew S (50, n) n) (mmCln S d v) = mmW dA ρ S d ++ [(q, .inl (dA 0, n, .inl (d.1 v)))] := by
    apply List.ext_getElem?
    intro i
    by_cases hi : i < S.1.length
    · rw [List.getElem?_append_left (by rw [mmW_len]; exact hi)]
      obtain ⟨sh', hs⟩ : ∃ sh', S.1[i]? = some sh' := ⟨_, List.getElem?_eq_some_iff.mpr ⟨hi, rfl⟩⟩
      rw [mmW_get hs, mmW_get (mmNew_le.at hs), mmRho_eq hn9 i (Or.inl hi)]
      have hne : i ≠ S.1.length := Nat.ne_of_lt hi
      rw [mmE_congr (S := S) (ρ := ρ) (d := d) (mmRho_eq hn9) hC (by funext j; exact if_neg hne) (z2_row hne) (z2_row hne) (z2_row hne)]
    · by_cases hi2 : i = S.1.length
      · subst hi2
        rw [mmW_get (mmNew_at (S := S) (sh := (50, n)) (k := n)), mmRho_at, ← mmW_len (dA := dA) (ρ := ρ) (S := S) (d := d)]
        rw [show (50 : Nat) = 50 + 0 from rfl, mmE_arr]
        have e9 : (mmCln S d v).1 (mmW dA ρ S d).length = d.1 v := by
          rw [mmW_len]
          funext j
          exact if_pos rfl
        simp only [List.getElem?_concat_length]
        refine congrArg (fun z => some (q, (Sum.inl (dA 0, n, z) : va_E))) ?_
        show Sum.inl _ = Sum.inl _
        rw [e9]
      · rw [List.getElem?_eq_none (by rw [mmW_len]; simp [mmNew]; omega), List.getElem?_eq_none (by simp [mmW_len]; omega)]
  have h5 := k9 (mmRho S ρ q) H1 locs (mmRho_eq hn9) (by rw [hEq]; exact g1) (by rw [hEq]; exact g2) g3
  rw [List.map_cons, cvV_rf, Option.map_some, mmRho_at, cvV_list (mmRho_eq hn9) (ok_t hs9)] at h5
  exact h5
end
