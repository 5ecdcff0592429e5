/-! SPECIAL ROWS, 2: casts to array classes, class objects compared, a rung made -/
set_option maxRecDepth 100000
def geq (x y : Option Nat) : Option Unit := if x = y then some () else none
theorem geq_at {x y : Option Nat} {u : Unit} (h : geq x y = some u) : x = y := by
  unfold geq at h
  split at h
  · assumption
  · cases h
/-- an array of ints: its place and its length -/
def arI (S : Sp) (o : Option Nat) : Option (Nat × Nat) := o.bind fun v => match S.1[v]? with
  | some sh => if sh.1 = 50 then some (v, sh.2) else none
  | none => none
theorem arI_at {S : Sp} {o : Option Nat} {q : Nat × Nat} (h : arI S o = some q) : o = some q.1 ∧ S.1[q.1]? = some (50, q.2) := by
  cases o with
  | none => cases h
  | some v =>
    simp only [arI, Option.bind_some] at h
    split at h
    · rename_i sh hs
      split at h
      · rename_i hc
        cases h
        exact ⟨rfl, by rw [hs, ← hc]⟩
      · cases h
    · cases h
/-- a class's object that may throw -/
def bindE {γ β : Type} (o : Option ((γ ⊕ Nat) × Sp × Dt)) (g : Nat → Sp → Dt → Option β) (f : γ → Sp → Dt → Option β) : Option β := bindX o f g
section
variable {α β : Type} {X : CT} {F : α × Sp × Dt} {Λ : β → Sp → Dt → α × Sp × Dt} {S : Sp} {d : Dt} {pc nN fr9 lo9 idx : Nat} {lv : List (Nat × Value)} {st : List Value} {r : Option β} {own : String} {cc : ByteArray}
theorem JR_castI (G : Ctx X F own cc nN) (hcl : Cond.classLink own idx "[I" ∈ lw_all) {o : Option Nat} {n : Nat} (hn : aln S 50 o = some n) (hd : decode cc pc = .ok (.checkcast idx, 3)) (hk : J X F Λ S d (pc + 3) lv (va_rf o :: st) r) : J X F Λ S d pc lv (va_rf o :: st) r := by
  refine J.lift (fun _ hs _ => hs) (fun _ h => h) ?_ hk
  obtain _ | ⟨p, l, e, R, s, m, args, below, meth, c, Q, dC, dI, dA, oa, A, nL, c0, s0, ρ0, n0⟩ := X
  · exact trivial
  obtain ⟨hx, hb, hml, hown, hts, hlk, hK, hT, hE, hA, hO, hRc, hRs, hfl, hoa⟩ := G
  intro ρ H locs ls cells slots hW hL k9
  obtain ⟨v, rfl, g1⟩ := aln_at hn
  have w1 := mmW_get (dA := dA) (ρ := ρ) (d := d) g1
  rw [show (50 : Nat) = 50 + 0 from rfl, mmE_arr] at w1
  have hra := (hK.2 0 (dA 0, mmAt 0) (mmTs_at (by decide))).2
  have h5 := k9 ls hL
  rw [List.map_cons, cvV_rf] at h5 ⊢
  exact va_castA hx hb hown (hts _ hcl) hW.1 v w1 hra hd h5
theorem JR_castO (G : Ctx X F own cc nN) (hcl : Cond.classLink own idx "[Ljava/lang/Object;" ∈ lw_all) {o : Option Nat} {n : Nat} (hn : aln S 58 o = some n) (hd : decode cc pc = .ok (.checkcast idx, 3)) (hk : J X F Λ S d (pc + 3) lv (va_rf o :: st) r) : J X F Λ S d pc lv (va_rf o :: st) r := by
  refine J.lift (fun _ hs _ => hs) (fun _ h => h) ?_ hk
  obtain _ | ⟨p, l, e, R, s, m, args, below, meth, c, Q, dC, dI, dA, oa, A, nL, c0, s0, ρ0, n0⟩ := X
  · exact trivial
  obtain ⟨hx, hb, hml, hown, hts, hlk, hK, hT, hE, hA, hO, hRc, hRs, hfl, hoa⟩ := G
  intro ρ H locs ls cells slots hW hL k9
  obtain ⟨v, rfl, g1⟩ := aln_at hn
  have w1 := mmW_get (dA := dA) (ρ := ρ) (d := d) g1
  rw [show (58 : Nat) = 50 + 8 from rfl, mmE_arr] at w1
  have hra := (hK.2 8 (dA 8, mmAt 8) (mmTs_at (by decide))).2
  obtain ⟨kA, comp, z1, z2, z3, z4⟩ := hra
  have h5 := k9 ls hL
  rw [List.map_cons, cvV_rf] at h5 ⊢
  exact va_castA hx hb hown (hts _ hcl) hW.1 v w1 z4 hd h5
theorem JW_aastE (G : Ctx X F own cc nN) {C : String} {t : Nat} (ht : t < 12) (hE9 : mmAt t = .object C) {T : u_T} {N cn : Nat} (hc : mmCl[cn]? = some (C, T, N)) {w : Option Nat} {v : Nat} (hv : isK S cn w = some v) {o : Option Nat} {i : Int32} {q : Nat × Nat} (hq : aix S (50 + t) o i = some q) (hΛ : ∀ b, Λ b (S.1, u2 S.2.1 q.1 q.2 w, S.2.2) d = Λ b S d) (hd : decode cc pc = .ok (.aastore, 1)) (hk : J X F Λ (S.1, u2 S.2.1 q.1 q.2 w, S.2.2) d (pc + 1) lv (st) r) : J X F Λ S d pc lv (va_rf w :: .int i :: va_rf o :: st) r := by
  refine J.chg G hΛ (Le_put) (fun hC hs => Cl_put hC (ok_ho hs)) (fun _ hs => ok_t (ok_t (ok_t hs))) ?_ hk
  obtain _ | ⟨p, l, e, R, s, m, args, below, meth, c, Q, dC, dI, dA, oa, A, nL, c0, s0, ρ0, n0⟩ := X
  · exact trivial
  obtain ⟨hx, hb, hml, hown, hts, hlk, hK, hT, hE, hA, hO, hRc, hRs, hfl, hoa⟩ := G
  intro ρ H locs ls cells slots hC hs9 hn0 hn1 hr1 hr2 hW hL k9
  obtain ⟨rfl, h2, n, h3, h4⟩ := aix_at hq
  have hws := mmW_get (dA := dA) (ρ := ρ) (d := d) h3
  rw [mmE_arr, hE9] at hws
  have ht1 := mmTs_at (dA := dA) ht
  rw [hE9] at ht1
  obtain ⟨rfl, n9, hs⟩ := isK_at hv
  obtain ⟨hc1, hc2⟩ := mm_cl hc
  have hwv := mmW_get (dA := dA) (ρ := ρ) (d := d) hs
  rw [mmE_obj hc1] at hwv
  rw [List.map_cons, List.map_cons, List.map_cons, cvV_rf, cvV_rf]
  refine va_astq (D := (dC, dI)) hx hb hK hW.1 hW.2.1 hW.2.2.1 q.1 t v cn hws ht1 hwv hc h4 hd (fun H1 locs1 g1 g2 g3 => ?_)
  rw [← h2] at g1 g2
  have e9 : mmK (mmAt t) = 3 := by rw [hE9]; rfl
  have h5 := k9 ρ H1 locs1 (fun _ _ => rfl) (by rw [mmW_astR h3 e9]; exact g1) (by rw [mmW_astR h3 e9]; exact g2) g3
  simp only [Nat.sub_self, Nat.add_zero] at h5
  exact h5
/-- a cast to the object's own class -/
theorem JR_castE (G : Ctx X F own cc nN) {C : String} {T : u_T} {N cn idx : Nat} (hc : mmCl[cn]? = some (C, T, N)) (hcl : Cond.classLink own idx C ∈ lw_all) {o : Option Nat} {v : Nat} (hv : isK S cn o = some v) (hd : decode cc pc = .ok (.checkcast idx, 3)) (hk : J X F Λ S d (pc + 3) lv (va_rf (some v) :: st) r) : J X F Λ S d pc lv (va_rf o :: st) r := by
  refine J.lift (fun _ hs _ => by rw [← (isK_at hv).1]; exact hs) (fun _ h => h) ?_ hk
  obtain _ | ⟨p, l, e, R, s, m, args, below, meth, c, Q, dC, dI, dA, oa, A, nL, c0, s0, ρ0, n0⟩ := X
  · exact trivial
  obtain ⟨hx, hb, hml, hown, hts, hlk, hK, hT, hE, hA, hO, hRc, hRs, hfl, hoa⟩ := G
  intro ρ H locs ls cells slots hW hL k9
  obtain ⟨rfl, n, hs⟩ := isK_at hv
  obtain ⟨hc1, hc2⟩ := mm_cl hc
  have hws := mmW_get (dA := dA) (ρ := ρ) (d := d) hs
  rw [mmE_obj hc1] at hws
  obtain ⟨rq, z1, ce, z2, z3, z4, z5⟩ := hW.1 _ _ hws
  cases hc.symm.trans z1
  have hf := (hK.1 cn _ hc).2.1
  intro T9 hT9 X9
  obtain ⟨vm', X', st9⟩ := X9.checkcastYes hx hown (hts _ hcl) (by rw [hT9]; exact z2) (by rw [z4]; rfl) hf (by rw [z3]; exact va_asg _ _) (g := F0 m pc ls (.ref (ρ v) :: st.map (cvV ρ))) rfl rfl (by rw [hb]; exact hd)
  obtain ⟨t, a1, b1⟩ := k9 ls hL (T9.setVm vm') hT9 X'
  exact ⟨t, st9 t a1, b1⟩
end
