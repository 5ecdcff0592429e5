/-! THE START: the literals -/
set_option maxRecDepth 100000
abbrev ltm (i : Nat) : Term := Term.string "WatchStack$Reader" (ldcR.getD i (0, 0)).1
abbrev ltn (i : Nat) : Term := Term.string "WatchStackModel" (ldcR.getD i (0, 0)).2
theorem str_N : ∀ i, i < 24 → strL.getD i 0 < 2 ^ 31 := by decide +kernel
theorem str_ne : ∀ i, i < 24 → ∀ j, j < 24 → Int32.ofNat (strL.getD i 0) = Int32.ofNat (strL.getD j 0) → (∀ k, k < strL.getD i 0 → (strB.getD i []).getD k 0 = (strB.getD j []).getD k 0) → i = j := by decide +kernel
theorem str_len : ∀ i, i < 24 → ∀ j, j < 24 → Int32.ofNat (strL.getD i 0) = Int32.ofNat (strL.getD j 0) → strL.getD i 0 = strL.getD j 0 := by decide +kernel
section
variable {s : State} {args : Array Value} {A : Nat → Prop}
theorem OF_one {o n d : String} {v w : Value} {a : Nat} {U : State} {H : Heap} (h1 : va_OF o n d v a A U H) (h2 : va_OF o n d w a A U H) : v = w := by
  obtain ⟨c1, k1, i1, f1, e1, p1, -, q1, -, r1, -⟩ := h1
  obtain ⟨c2, k2, i2, f2, e2, p2, -, q2, -, r2, -⟩ := h2
  cases p1.symm.trans p2
  cases q1.symm.trans q2
  exact Option.some.inj (r1.symm.trans r2)
theorem str_of (h : (Jvm.Cond.and given_1 narrow_1).before args s = true) (hts : ∀ w ∈ lw_tbl, w.before args s = true) (hA : ∀ a : Nat, a < s.heap.size → ¬ A a) :
    ∃ adK adV : Nat → Nat, vk_S 24 strL strB adK adV A s s.heap ∧ ∀ k : Nat, k < 24 → vk_R "WatchStack$Reader" (ldcR.getD k (0, 0)).1 (strT.getD k "") (adK k) s ∧ vk_R "WatchStackModel" (ldcR.getD k (0, 0)).2 (strT.getD k "") (adK k) s := by
  have hs := flat_of_before _ h
  have hex : ∀ i : Nat, i < 24 → (Cond.exactly (ltm i) "java/lang/String").before args s = true := fun i hi => hs _ ((by decide +kernel : ∀ i, i < 24 → Cond.exactly (ltm i) "java/lang/String" ∈ flatC (Jvm.Cond.and given_1 narrow_1)) i hi)
  have hco : ∀ i : Nat, i < 24 → (Cond.eq (.field (ltm i) "java/lang/String" "coder" "B") (.int 0)).before args s = true := fun i hi => hs _ ((by decide +kernel : ∀ i, i < 24 → Cond.eq (.field (ltm i) "java/lang/String" "coder" "B") (.int 0) ∈ flatC (Jvm.Cond.and given_1 narrow_1)) i hi)
  have har : ∀ i : Nat, i < 24 → (Cond.arrayOf (.field (ltm i) "java/lang/String" "value" "[B") .byte).before args s = true := fun i hi => hs _ ((by decide +kernel : ∀ i, i < 24 → Cond.arrayOf (.field (ltm i) "java/lang/String" "value" "[B") .byte ∈ flatC (Jvm.Cond.and given_1 narrow_1)) i hi)
  have hle : ∀ i : Nat, i < 24 → (Cond.eq (.length (.field (ltm i) "java/lang/String" "value" "[B")) (.int (Int32.ofNat (strL.getD i 0)))).before args s = true := fun i hi => hs _ ((by decide +kernel : ∀ i, i < 24 → Cond.eq (.length (.field (ltm i) "java/lang/String" "value" "[B")) (.int (Int32.ofNat (strL.getD i 0))) ∈ flatC (Jvm.Cond.and given_1 narrow_1)) i hi)
  have hel : ∀ i : Nat, i < 24 → ∀ j : Nat, j < strL.getD i 0 → (Cond.eq (.elem (.field (ltm i) "java/lang/String" "value" "[B") (.int (Int32.ofNat j))) (.int ((strB.getD i []).getD j 0))).before args s = true := fun i hi j hj => hs _ ((by decide +kernel : ∀ i, i < 24 → ∀ j, j < strL.getD i 0 → Cond.eq (.elem (.field (ltm i) "java/lang/String" "value" "[B") (.int (Int32.ofNat j))) (.int ((strB.getD i []).getD j 0)) ∈ flatC (Jvm.Cond.and given_1 narrow_1)) i hi j hj)
  have hsm : ∀ i : Nat, i < 24 → (Cond.eq (ltm i) (ltn i)).before args s = true := fun i hi => hs _ ((by decide +kernel : ∀ i, i < 24 → Cond.eq (ltm i) (ltn i) ∈ flatC (Jvm.Cond.and given_1 narrow_1)) i hi)
  have hr1 : ∀ i : Nat, i < 24 → (Cond.stringRef "WatchStack$Reader" (ldcR.getD i (0, 0)).1 (strT.getD i "")).before args s = true := fun i hi => hts _ ((by decide +kernel : ∀ i, i < 24 → Cond.stringRef "WatchStack$Reader" (ldcR.getD i (0, 0)).1 (strT.getD i "") ∈ lw_tbl) i hi)
  have hr2 : ∀ i : Nat, i < 24 → (Cond.stringRef "WatchStackModel" (ldcR.getD i (0, 0)).2 (strT.getD i "")).before args s = true := fun i hi => hts _ ((by decide +kernel : ∀ i, i < 24 → Cond.stringRef "WatchStackModel" (ldcR.getD i (0, 0)).2 (strT.getD i "") ∈ lw_tbl) i hi)
  have h0 : ∀ i : Nat, ∃ q : Nat × Nat, i < 24 → (ltm i).eval args s none [] s = some (.ref q.1) ∧ va_O "java/lang/String" q.1 A s s.heap ∧ va_OF "java/lang/String" "coder" "B" (.int 0) q.1 A s s.heap ∧ va_OF "java/lang/String" "value" "[B" (.ref q.2) q.1 A s s.heap ∧ va_T .byte q.2 (strL.getD i 0) (fun j => .int ((strB.getD i []).getD j 0)) A s s.heap := by
    intro i
    by_cases hi : i < 24
    · obtain ⟨a, c, cA, kA, q1, q2, q3, q4, q5, q6, -⟩ := Cond.exactly_spec (args := args) (first := s) (o := none) (s := s) (idx := []) (t := ltm i) (cls := "java/lang/String") (hex i hi)
      obtain ⟨t, ht, hT⟩ := va_Tof (f := fun j => .int ((strB.getD i []).getD j 0)) (A := A) (str_N i hi) (har i hi) (va_eqt (hle i hi)) (fun j hj => va_eqt (hel i hi j hj)) hA
      exact ⟨(a, t), fun _ => ⟨q1, ⟨cA, q3, q5, by rw [q6]; exact q2, hA a (Array.getElem?_eq_some_iff.mp q3).1⟩, vk_OFof q1 (va_eqt (hco i hi)) hA, vk_OFof q1 ht hA, hT⟩⟩
    · exact ⟨(0, 0), fun h => absurd h hi⟩
  obtain ⟨ad, had⟩ := Classical.axiomOfChoice h0
  refine ⟨fun i => (ad i).1, fun i => (ad i).2, ⟨fun i hi => (had i hi).2, fun i j hi hj e => ?_⟩, fun k hk => ?_⟩
  · obtain ⟨-, -, -, v1, t1⟩ := had i hi
    obtain ⟨-, -, -, v2, t2⟩ := had j hj
    dsimp only at e
    rw [e] at v1
    have e2 : (ad i).2 = (ad j).2 := by
      exact Value.ref.inj (OF_one v1 v2)
    rw [e2] at t1
    obtain ⟨c1, p1, -, -, -, z1, w1, -⟩ := t1
    obtain ⟨c2, p2, -, -, -, z2, w2, -⟩ := t2
    cases p1.symm.trans p2
    have e3 := z1.symm.trans z2
    refine str_ne i hi j hj e3 (fun k hk => ?_)
    exact Value.int.inj (Option.some.inj ((w1 k hk).symm.trans (w2 k (by rw [← str_len i hi j hj e3]; exact hk))))
  · have h1 := (had k hk).1
    have h2 : (ltn k).eval args s none [] s = some (.ref (ad k).1) := by
      have h9 := hsm k hk
      cases hv : (ltn k).eval args s none [] s with
      | none => simp [Cond.before, Cond.holds, Cond.value, h1, hv] at h9
      | some w =>
        simp only [Cond.before, Cond.holds, Cond.value, h1, hv] at h9
        cases w with
        | ref y =>
          simp at h9
          rw [h9]
        | _ => simp at h9
    exact ⟨vk_R.of (hr1 k hk) h1, vk_R.of (hr2 k hk) h2⟩
end
