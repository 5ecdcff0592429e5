/-! THE START: classes, array classes, literals, statics, out of what the Statement gives -/
set_option maxRecDepth 100000
theorem tbW_tab {w : Cond} (h : tbW w = true) : w.onTables = true := by
  cases w <;> first | rfl | (cases h)
section
variable {s : State} {args : Array Value}
theorem lb_cls (hts : ∀ w ∈ lw_all, w.before args s = true) : ∃ (dC : Nat → ClassId) (dI : Nat → Nat → Nat), ∀ (c : Nat) (q : vw_C), mmCl[c]? = some q → u_Kn s q.1 q.2.1 q.2.2 (dC c) (dI c) := by
  have hk : ∀ (c : Nat) (q : vw_C), mmCl[c]? = some q → ∃ (cC : ClassId) (iS : Nat → Nat), u_Kn s q.1 q.2.1 q.2.2 cC iS := by
    intro c q hq
    have hm := List.mem_of_getElem? hq
    have key : ∀ (C : String) (T : u_T) (N : Nat), (∀ w ∈ u_ws C T N, w ∈ lw_all) → Cond.instantiable C N ∈ lw_all → ∃ (cC : ClassId) (iS : Nat → Nat), u_Kn s C T N cC iS := fun C T N h1 h2 => u_known hts h1 (hts _ h2)
    simp only [mmCl, List.mem_cons, List.not_mem_nil, or_false] at hm
    rcases hm with rfl | rfl | rfl | rfl | rfl | rfl | rfl | rfl | rfl | rfl | rfl | rfl | rfl | rfl | rfl | rfl | rfl | rfl
    · exact key _ _ _ in_X0 q175
    · exact key _ _ _ in_X1 q183
    · exact key _ _ _ in_X2 q267
    · exact key _ _ _ in_X3 q278
    · exact key _ _ _ in_X4 q289
    · exact key _ _ _ in_X5 q301
    · exact key _ _ _ in_X7 q316
    · exact key _ _ _ in_X8 q327
    · exact key _ _ _ in_X9 q333
    · exact key _ _ _ in_X10 q1584
    · exact key _ _ _ in_X11 q584
    · exact key _ _ _ in_X12 q709
    · exact key _ _ _ in_X13 q811
    · exact key _ _ _ in_X14 q948
    · exact key _ _ _ in_X15 q1240
    · exact key _ _ _ in_X16 q1389
    · exact key _ _ _ in_J2 q189
    · exact key _ _ _ in_J17 q1411
  have h2 : ∀ c : Nat, ∃ z : ClassId × (Nat → Nat), ∀ q : vw_C, mmCl[c]? = some q → u_Kn s q.1 q.2.1 q.2.2 z.1 z.2 := by
    intro c
    cases hq : mmCl[c]? with
    | none => exact ⟨(0, fun _ => 0), fun q h => nomatch h⟩
    | some q =>
      obtain ⟨cC, iS, h⟩ := hk c q hq
      exact ⟨(cC, iS), fun q' h' => by cases h'; exact h⟩
  obtain ⟨f, hf⟩ := Classical.axiomOfChoice h2
  exact ⟨fun c => (f c).1, fun c => (f c).2, hf⟩
theorem lb_arr (hts : ∀ w ∈ lw_tbl, w.before args s = true) : ∃ dA : Nat → ClassId, ∀ (k : Nat) (q : ClassId × FieldType), (mmTs dA)[k]? = some q → ArrOfT s q.1 q.2 ∧ va_RA s q.1 q.2 := by
  have h0 : ∀ t : Nat, ∃ cA : ClassId, t < 12 → ArrOfT s cA (mmAt t) ∧ va_RA s cA (mmAt t) := by
    intro t
    by_cases ht : t < 12
    · have kp : ∀ ty : FieldType, Cond.arrayClass ty ∈ lw_tbl → (∃ cA : ClassId, ArrOfT s cA ty ∧ s.vm.findClass ("[" ++ ty.toString) = some cA) := by
        intro ty hw
        obtain ⟨cA, kA, comp, h1, h2, h3⟩ := Cond.arrayClass_spec (hts _ hw)
        exact ⟨cA, fun n z => ⟨fun k h => (by cases h), kA, h2, comp, h3⟩, h1⟩
      have ko : ∀ C : String, Cond.arrayOver (.object C) ∈ lw_tbl → (∃ cA : ClassId, ArrOfT s cA (.object C) ∧ va_RA s cA (.object C)) := by
        intro C hw
        obtain ⟨comp, cA, kA, h1, h2, h3, h4, h5⟩ := Cond.arrayOver_spec (hts _ hw)
        exact ⟨cA, fun n z => ⟨fun k h => (by cases h), kA, h3, comp, h4⟩, kA, comp, h3, h4, h1, h5⟩
      have hal : ∀ w, w ∈ lw_all → w ∈ lw_tbl := fun w h => (List.mem_filter.mp h).1
      obtain rfl | rfl | rfl | rfl | rfl | rfl | rfl | rfl | rfl | rfl | rfl | rfl : t = 0 ∨ t = 1 ∨ t = 2 ∨ t = 3 ∨ t = 4 ∨ t = 5 ∨ t = 6 ∨ t = 7 ∨ t = 8 ∨ t = 9 ∨ t = 10 ∨ t = 11 := by omega
      · obtain ⟨cA, h1, h2⟩ := kp .int (hal _ q263); exact ⟨cA, fun _ => ⟨h1, h2⟩⟩
      · obtain ⟨cA, h1, h2⟩ := kp .boolean (hal _ q325); exact ⟨cA, fun _ => ⟨h1, h2⟩⟩
      · obtain ⟨cA, h1, h2⟩ := kp .byte (hal _ q276); exact ⟨cA, fun _ => ⟨h1, h2⟩⟩
      · obtain ⟨cA, h1, h2⟩ := kp .float (hal _ q1775); exact ⟨cA, fun _ => ⟨h1, h2⟩⟩
      · obtain ⟨cA, h1, h2⟩ := kp .double (hal _ q1776); exact ⟨cA, fun _ => ⟨h1, h2⟩⟩
      · obtain ⟨cA, h1⟩ := ko _ q264; exact ⟨cA, fun _ => h1⟩
      · obtain ⟨cA, h1⟩ := ko _ q266; exact ⟨cA, fun _ => h1⟩
      · obtain ⟨cA, h1⟩ := ko _ q314; exact ⟨cA, fun _ => h1⟩
      · obtain ⟨cA, h1⟩ := ko _ q201; exact ⟨cA, fun _ => h1⟩
      · obtain ⟨cA, h1⟩ := ko _ q590; exact ⟨cA, fun _ => h1⟩
      · obtain ⟨cA, h1⟩ := ko _ q1395; exact ⟨cA, fun _ => h1⟩
      · obtain ⟨cA, h1⟩ := ko _ q1397; exact ⟨cA, fun _ => h1⟩
    · exact ⟨0, fun h => absurd h ht⟩
  obtain ⟨f, hf⟩ := Classical.axiomOfChoice h0
  refine ⟨f, fun k q hq => ?_⟩
  have hk : k < 12 := by
    have := (List.getElem?_eq_some_iff.mp hq).1
    simpa [mmTs] using this
  rw [mmTs_at hk] at hq
  cases hq
  exact hf k hk
end
