/-! THE START: all of LB -/
set_option maxRecDepth 100000
theorem vk_S.congr {N : Nat} {len : List Nat} {byt : List (List Int32)} {adK adV adK' adV' : Nat → Nat} {A : Nat → Prop} {U : State} {H : Heap} (h : vk_S N len byt adK adV A U H) (h1 : ∀ i, i < N → adK' i = adK i) (h2 : ∀ i, i < N → adV' i = adV i) : vk_S N len byt adK' adV' A U H :=
  ⟨fun i hi => by rw [h1 i hi, h2 i hi]; exact h.1 i hi, fun i j hi hj e => h.2 i j hi hj (by rw [← h1 i hi, ← h1 j hj]; exact e)⟩
def oaF (adK adV : Nat → Nat) (a1 a2 a3 mi : Nat) : Nat → Nat := fun k => if k < 24 then adK k else if 100 ≤ k ∧ k < 124 then adV (k - 100) else if k = 200 then a1 else if k = 201 then a2 else if k = 202 then a3 else mi
theorem oaF_K {adK adV : Nat → Nat} {a1 a2 a3 mi i : Nat} (h : i < 24) : oaF adK adV a1 a2 a3 mi i = adK i := if_pos h
theorem oaF_V {adK adV : Nat → Nat} {a1 a2 a3 mi i : Nat} (h : i < 24) : oaF adK adV a1 a2 a3 mi (100 + i) = adV i := by
  unfold oaF
  rw [if_neg (by omega), if_pos (by omega), Nat.add_sub_cancel_left]
theorem oaF_1 {adK adV : Nat → Nat} {a1 a2 a3 mi : Nat} : oaF adK adV a1 a2 a3 mi 200 = a1 := rfl
theorem oaF_2 {adK adV : Nat → Nat} {a1 a2 a3 mi : Nat} : oaF adK adV a1 a2 a3 mi 201 = a2 := rfl
theorem oaF_3 {adK adV : Nat → Nat} {a1 a2 a3 mi : Nat} : oaF adK adV a1 a2 a3 mi 202 = a3 := rfl
theorem oaF_m {adK adV : Nat → Nat} {a1 a2 a3 mi : Nat} : oaF adK adV a1 a2 a3 mi 300 = mi := rfl
theorem Zq_or {C n d : String} {A : Nat → Prop} {U : State} {H : Heap} (h : va_Zq C n d A U H) : ∃ t : Nat, va_Z C n d .null A U H ∨ va_Z C n d (.ref t) A U H := by
  rcases h with h | ⟨t, h⟩
  · exact ⟨0, Or.inl h⟩
  · exact ⟨t, Or.inr h⟩
section
variable {p : Program} {s : State} {m : MethodId} {meth : Method} {c : Code} {b L : Nat} {xs : Nat → Int32}
theorem lb_of (C0 : lw_At p s m meth c b L xs) : ∃ (dC : Nat → ClassId) (dI : Nat → Nat → Nat) (dA : Nat → ClassId) (oa : Nat → Nat), LB dC dI dA oa s := by
  obtain ⟨hx, hb, hr, hml, hown, hts, hX, hbl, hlk, hgv⟩ := C0
  have hall : ∀ w ∈ lw_all, w.before #[Value.ref b] s = true := fun w hw => hts w (List.mem_filter.mp hw).1
  have hs := flat_of_before _ hgv
  have hA : ∀ a : Nat, a < s.heap.size → ¬ lwA s a := fun a ha h => Nat.not_le.mpr ha h
  obtain ⟨dC, dI, hcl⟩ := lb_cls hall
  obtain ⟨dA, har⟩ := lb_arr hts
  obtain ⟨adK, adV, hS, hR⟩ := str_of hgv hts hA
  have hU := vx_Zqof (A := lwA s) (hts _ q735) (hall _ q158) (hs (Cond.isRef (.static "java/lang/Throwable" "UNASSIGNED_STACK" "[Ljava/lang/StackTraceElement;")) (by decide +kernel)) hA
  have hN := vx_Zqof (A := lwA s) (hts _ q737) (hall _ q158) (hs (Cond.isRef (.static "java/lang/Throwable" "SUPPRESSED_SENTINEL" "Ljava/util/List;")) (by decide +kernel)) hA
  have hF := va_Zqof (A := lwA s) (hts _ q683) (hts (Cond.initialized "jdk/internal/util/Preconditions") (by decide +kernel)) (hs (Cond.isRef (.static "jdk/internal/util/Preconditions" "SIOOBE_FORMATTER" "Ljava/util/function/BiFunction;")) (by decide +kernel)) hA
  have hCS := va_Zof (A := lwA s) (v := .int 1) (hts _ q667) (hts (Cond.initialized "java/lang/String") (by decide +kernel)) (va_eqt (hs (Cond.eq (.static "java/lang/String" "COMPACT_STRINGS" "Z") (.int 1)) (by decide +kernel))) hA
  obtain ⟨a1, hU1⟩ := Zq_or hU.1
  obtain ⟨a2, hN1⟩ := Zq_or hN.1
  obtain ⟨a3, hF1⟩ := Zq_or hF
  obtain ⟨mi, hMi⟩ := va_Mi.of (hs (Cond.isRef (.mirror "[Ljava/lang/Object;")) (by decide +kernel))
  have n1 : va_Nc cN1 cN2 s := va_Nc.of (hs (Cond.not (.castable cN1 cN2)) (by decide +kernel))
  have n2 : va_Nc cN2 cN1 s := va_Nc.of (hs (Cond.not (.castable cN2 cN1)) (by decide +kernel))
  refine ⟨dC, dI, dA, oaF adK adV a1 a2 a3 mi, ⟨hcl, har⟩, ⟨fun w hw ht => va_Nw.of (tbW_tab ht) (hts w hw), ?_, va_Fw.of (hts _ q1571) (hts _ q1570) (hts _ q1576) (hts _ q1574) (hts _ q1572), fun k hk => by rw [oaF_K hk]; exact hR k hk, by rw [oaF_m]; exact hMi, va_Dc.of (hts _ q2389), n1, n2⟩, hS.congr (fun i hi => oaF_K hi) (fun i hi => oaF_V hi), hCS, by rw [oaF_1]; exact hU1, by rw [oaF_2]; exact hN1, hU.2, hN.2, by rw [oaF_3]; exact hF1⟩
  intro C hC
  simp only [List.mem_cons, List.not_mem_nil, or_false] at hC
  rcases hC with rfl | rfl | rfl | rfl | rfl | rfl | rfl
  · exact va_AO.of (hts _ q201)
  · exact va_AO.of (hts _ q264)
  · exact va_AO.of (hts _ q266)
  · exact va_AO.of (hts _ q314)
  · exact va_AO.of (hts _ q590)
  · exact va_AO.of (hts _ q1395)
  · exact va_AO.of (hts _ q1397)
end
