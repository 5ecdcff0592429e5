/-! READING: words, faults, numbers -/
set_option maxRecDepth 100000
theorem char_eq {i k : Nat} (hi : i < 24) (hk : k < strL.getD i 0) : ∃ c, ∀ S d, Js_charAt (some (OPQ + i)) (nI k) S d = some c := by
  have hl := strL_le i hi
  refine ⟨strC i (nI k).toNatClampNeg, fun S d => ?_⟩
  unfold Js_charAt Js_isLatin1 Jsl_charAt Js_checkIndex Jp_checkIndex
  rw [isT_of hi, Option.bind_some, Option.bind_some, Option.bind_some, if_neg (show ¬ (1 : Int32) = 0 by decide), if_pos hi, if_neg (nI_pos (by omega)), if_pos (nI_lt hk (by omega)), Option.bind_some, Option.bind_some, if_neg (fun z => z.elim (fun z => nI_pos (by omega) z) (fun z => by rw [nI_clamp (by omega)] at z; omega)), Option.bind_some]
/-- what reading leaves of both memories -/
def BF (S0 : Sp) (d0 m0 : Dt) (c : Nat) (S : Sp) (d m : Dt) : Prop := Ext S0 S ∧ (S.2.2.1 ≤ S0.2.2.1 + c ∧ S.2.2.2 ≤ S0.2.2.2 + 32 * c ∧ S.1.length + S0.2.2.1 ≤ S.2.2.1 + S0.1.length) ∧ (∀ a, a < S0.1.length → d.1 a = d0.1 a) ∧ (∀ a, a ≠ 0 → a ≠ 6 → m.1 a = m0.1 a) ∧ ∀ k, k < 8 ∨ 13 < k → m.1 0 k = m0.1 0 k
/-- a Fault is thrown: it tells what the model has noted -/
def Flt (S0 : Sp) (d0 m0 : Dt) (c z : Nat) (S : Sp) (d m : Dt) : Prop := BF S0 d0 m0 c S d m ∧ S.1[z]? = some (11, 0) ∧ S0.1.length ≤ z ∧ d.1 z 6 = m.1 0 12 ∧ d.1 z 7 = m.1 0 13 ∧ ¬ m.1 0 12 = 0
/-- both read on -/
def Rs (S0 : Sp) (d0 m0 : Dt) (rd sz c ap tk : Nat) (S : Sp) (d m : Dt) : Prop := RdS S rd ∧ Lx1 rd sz ap tk d m ∧ m.1 0 12 = 0 ∧ m.1 0 13 = -1 ∧ BF S0 d0 m0 c S d m ∧ S0.1.length ≤ rd
/-- the fault of both -/
def OF {γ β : Type} (S0 : Sp) (d0 m0 : Dt) (c : Nat) (y0 : β) (o : Option ((γ ⊕ Nat) × Sp × Dt)) (p : Option (β × Dt)) : Prop := ∃ z S' d' m', o = some (.inr z, S', d') ∧ p = some (y0, m') ∧ Flt S0 d0 m0 c z S' d' m'
/-- the fault of both at a word or a number -/
def OG {γ β : Type} (S0 : Sp) (d0 m0 : Dt) (c : Nat) (m : Dt) (y0 : β) (o : Option ((γ ⊕ Nat) × Sp × Dt)) (p : Option (β × Dt)) : Prop := ∃ z S' d' m', o = some (.inr z, S', d') ∧ p = some (y0, m') ∧ Flt S0 d0 m0 c z S' d' m' ∧ m'.1 6 = m.1 6
section
variable {S0 S S' T : Sp} {d0 m0 d m d' m' d'' m'' x y : Dt} {rd sz ap tk a c z : Nat} {lo hi : Int32}
theorem BF.mono {c' : Nat} (h : BF S0 d0 m0 c S d m) (hc : c ≤ c') : BF S0 d0 m0 c' S d m := by
  obtain ⟨h1, h2, h3⟩ := h
  exact ⟨h1, by omega, h3⟩
theorem Rs.mono {c' : Nat} (h : Rs S0 d0 m0 rd sz c ap tk S d m) (hc : c ≤ c') : Rs S0 d0 m0 rd sz c' ap tk S d m := ⟨h.1, h.2.1, h.2.2.1, h.2.2.2.1, h.2.2.2.2.1.mono hc, h.2.2.2.2.2⟩
theorem Flt.mono {c' : Nat} (h : Flt S0 d0 m0 c z S d m) (hc : c ≤ c') : Flt S0 d0 m0 c' z S d m := ⟨h.1.mono hc, h.2⟩
theorem Flt.m6 (h : Flt S0 d0 m0 c z S d m) (hm : ∀ a, a ≠ 6 → m'.1 a = m.1 a) : Flt S0 d0 m0 c z S d m' := by
  obtain ⟨⟨h1, h2, h3, h4, h5⟩, h6, h7, h8, h9, h10⟩ := h
  refine ⟨⟨h1, h2, h3, fun a x y => (hm a y).trans (h4 a x y), fun k x => (congrFun (hm 0 (by omega)) k).trans (h5 k x)⟩, h6, h7, ?_, ?_, ?_⟩
  · rw [hm 0 (by omega)]; exact h8
  · rw [hm 0 (by omega)]; exact h9
  · rw [hm 0 (by omega)]; exact h10
theorem Rs.nx (h : Rs S0 d0 m0 rd sz c ap tk S d m) {tk' : Nat} (hl : Lx1 rd sz a tk' d' m') (hn : Nx rd d m d' m') : Rs S0 d0 m0 rd sz c a tk' S d' m' := by
  obtain ⟨h1, h2, h3, h4, ⟨b1, b2, b3, b4, b5⟩, h6⟩ := h
  obtain ⟨n1, n2, n3, n4⟩ := hn
  exact ⟨h1, hl, (n4 12 (by omega)).trans h3, (n4 13 (by omega)).trans h4, ⟨b1, b2, fun a x => (n1 a (by omega)).trans (b3 a x), fun a x y => (n3 a x).trans (b4 a x y), fun k x => (n4 k (by omega)).trans (b5 k x)⟩, h6⟩
theorem good_1 (h : m.1 0 12 = 0) : Mo_good 0 MoS m = some 1 := by
  unfold Mo_good
  rw [Mo_K, Option.bind_some, if_neg (fun z => z h)]
theorem good_0 (h : ¬ m.1 0 12 = 0) : Mo_good 0 MoS m = some 0 := by
  unfold Mo_good
  rw [Mo_K, Option.bind_some, if_pos h]
theorem errs_0 (h : ¬ m.1 0 12 = 0) {k : Int32} : Mo_errs 0 k MoS m = some ((), m) := by
  unfold Mo_errs
  rw [Mo_K, Option.bind_some, good_0 h, Option.bind_some, if_neg (show ¬ ¬ (0 : Int32) = 0 from fun z => z rfl)]
theorem errs_1 (h : m.1 0 12 = 0) {k : Int32} : Mo_errs 0 k MoS m = some ((), dI (dI m 0 12 k) 0 13 (m.1 0 9)) := by
  unfold Mo_errs
  rw [Mo_K, Option.bind_some, good_1 h, Option.bind_some, if_pos (show ¬ (1 : Int32) = 0 by decide), Option.bind_some, Option.bind_some, dI_nk (show ¬ ((0 : Nat) = 0 ∧ 9 = 12) by omega)]
theorem is_h39 {i : Nat} (hi : i < 24) : Mo_is_b35 0 (some (OPQ + i)) MoS m = some 0 := by
  unfold Mo_is_b35 Mo_is_b36
  rw [show FU = 9999 + 1 from rfl, Mo_is_h39, isT_of hi, Option.bind_some]
  unfold Js_length
  rw [isT_of hi, Option.bind_some, Option.bind_some]
  unfold Mo_is_b82
  rw [show gb 0 = some 0 from rfl, Option.bind_some, if_pos rfl]
  split <;> rfl
theorem is_0 {i : Nat} (hi : i < 24) (h : ¬ m.1 0 12 = 0) : Mo_is 0 (some (OPQ + i)) MoS m = some 0 := by
  unfold Mo_is
  rw [Mo_K, Option.bind_some, good_0 h, Option.bind_some, if_pos rfl]
  exact is_h39 hi
theorem expects_0 {i : Nat} (hi : i < 24) (h : ¬ m.1 0 12 = 0) : Mo_expects 0 (some (OPQ + i)) MoS m = some ((), m) := by
  unfold Mo_expects
  rw [Mo_K, Option.bind_some, is_0 hi h, Option.bind_some, if_pos rfl, errs_0 h, bind2_some]
theorem takes_0 (h : ¬ m.1 0 12 = 0) : Mo_takes 0 lo hi MoS m = some (0, m) := by
  unfold Mo_takes
  rw [Mo_K, Option.bind_some, good_0 h, Option.bind_some, if_pos rfl]
  unfold Mo_takes_b20
  rw [Mo_K, Option.bind_some, good_0 h, Option.bind_some, if_pos rfl]
  unfold Mo_takes_b47
  rw [Mo_K, Option.bind_some, good_0 h, Option.bind_some, if_neg (show ¬ ¬ (0 : Int32) = 0 from fun z => z rfl)]
theorem toldBy_0 {i : Nat} (hi' : i < 24) (h : ¬ m.1 0 12 = 0) : Mo_toldBy 0 (some (OPQ + i)) lo hi MoS m = some (0, m) := by
  unfold Mo_toldBy
  rw [Mo_K, Option.bind_some, expects_0 hi' h, bind2_some, takes_0 h, bind2_some]
/-- one word for both -/
theorem is_eq (hS : RdS S rd) (h : Lx1 rd sz ap tk d m) (hg : m.1 0 12 = 0) {i : Nat} (hi : i < 24) : ∃ b, Re_is rd (some (OPQ + i)) S d = some b ∧ Mo_is 0 (some (OPQ + i)) MoS m = some b ∧ (b = 0 ∨ b = 1) := by
  obtain ⟨⟨x1, x2, x3, x4, x5, x6, x7⟩, ⟨bg, g1, g2, g3⟩, t1, t2, t3, -⟩ := h
  have hl := strL_le i hi
  unfold Mo_is
  rw [Mo_K, Option.bind_some, good_1 hg, Option.bind_some, if_neg (show ¬ (1 : Int32) = 0 by decide), t3, isT_of hi, Option.bind_some]
  unfold Re_is
  rw [hS.K, Option.bind_some, t2, isT_of hi, Option.bind_some]
  have hjs : ∀ T e, Js_length (some (OPQ + i)) T e = some (nI (strL.getD i 0)) := fun T e => by
    unfold Js_length
    rw [isT_of hi, Option.bind_some]
  rw [hjs, hjs, Option.bind_some, Option.bind_some, x5, x6, g2, g3, nI_sub g1, is_h39 hi]
  by_cases c1 : tk = 1
  · subst c1
    rw [if_neg (show ¬ ¬ nI 1 = 1 from fun z => z rfl), if_neg (show ¬ ¬ nI 1 = 1 from fun z => z rfl)]
    by_cases c2 : ap - bg = strL.getD i 0
    · rw [c2, if_pos rfl, if_neg (fun z => z rfl)]
      unfold Mo_is_b36
      refine loop2p_FU (X := fun F (x : Int32) => Re_is_h28 rd (some (OPQ + i)) S d F x) (Y := fun F (x : Int32) => Mo_is_h39 0 (some (OPQ + i)) MoS m F 1 x) (Inv := fun k x y => x = nI k ∧ y = nI k) (P := fun o p => ∃ b, o = some b ∧ p = some b ∧ (b = 0 ∨ b = 1)) (x := 0) (y := 0) (strL.getD i 0) (by omega) ⟨rfl, rfl⟩ ?_ ?_
      · rintro k hk F G x y ⟨rfl, rfl⟩
        obtain ⟨cc, hcc⟩ := char_eq hi hk
        have hX : Re_is_h28 rd (some (OPQ + i)) S d (F + 2) (nI k) = if d.1 8 (bg + k) = cc then Re_is_h28 rd (some (OPQ + i)) S d (F + 1) (nI (k + 1)) else some 0 := by
          rw [Re_is_h28, isT_of hi, Option.bind_some, hjs, Option.bind_some, if_neg (nI_ge hk (by omega)), hS.K, Option.bind_some, g2, nI_add, hS.2.2.2.2.1, ca8 hS.F (show bg + k < 1000 by omega), Option.bind_some, hcc, Option.bind_some, nI_1]
        have hY : Mo_is_h39 0 (some (OPQ + i)) MoS m (G + 2) 1 (nI k) = Mo_is_h39 0 (some (OPQ + i)) MoS m (G + 1) (if ¬ m.1 4 (bg + k) = cc then 0 else 1) (nI (k + 1)) := by
          rw [Mo_is_h39, isT_of hi, Option.bind_some, hjs, Option.bind_some, if_neg (nI_ge hk (by omega)), if_neg (show ¬ (1 : Int32) = 0 by decide), Mo_K, Option.bind_some, g3, nI_add, MoS_R0_4, ma4 (show bg + k < 1000 by omega), Option.bind_some, hcc, Option.bind_some]
          unfold Mo_is_b75
          rw [nI_1]
        rw [← (x7 (bg + k) (by omega)).1] at hY
        by_cases ce : d.1 8 (bg + k) = cc
        · rw [if_pos ce] at hX
          rw [if_neg (fun z => z ce)] at hY
          exact Or.inl ⟨_, _, hX, hY, rfl, rfl⟩
        · rw [if_neg ce] at hX
          rw [if_pos ce] at hY
          refine Or.inr ⟨0, hX, ?_, Or.inl rfl⟩
          refine hY.trans ?_
          rw [Mo_is_h39, isT_of hi, Option.bind_some, hjs, Option.bind_some]
          unfold Mo_is_b82
          rw [show gb 0 = some 0 from rfl, Option.bind_some, if_pos rfl]
          split <;> rfl
      · rintro F G x y ⟨rfl, rfl⟩
        refine ⟨1, ?_, ?_, Or.inr rfl⟩
        · show Re_is_h28 rd (some (OPQ + i)) S d (F + 1) (nI (strL.getD i 0)) = _
          rw [Re_is_h28, isT_of hi, Option.bind_some, hjs, Option.bind_some, if_pos (nI_le (Nat.le_refl _) (by omega))]
        · show Mo_is_h39 0 (some (OPQ + i)) MoS m (G + 1) 1 (nI (strL.getD i 0)) = _
          rw [Mo_is_h39, isT_of hi, Option.bind_some, hjs, Option.bind_some, if_pos (nI_le (Nat.le_refl _) (by omega))]
          unfold Mo_is_b82
          rw [show gb 1 = some 1 from rfl, Option.bind_some]
    · have c2' : ¬ nI (ap - bg) = nI (strL.getD i 0) := fun z => c2 ((nI_eq (by omega) (by omega)).mp z)
      rw [if_neg c2', if_pos c2']
      exact ⟨0, rfl, rfl, Or.inl rfl⟩
  · have c1' : ¬ nI tk = 1 := fun z => c1 ((nI_eq (b := 1) (by omega) (by omega)).mp z)
    rw [if_pos c1', if_pos c1']
    exact ⟨0, rfl, rfl, Or.inl rfl⟩
/-- a Fault here -/
theorem fault_eq {γ : Type} (h : Rs S0 d0 m0 rd sz c ap tk S d m) {k : Nat} (hk : 1 ≤ k) (hk4 : k ≤ 4) : ∃ z S' d' m', ((bind3 (Re_fault rd (nI k) S d) fun r4 S5 d6 => (isK S5 11 r4).bind fun z7 => some ((.inr z7 : γ ⊕ Nat), S5, d6)) = some (.inr z, S', d')) ∧ Mo_errs 0 (nI k) MoS m = some ((), m') ∧ Flt S0 d0 m0 (c + 1) z S' d' m' ∧ m'.1 6 = m.1 6 := by
  obtain ⟨hS, ⟨⟨x1, x2, x3, x4, x5, x6, x7⟩, ⟨bg, g1, g2, g3⟩, -⟩, hg, hg2, ⟨b1, b2, b3, b4, b5⟩, hrd⟩ := h
  have hlr := (List.getElem?_eq_some_iff.mp hS.2.2.1).1
  obtain ⟨S1, hS1⟩ : ∃ S1, S1 = mmNew S (11, 0) 8 := ⟨_, rfl⟩
  obtain ⟨e1, he1⟩ : ∃ e1, e1 = mmNewD S d := ⟨_, rfl⟩
  have xl : S1.1 = S.1 ++ [(11, 0)] := by rw [hS1]; rfl
  have atL : S1.1[S.1.length]? = some (11, 0) := by rw [xl, List.getElem?_append_right (Nat.le_refl _), Nat.sub_self]; rfl
  have hE : Ext S S1 := by rw [hS1]; exact Ext.new
  have hr : ∀ a, a ≠ S.1.length → e1.1 a = d.1 a := fun a ha => by rw [he1]; exact z2_row ha
  have hE2 : Ext S (thS S1 S.1.length) := by
    refine ⟨hE.1, fun a ha => ?_, hE.2.2⟩
    rw [← hE.2.1 a ha]
    funext j
    exact if_neg (fun z => by omega)
  refine ⟨S.1.length, thS S1 S.1.length, dI (dI e1 S.1.length 6 (nI k)) S.1.length 7 (nI bg), dI (dI m 0 12 (nI k)) 0 13 (m.1 0 9), ?_, errs_1 hg, ⟨⟨b1.tr hE2, ?_, fun a ha => ?_, fun a h1 h2 => ?_, fun j hj => ?_⟩, atL, by have := b1.2.2; omega, ?_, ?_, ?_⟩, by rw [dI_ne (by omega), dI_ne (by omega)]⟩
  · unfold Re_fault Fa_init Th_RF thI
    rw [bind2_some, ← hS1, ← he1, (hS.ext hE).K, Option.bind_some, if_pos ⟨⟨rfl, rfl⟩, rfl, rfl⟩, isK_of atL, Option.bind_some, bind3_some, show isK (thS S1 S.1.length) 11 (some S.1.length) = some S.1.length from isK_of atL, Option.bind_some, hr rd (by omega), g2, Option.bind_some, Option.bind_some, bind3_some, bind3_some, show isK (thS S1 S.1.length) 11 (some S.1.length) = some S.1.length from isK_of atL, Option.bind_some]
  · have k1 : S1.2.2.1 = S.2.2.1 + 1 ∧ S1.2.2.2 = S.2.2.2 + 8 := by rw [hS1]; exact ⟨rfl, rfl⟩
    have k2 : S1.1.length = S.1.length + 1 := by rw [xl, List.length_append]; rfl
    show S1.2.2.1 ≤ _ ∧ S1.2.2.2 ≤ _ ∧ S1.1.length + _ ≤ S1.2.2.1 + _
    omega
  · have := b1.2.2
    rw [dI_ne (by omega), dI_ne (by omega), hr a (by omega)]
    exact b3 a ha
  · rw [dI_ne h1, dI_ne h1]
    exact b4 a h1 h2
  · rw [dI_nk (by omega), dI_nk (by omega)]
    exact b5 j hj
  · rw [dI_nk (by omega), dI_at, dI_nk (by omega), dI_at]
  · rw [dI_at, dI_at, g3]
  · rw [dI_nk (by omega), dI_at]
    exact nI_ne0 (by omega) (by omega)
theorem next_rs (h : Rs S0 d0 m0 rd sz c ap tk S d m) : ∃ d' m' a tk', Re_next rd S d = some ((), d') ∧ Mo_advance 0 MoS m = some ((), m') ∧ Rs S0 d0 m0 rd sz c a tk' S d' m' ∧ ap ≤ a ∧ (tk' ≠ 0 → ap < a) ∧ Nx rd d m d' m' := by
  obtain ⟨d', m', a, tk', n1, n2, n3, n4, n5, n6⟩ := next_eq h.1 h.2.1.1
  exact ⟨d', m', a, tk', n1, n2, h.nx n3 n6, n4, n5, n6⟩
/-- a word that is needed -/
theorem needs_eq (h : Rs S0 d0 m0 rd sz c ap tk S d m) {i : Nat} (hi : i < 24) : OG S0 d0 m0 (c + 1) m () (Re_needs rd (some (OPQ + i)) S d) (Mo_expects 0 (some (OPQ + i)) MoS m) ∨ ∃ d' m' a tk', Re_needs rd (some (OPQ + i)) S d = some (.inl (), S, d') ∧ Mo_expects 0 (some (OPQ + i)) MoS m = some ((), m') ∧ Rs S0 d0 m0 rd sz c a tk' S d' m' ∧ ap ≤ a ∧ (tk' ≠ 0 → ap < a) ∧ Nx rd d m d' m' := by
  obtain ⟨b, b1, b2, b3⟩ := is_eq h.1 h.2.1 h.2.2.1 hi
  unfold Mo_expects
  rw [Mo_K, Option.bind_some, b2, Option.bind_some]
  unfold Re_needs
  rw [h.1.K, Option.bind_some, b1, Option.bind_some]
  rcases b3 with rfl | rfl
  · left
    obtain ⟨z, S', d', m', f1, f2, f3, f4⟩ := fault_eq (γ := Unit) h (k := 1) (by omega) (by omega)
    refine ⟨z, S', d', m', ?_, ?_, f3, f4⟩
    · rw [if_neg (show ¬ ¬ (0 : Int32) = 0 from fun z => z rfl)]
      exact f1
    · rw [if_pos rfl, show (1 : Int32) = nI 1 from rfl, f2, bind2_some]
  · right
    obtain ⟨d', m', a, tk', n1, n2, n3⟩ := next_rs h
    refine ⟨d', m', a, tk', ?_, ?_, n3⟩
    · rw [if_pos (show ¬ (1 : Int32) = 0 by decide), n1, bind2_some]
    · rw [if_neg (show ¬ (1 : Int32) = 0 by decide), n2, bind2_some]
/-- a number within bounds -/
theorem num2_eq (h : Rs S0 d0 m0 rd sz c ap tk S d m) : OG S0 d0 m0 (c + 1) m 0 (Re_number_2 rd lo hi S d) (Mo_takes 0 lo hi MoS m) ∨ ∃ v d' m' a tk', Re_number_2 rd lo hi S d = some (.inl (nI v), S, d') ∧ Mo_takes 0 lo hi MoS m = some (nI v, m') ∧ v ≤ 99999 ∧ inI (nI v) lo hi = 1 ∧ Rs S0 d0 m0 rd sz c a tk' S d' m' ∧ ap ≤ a ∧ (tk' ≠ 0 → ap < a) ∧ Nx rd d m d' m' ∧ (tk = 2 ∧ m.1 0 11 = nI v) := by
  obtain ⟨hS, hl, hg, hg2, hB, hrd⟩ := h
  have h : Rs S0 d0 m0 rd sz c ap tk S d m := ⟨hS, hl, hg, hg2, hB, hrd⟩
  obtain ⟨-, -, t1, t2, t3, t4⟩ := hl
  have hK2 : ∀ m' : Dt, ¬ m'.1 0 12 = 0 → Mo_takes_b20 0 lo hi MoS m' = some (0, m') := by
    intro m' hm
    unfold Mo_takes_b20
    rw [Mo_K, Option.bind_some, good_0 hm, Option.bind_some, if_pos rfl]
    unfold Mo_takes_b47
    rw [Mo_K, Option.bind_some, good_0 hm, Option.bind_some, if_neg (show ¬ ¬ (0 : Int32) = 0 from fun z => z rfl)]
  have hK3 : ∀ m' : Dt, ¬ m'.1 0 12 = 0 → Mo_takes_b47 0 lo hi MoS m' = some (0, m') := by
    intro m' hm
    unfold Mo_takes_b47
    rw [Mo_K, Option.bind_some, good_0 hm, Option.bind_some, if_neg (show ¬ ¬ (0 : Int32) = 0 from fun z => z rfl)]
  unfold Mo_takes
  rw [Mo_K, Option.bind_some, good_1 hg, Option.bind_some, if_neg (show ¬ (1 : Int32) = 0 by decide), t3]
  unfold Re_number_2
  rw [hS.K, Option.bind_some, t2]
  by_cases c2 : tk = 2
  · subst c2
    obtain ⟨v, v1, v2, v3⟩ := t4 rfl
    have hM : Mo_takes_b20 0 lo hi MoS m = if ¬ inI (nI v) lo hi = 0 then Mo_takes_b47 0 lo hi MoS m else bind2 (Mo_errs 0 2 MoS m) fun _ d9 => Mo_takes_b47 0 lo hi MoS d9 := by
      unfold Mo_takes_b20
      rw [Mo_K, Option.bind_some, good_1 hg, Option.bind_some, if_neg (show ¬ (1 : Int32) = 0 by decide), v3, Mo_in_eq, Option.bind_some]
    rw [if_pos (show nI 2 = 2 from rfl), if_pos (show nI 2 = 2 from rfl), hM, v2, Ws_in_eq, Option.bind_some]
    rcases inI_01 (nI v) lo hi with e | e
    · left
      obtain ⟨z, S', d', m', f1, f2, f3, f4⟩ := fault_eq (γ := Int32) h (k := 2) (by omega) (by omega)
      refine ⟨z, S', d', m', ?_, ?_, f3, f4⟩
      · rw [e, if_neg (show ¬ ¬ (0 : Int32) = 0 from fun z => z rfl)]
        exact f1
      · rw [e, if_neg (show ¬ ¬ (0 : Int32) = 0 from fun z => z rfl), show (2 : Int32) = nI 2 from rfl, f2, bind2_some]
        exact hK3 m' f3.2.2.2.2.2
    · right
      obtain ⟨d', m', a, tk', n1, n2, n3, n4, n5, n6⟩ := next_rs h
      refine ⟨v, d', m', a, tk', ?_, ?_, v1, e, n3, n4, n5, n6, rfl, v3⟩
      · rw [e, if_pos (show ¬ (1 : Int32) = 0 by decide), Option.bind_some, n1, bind2_some]
      · rw [e, if_pos (show ¬ (1 : Int32) = 0 by decide)]
        unfold Mo_takes_b47
        rw [Mo_K, Option.bind_some, good_1 hg, Option.bind_some, if_pos (show ¬ (1 : Int32) = 0 by decide), v3, Option.bind_some, n2, bind2_some]
  · have c2' : ¬ nI tk = 2 := fun z => c2 ((nI_eq (b := 2) (by omega) (by omega)).mp z)
    left
    obtain ⟨z, S', d', m', f1, f2, f3, f4⟩ := fault_eq (γ := Int32) h (k := 1) (by omega) (by omega)
    refine ⟨z, S', d', m', ?_, ?_, f3, f4⟩
    · rw [if_neg c2']
      exact f1
    · rw [if_neg c2', show (1 : Int32) = nI 1 from rfl, f2, bind2_some]
      exact hK2 m' f3.2.2.2.2.2
/-- a word and its number -/
theorem num_eq (h : Rs S0 d0 m0 rd sz c ap tk S d m) {i : Nat} (hi9 : i < 24) : OG S0 d0 m0 (c + 1) m 0 (Re_number rd (some (OPQ + i)) lo hi S d) (Mo_toldBy 0 (some (OPQ + i)) lo hi MoS m) ∨ ∃ v d' m' a tk', Re_number rd (some (OPQ + i)) lo hi S d = some (.inl (nI v), S, d') ∧ Mo_toldBy 0 (some (OPQ + i)) lo hi MoS m = some (nI v, m') ∧ v ≤ 99999 ∧ inI (nI v) lo hi = 1 ∧ Rs S0 d0 m0 rd sz c a tk' S d' m' ∧ ap ≤ a ∧ (tk' ≠ 0 → ap < a) ∧ Nx rd d m d' m' := by
  unfold Mo_toldBy
  rw [Mo_K, Option.bind_some]
  unfold Re_number
  rw [h.1.K, Option.bind_some]
  rcases needs_eq h hi9 with ⟨z, S', d', m', f1, f2, f3, f4⟩ | ⟨d', m', a, tk', n1, n2, n3, n4, n5, n6⟩
  · left
    refine ⟨z, S', d', m', ?_, ?_, f3, f4⟩
    · rw [f1, bindE_r]
    · rw [f2, bind2_some, takes_0 f3.2.2.2.2.2, bind2_some]
  · rcases num2_eq (lo := lo) (hi := hi) n3 with ⟨z, S', d2, m2, f1, f2, f3, f4⟩ | ⟨v, d2, m2, a2, tk2, p1, p2, p3, p4, p5, p6, p7, p8, -⟩
    · left
      refine ⟨z, S', d2, m2, ?_, ?_, f3, f4.trans (n6.2.2.1 6 (by omega))⟩
      · rw [n1, bindE_l, n3.1.K, Option.bind_some, f1, bindE_r]
      · rw [n2, bind2_some, f2, bind2_some]
    · right
      refine ⟨v, d2, m2, a2, tk2, ?_, ?_, p3, p4, p5, by omega, fun z => by have := p7 z; omega, n6.tr p8⟩
      · rw [n1, bindE_l, n3.1.K, Option.bind_some, p1, bindE_l]
      · rw [n2, bind2_some, p2, bind2_some]
end
