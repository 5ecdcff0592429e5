/-! THE PLAIN LAW: the model's responses; bounds, what is lawful -/
set_option maxRecDepth 100000
section
variable {S : Sp} {d d2 : Dt} {q : TdP} {t : Nat}
theorem Mo_period_eq (h : CE S d (mw d2) q) (ht : t < q.nt) : Mo_period 0 (nI t) MoS d2 = some (nI (pN (mw d2) t)) := by
  have h5 := h.nt5
  unfold Mo_period
  rw [Mo_K, Option.bind_some, show Mo_toldOf 0 (nI t) 1 MoS d2 = _ from Mo_toldOf_eq (w := 1) (by omega) (by omega), Option.bind_some, (h.per ht).1]
theorem Mw4 (h : CE S d (mw d2) q) : aix MoS 50 (MoS.2.1 0 1) 4 = some (1, 4) ∧ d2.1 1 4 = nI q.nt := ⟨Mw 4 (by omega), h.wf.2.1.1⟩
/-- the sum, by the model -/
theorem Mo_sum_eq (h : CE S d (mw d2) q) {g A : Nat → Nat} (hg : grM d2 q g A) {i r : Nat} (hi : i < q.nt) (hr : r ≤ 60) (hb : rS (fun o => lgN (mw d2) o (q.nd o) + g o) (pN (mw d2)) i (A i) r q.nt ≤ 100000) (k7 : Int32 → Option Int32) : Mo_responseOf_h26 0 (nI i) MoS d2 k7 FU (nI r) (nI (lgN (mw d2) i (q.nd i) + g i)) 0 = if rS (fun o => lgN (mw d2) o (q.nd o) + g o) (pN (mw d2)) i (A i) r q.nt = r then some (nI r) else k7 (nI (r + 1)) := by
  have h5 := h.nt5
  obtain ⟨m1, m2⟩ := Mw4 h
  refine loop_FU (X := fun F (x : Int32 × Int32) => Mo_responseOf_h26 0 (nI i) MoS d2 k7 F (nI r) x.1 x.2) (Inv := fun j x => x = (nI (rS (fun o => lgN (mw d2) o (q.nd o) + g o) (pN (mw d2)) i (A i) r j), nI j)) (P := fun o => o = if rS (fun o => lgN (mw d2) o (q.nd o) + g o) (pN (mw d2)) i (A i) r q.nt = r then some (nI r) else k7 (nI (r + 1))) (x := (nI (lgN (mw d2) i (q.nd i) + g i), 0)) q.nt (by omega) rfl ?_ ?_
  · intro j hj F x hx
    subst hx
    refine ⟨(nI (rS (fun o => lgN (mw d2) o (q.nd o) + g o) (pN (mw d2)) i (A i) r (j + 1)), nI (j + 1)), ?_, rfl⟩
    show Mo_responseOf_h26 0 (nI i) MoS d2 k7 (F + 1) (nI r) (nI (rS (fun o => lgN (mw d2) o (q.nd o) + g o) (pN (mw d2)) i (A i) r j)) (nI j) = Mo_responseOf_h26 0 (nI i) MoS d2 k7 F (nI r) (nI (rS (fun o => lgN (mw d2) o (q.nd o) + g o) (pN (mw d2)) i (A i) r j + if (A i).testBit j then (r + pN (mw d2) j - 1) / pN (mw d2) j * (lgN (mw d2) j (q.nd j) + g j) else 0)) (nI (j + 1))
    obtain ⟨p1, p2, p3⟩ := h.per hj
    obtain ⟨-, -, a1, a2⟩ := hg i hi
    obtain ⟨b1, -, -, -⟩ := hg j hj
    have hbit := bit_on a2 (show j < 5 by omega)
    rw [Mo_responseOf_h26, Mo_K, Option.bind_some, m1, Option.bind_some, m2, if_neg (nI_ge hj (by omega)), MoS_R0_18, ma10 (show i < 5 by omega), Option.bind_some, a1]
    unfold Mo_responseOf_b82
    by_cases hbt : (A i).testBit j = true
    · rw [if_pos hbt, if_neg (fun z => z (hbit.mpr hbt)), Mo_period_eq h hj, Option.bind_some, Option.bind_some, show gz (nI (pN (mw d2) j)) = some () from if_neg (nI_ne0 (by omega) (by omega)), Option.bind_some, MoS_R0_16, ma8 (show j < 5 by omega), Option.bind_some, Option.bind_some, b1, nI_add]
      obtain ⟨m, hm⟩ : ∃ m, r + pN (mw d2) j = m + 1 := ⟨r + pN (mw d2) j - 1, by omega⟩
      rw [hm, nI_pred, pk_div (by omega) (by omega) (by omega), nI_mul, nI_add, nI_1]
      rfl
    · rw [if_neg hbt, if_pos (fun z => hbt (hbit.mp z)), Option.bind_some, Int32.add_zero, nI_1]
      rfl
  · intro F x hx
    subst hx
    show Mo_responseOf_h26 0 (nI i) MoS d2 k7 (F + 1) (nI r) (nI (rS (fun o => lgN (mw d2) o (q.nd o) + g o) (pN (mw d2)) i (A i) r q.nt)) (nI q.nt) = _
    rw [Mo_responseOf_h26, Mo_K, Option.bind_some, m1, Option.bind_some, m2, if_pos (nI_le (Nat.le_refl _) (by omega))]
    by_cases e : rS (fun o => lgN (mw d2) o (q.nd o) + g o) (pN (mw d2)) i (A i) r q.nt = r
    · rw [if_pos e, e, if_neg (fun z => z rfl)]
    · rw [if_neg e, if_pos (fun z => e ((nI_eq (by omega) (by omega)).mp z)), nI_1]
theorem Mo_resp_eq (h : CE S d (mw d2) q) {g A : Nat → Nat} (hg : grM d2 q g A) (hg5 : ∀ i, i < q.nt → g i ≤ 50) {i : Nat} (hi : i < q.nt) : ∃ x, Mo_responseOf 0 (nI i) MoS d2 = some x ∧ isR (fun o => lgN (mw d2) o (q.nd o) + g o) (pN (mw d2)) q.nt i (A i) x := by
  have h5 := h.nt5
  obtain ⟨p1, p2, p3⟩ := h.per hi
  obtain ⟨l1, l2, l3⟩ := h.lg hi
  have hgi := hg5 i hi
  have hbd : ∀ r, r ≤ 60 → rS (fun o => lgN (mw d2) o (q.nd o) + g o) (pN (mw d2)) i (A i) r q.nt ≤ 62504 := by
    intro r hr
    have := rS_le (L := fun o => lgN (mw d2) o (q.nd o) + g o) (P := pN (mw d2)) (i := i) (A := A i) hr (by show lgN (mw d2) i (q.nd i) + g i ≤ 104; omega) q.nt (fun o ho => by
      obtain ⟨-, a, b⟩ := h.per ho
      have c := (h.lg ho).2.2
      have e := hg5 o ho
      exact ⟨a, b, by show lgN (mw d2) o (q.nd o) + g o ≤ 104; omega⟩)
    omega
  unfold Mo_responseOf
  rw [Mo_K, Option.bind_some, MoS_R0_16, ma8 (show i < 5 by omega), Option.bind_some, Option.bind_some, (hg i hi).1]
  have key : ∀ n r F, pN (mw d2) i + 1 - r ≤ n → n < F → r ≤ 200 → lgN (mw d2) i (q.nd i) + g i ≤ r → (∀ s, lgN (mw d2) i (q.nd i) + g i ≤ s → s < r → rS (fun o => lgN (mw d2) o (q.nd o) + g o) (pN (mw d2)) i (A i) s q.nt ≠ s) → ∃ x, Mo_responseOf_h7 0 (nI i) MoS d2 F (nI r) = some x ∧ isR (fun o => lgN (mw d2) o (q.nd o) + g o) (pN (mw d2)) q.nt i (A i) x := by
    intro n
    induction n with
    | zero =>
      intro r F h1 h2 h3 h4 h6
      obtain ⟨F, rfl⟩ : ∃ F', F = F' + 1 := ⟨F - 1, by omega⟩
      rw [Mo_responseOf_h7, Mo_K, Option.bind_some, Mo_period_eq h hi, Option.bind_some, if_pos (nI_lt (by omega) (by omega))]
      exact ⟨-1, rfl, Or.inr ⟨rfl, fun s s1 s2 => h6 s s1 (by omega)⟩⟩
    | succ n ih =>
      intro r F h1 h2 h3 h4 h6
      obtain ⟨F, rfl⟩ : ∃ F', F = F' + 1 := ⟨F - 1, by omega⟩
      rw [Mo_responseOf_h7, Mo_K, Option.bind_some, Mo_period_eq h hi, Option.bind_some]
      by_cases hr : pN (mw d2) i < r
      · rw [if_pos (nI_lt hr (by omega))]
        exact ⟨-1, rfl, Or.inr ⟨rfl, fun s s1 s2 => h6 s s1 (by omega)⟩⟩
      rw [if_neg (nI_nlt (by omega) (by omega)), MoS_R0_16, ma8 (show i < 5 by omega), Option.bind_some, Option.bind_some, (hg i hi).1, Mo_sum_eq h hg hi (by omega) (by have := hbd r (by omega); omega)]
      by_cases e : rS (fun o => lgN (mw d2) o (q.nd o) + g o) (pN (mw d2)) i (A i) r q.nt = r
      · rw [if_pos e]
        exact ⟨nI r, rfl, Or.inl ⟨r, rfl, h4, by omega, e, h6⟩⟩
      · rw [if_neg e]
        refine ih (r + 1) F (by omega) (by omega) (by omega) (by omega) (fun s s1 s2 => ?_)
        by_cases es : s = r
        · rw [es]; exact e
        · exact h6 s s1 (by omega)
  exact key 61 _ FU (by omega) (show 61 < 10000 by omega) (by omega) (Nat.le_refl _) (fun s s1 s2 => by omega)
/-- both answer alike -/
theorem resp_eq (h : CE S d (mw d2) q) {g A : Nat → Nat} (hc : grC d q g) (hm : grM d2 q g A) {i : Nat} (hi : i < q.nt) : ∃ x, Ws_responseOf 0 (nI i) (nI (A i)) S d = some x ∧ Mo_responseOf 0 (nI i) MoS d2 = some x ∧ (x = -1 ∨ ∃ r, x = nI r ∧ r ≤ 60) := by
  obtain ⟨x, x1, x2⟩ := Ws_resp_eq h hc hi (hm i hi).2.2.2
  obtain ⟨y, y1, y2⟩ := Mo_resp_eq h hm (fun i hi => (hc i hi).2) hi
  have e := isR_eq x2 y2
  subst e
  refine ⟨x, x1, y1, ?_⟩
  rcases x2 with ⟨r, r1, r2, r3, -⟩ | ⟨r1, -⟩
  · exact Or.inr ⟨r, r1, by have := (h.per hi).2.2; omega⟩
  · exact Or.inl r1
theorem i_sub (a b c : Int32) : a - b - c = a - (b + c) := by grind
theorem i_sub2 (a b c : Int32) : a - (b - c) = (a + c) - b := by grind
theorem spread2 {c r s : Nat} {p : Int32} (hc : c ≤ 1000) (hr : r ≤ 1000) (hs : s ≤ 1000) : imax 0 (nI c - (nI r - nI s)) / p = if nI r - nI s ≤ nI c then (nI c - (nI r - nI s)) / p else 0 := by
  have h1 : (nI r - nI s).toInt = (r : Int) - s := pk_sub_toInt (by omega) (by omega)
  have h2 : (nI c - (nI r - nI s)).toInt = (c : Int) + s - r := by
    rw [i_sub2, nI_add, pk_sub_toInt (by omega) (by omega)]
    omega
  have h3 : (nI c).toInt = (c : Int) := nI_toInt (by omega)
  have h4 : (0 : Int32).toInt = 0 := by decide
  unfold imax
  by_cases h : nI r - nI s ≤ nI c
  · rw [if_pos h]
    have h' := Int32.le_iff_toInt_le.mp h
    by_cases h0 : (0 : Int32) < nI c - (nI r - nI s)
    · rw [if_pos h0]
    · rw [if_neg h0]
      have h0' : ¬ ((0 : Int32).toInt < (nI c - (nI r - nI s)).toInt) := fun z => h0 (Int32.lt_iff_toInt_lt.mpr z)
      have e : nI c - (nI r - nI s) = 0 := Int32.toInt_inj.mp (by omega)
      rw [e]
  · rw [if_neg h]
    have h' : ¬ ((nI r - nI s).toInt ≤ (nI c).toInt) := fun z => h (Int32.le_iff_toInt_le.mpr z)
    rw [if_neg (fun z => by have := Int32.lt_iff_toInt_lt.mp z; omega)]
    exact Int32.zero_div
theorem CE.cyc (h : CE S d (mw d2) q) : d.1 q.a 4 = mw d2 1 ∧ ∃ c, mw d2 1 = nI c ∧ c ≤ 50 := by
  obtain ⟨-, -, ta, t0, t1, t2, -, -, -, -, -, -, -, -, v3, v4, v5, v6, v7, v8, ⟨-, -, -, ⟨hh, cy, lo, ln, -, -, e1, e2, -⟩, -⟩⟩ := h
  exact ⟨v4, cy, e1, e2⟩
theorem bound_eq (h : CE S d (mw d2) q) {g A : Nat → Nat} (hc : grC d q g) (hm : grM d2 q g A) {i k r : Nat} (hi : i < q.nt) (hk : k ≤ 3) (hr : r ≤ 60) (hx : Mo_responseOf 0 (nI i) MoS d2 = some (nI r)) : ∃ y, Ws_leastOf 0 (nI i) (nI k) (nI r) S d = some y ∧ Mo_boundOf 0 (nI i) (nI k) MoS d2 = some y := by
  have h5 := h.nt5
  obtain ⟨-, hf, -⟩ := h.task hi
  obtain ⟨p1, p2, p3⟩ := h.per hi
  obtain ⟨s1, s2⟩ := h.sh hi
  obtain ⟨g1, g2⟩ := hc i hi
  obtain ⟨-, m2, -⟩ := hm i hi
  obtain ⟨y1, cy, y2, y3⟩ := h.cyc
  have hz : gz (nI (pN (mw d2) i)) = some () := if_neg (nI_ne0 (by omega) (by omega))
  have hfp : d.1 (q.tk i) 1 = nI (pN (mw d2) i) := (hf 1 (by omega)).trans p1
  unfold Ws_leastOf Ta_shortest Ws_leastOf_b30 Mo_boundOf
  have hT := h.T
  have hcost : Ta_cost 8 (q.tk i) 0 0 S d = some (wC (mw d2) i (q.nd i) false 0) := h.cost hi false
  have hm1 : aix MoS 50 (MoS.2.1 0 1) 1 = some (1, 1) := Mw 1 (by omega)
  have h9 : aix MoS 50 (some 9) (nI i) = some (9, i) := ma9 (show i < 5 by omega)
  have hper := Mo_period_eq h hi
  simp only [h.K, h.taskOf hi, h.tK hi, hT, hcost, s1, g1, Mo_K, hx, MoS_R0_17, h9, m2, hper, hm1, hz, hfp, y1, Ws_up, Option.bind_some, i_sub, nI_add]
  obtain rfl | rfl | rfl | rfl : k = 0 ∨ k = 1 ∨ k = 2 ∨ k = 3 := by omega
  · rw [if_pos rfl, if_pos rfl]
    exact ⟨_, rfl, rfl⟩
  · rw [if_neg (show ¬ nI 1 = nI 0 by decide), if_neg (show ¬ nI 1 = nI 0 by decide), if_pos rfl, if_pos rfl]
    exact ⟨_, rfl, rfl⟩
  · rw [if_neg (show ¬ nI 2 = nI 0 by decide), if_neg (show ¬ nI 2 = nI 0 by decide), if_neg (show ¬ nI 2 = nI 1 by decide), if_neg (show ¬ nI 2 = nI 1 by decide), if_pos rfl, if_pos rfl]
    rw [show d2.1 1 1 = nI cy from y2, y2, spread2 (by omega) (by omega) (by omega)]
    split
    · exact ⟨_, rfl, rfl⟩
    · exact ⟨_, rfl, rfl⟩
  · rw [if_neg (show ¬ nI 3 = nI 0 by decide), if_neg (show ¬ nI 3 = nI 0 by decide), if_neg (show ¬ nI 3 = nI 1 by decide), if_neg (show ¬ nI 3 = nI 1 by decide), if_neg (show ¬ nI 3 = nI 2 by decide), if_neg (show ¬ nI 3 = nI 2 by decide)]
    exact ⟨_, rfl, rfl⟩
theorem isLawful_eq (h : CE S d (mw d2) q) {g A : Nat → Nat} (hc : grC d q g) (hm : grM d2 q g A) {i : Nat} (hi : i < q.nt) : ∃ b, Ws_isLawful 0 (nI i) (nI (A i)) S d = some b ∧ Mo_isLawful 0 (nI i) MoS d2 = some b ∧ (b = 0 ∨ b = 1) := by
  have h5 := h.nt5
  obtain ⟨-, hf, -⟩ := h.task hi
  obtain ⟨x, x1, x2, x3⟩ := resp_eq h hc hm hi
  unfold Ws_isLawful Mo_isLawful
  rw [h.K, Option.bind_some, h.taskOf hi, Option.bind_some, x1, Option.bind_some, Mo_K, Option.bind_some, x2, Option.bind_some]
  rcases x3 with rfl | ⟨r, rfl, hr⟩
  · rw [if_neg (fun z => z rfl), if_neg (fun z => z rfl)]
    exact ⟨0, rfl, rfl, Or.inl rfl⟩
  have told : ∀ k, k < 6 → Mo_toldOf 0 (nI i) (nI k) MoS d2 = some (d.1 (q.tk i) k) := fun k hk => by
    rw [Mo_toldOf_eq (by omega) (by omega), hf k hk]
  obtain ⟨b0, c0, e0⟩ := bound_eq h hc hm (k := 0) hi (by omega) hr x2
  obtain ⟨b1, c1, e1⟩ := bound_eq h hc hm (k := 1) hi (by omega) hr x2
  obtain ⟨b2, c2', e2⟩ := bound_eq h hc hm (k := 2) hi (by omega) hr x2
  obtain ⟨b3, c3, e3⟩ := bound_eq h hc hm (k := 3) hi (by omega) hr x2
  rw [if_pos (m1_pos (by omega)), if_pos (m1_pos (by omega)), h.tK hi, Option.bind_some, show Ws_leastOf 0 (nI i) 0 (nI r) S d = _ from c0, Option.bind_some, show Mo_toldOf 0 (nI i) 2 MoS d2 = _ from told 2 (by omega), Option.bind_some, show Mo_boundOf 0 (nI i) 0 MoS d2 = _ from e0, Option.bind_some]
  by_cases z0 : b0 < d.1 (q.tk i) 2
  · rw [if_pos z0, if_pos z0]
    exact ⟨0, rfl, rfl, Or.inl rfl⟩
  rw [if_neg z0, if_neg z0, show Ws_leastOf 0 (nI i) 1 (nI r) S d = _ from c1, Option.bind_some, show Mo_toldOf 0 (nI i) 3 MoS d2 = _ from told 3 (by omega), Option.bind_some, show Mo_boundOf 0 (nI i) 1 MoS d2 = _ from e1, Option.bind_some]
  by_cases z1 : d.1 (q.tk i) 3 < b1
  · rw [if_pos z1, if_pos z1]
    exact ⟨0, rfl, rfl, Or.inl rfl⟩
  rw [if_neg z1, if_neg z1, show Ws_leastOf 0 (nI i) 2 (nI r) S d = _ from c2', Option.bind_some, show Mo_toldOf 0 (nI i) 4 MoS d2 = _ from told 4 (by omega), Option.bind_some, show Mo_boundOf 0 (nI i) 2 MoS d2 = _ from e2, Option.bind_some]
  by_cases z2 : b2 < d.1 (q.tk i) 4
  · rw [if_pos z2, if_pos z2]
    exact ⟨0, rfl, rfl, Or.inl rfl⟩
  rw [if_neg z2, if_neg z2, show Ws_leastOf 0 (nI i) 3 (nI r) S d = _ from c3, Option.bind_some, show Mo_toldOf 0 (nI i) 5 MoS d2 = _ from told 5 (by omega), Option.bind_some, show Mo_boundOf 0 (nI i) 3 MoS d2 = _ from e3, Option.bind_some]
  by_cases z3 : d.1 (q.tk i) 5 < b3
  · rw [if_pos z3]
    exact ⟨0, rfl, rfl, Or.inl rfl⟩
  rw [if_neg z3]
  exact ⟨1, rfl, rfl, Or.inr rfl⟩
end
