/-! THE PLAIN LAW: an injection more -/
set_option maxRecDepth 100000
/-- the numbers of an injection -/
def InjW (w : Nat → Int32) (nw nt : Nat) (nd : Nat → Nat) (i : Nat) : Prop := (∃ v j, w (106 + 5 * i) = nI 5 ∧ w (106 + 5 * i + 1) = nI v ∧ v < nw ∧ w (106 + 5 * i + 2) = nI j ∧ j < 200 ∧ w (106 + 5 * i + 3) = -1 ∧ w (106 + 5 * i + 4) = -1) ∨
    ∃ k t j tm, w (106 + 5 * i) = nI k ∧ k ≤ 4 ∧ w (106 + 5 * i + 1) = nI t ∧ t < nt ∧ w (106 + 5 * i + 2) = nI j ∧ j ≤ 50 ∧ ((k = 4 ∧ w (106 + 5 * i + 3) = -1) ∨ k < 4 ∧ ∃ n, n < nd t ∧ w (106 + 5 * i + 3) = nI n) ∧ w (106 + 5 * i + 4) = nI tm ∧ 1 ≤ tm ∧ tm ≤ 9
theorem WF.injs {w : Nat → Int32} {nw nt ni na : Nat} {nd : Nat → Nat} (h : WF w nw nt ni na nd) {i : Nat} (hi : i < ni) : InjW w nw nt nd i := by
  obtain ⟨-, -, -, -, -, -, g⟩ := h
  exact g i hi
theorem InjW.cong {w w' : Nat → Int32} {nw nt : Nat} {nd : Nat → Nat} {i : Nat} (h : InjW w nw nt nd i) (hw : ∀ f, f < 5 → w' (106 + 5 * i + f) = w (106 + 5 * i + f)) : InjW w' nw nt nd i := by
  unfold InjW at h ⊢
  rw [show w' (106 + 5 * i) = _ from hw 0 (by omega), hw 1 (by omega), hw 2 (by omega), hw 3 (by omega), hw 4 (by omega)]
  exact h
theorem WF.row2 {w w' : Nat → Int32} {nw nt ni na ni' na' : Nat} {nd : Nat → Nat} (h : WF w nw nt ni na nd) (hb : ¬ w 7 ≤ 0) (hw : ∀ i, i < 106 → i ≠ 6 → w' i = w i) (h6 : w' 6 = nI na') (hn : ni' - na' = ni - na ∧ na' ≤ ni' ∧ na' ≤ 11) (hi : ∀ i, i < ni' → InjW w' nw nt nd i) : WF w' nw nt ni' na' nd := by
  obtain ⟨⟨a1, a2⟩, ⟨b1, b2⟩, ⟨c1, c2, c3, c4, c5⟩, ⟨hh, cy, lo, ln, e1, e2, e3, e4, e5, e6, e7, e8, e9, e10⟩, f, g, -⟩ := h
  have hln : ¬ ln = 0 := fun z => by
    rw [e7, z] at hb
    exact hb (by decide)
  refine ⟨⟨by rw [hw 3 (by omega) (by omega)]; exact a1, a2⟩, ⟨by rw [hw 4 (by omega) (by omega)]; exact b1, b2⟩, ⟨by rw [hw 5 (by omega) (by omega), hn.1]; exact c1, h6, hn.2.1, by omega, hn.2.2⟩, ⟨hh, cy, lo, ln, by rw [hw 0 (by omega) (by omega)]; exact e1, e2, by rw [hw 1 (by omega) (by omega)]; exact e3, e4, by rw [hw 2 (by omega) (by omega)]; exact e5, e6, by rw [hw 7 (by omega) (by omega)]; exact e7, e8, e9, fun z => absurd z hln⟩, fun v hv => ?_, fun t ht => ?_, hi⟩
  · rw [hw 8 (by omega) (by omega), hw (8 + v) (by omega) (by omega)]
    exact f v hv
  · obtain ⟨⟨g1, g2, g3⟩, ⟨x1, x2, x3, x4, x5, x6, y1, y2, y3, y4, y5, y6, y7, y8, y9, z1, z2, z3, z4, z5, z6⟩, gn⟩ := g t ht
    refine ⟨⟨g1, g2, by rw [hw _ (by omega) (by omega)]; exact g3⟩, ⟨x1, x2, x3, x4, x5, x6, by rw [hw _ (by omega) (by omega)]; exact y1, y2, by rw [hw _ (by omega) (by omega)]; exact y3, y4, y5, by rw [hw _ (by omega) (by omega)]; exact y6, y7, by rw [hw _ (by omega) (by omega)]; exact y8, y9, z1, by rw [hw _ (by omega) (by omega)]; exact z2, z3, by rw [hw _ (by omega) (by omega)]; exact z4, z5, z6⟩, fun n hn => ?_⟩
    rw [hw (46 + 2 * (6 * t + n)) (by omega) (by omega), hw (46 + 2 * (6 * t + n) + 1) (by omega) (by omega)]
    exact gn n hn
/-- a list with one more -/
theorem list_add {S : Sp} {d : Dt} {l e cap n x : Nat} {el : Nat → Nat} (h : ListT S d l e cap n el) (hx : S.1[x]? = some (13, 0)) (hn : n ≤ 18) (hc1 : 18 ≤ cap) (hc2 : cap ≤ 60) (hel : ∀ i, i < n → S.1[el i]? = some (13, 0)) : ∃ S' d' e' cap', Jl_add l (some x) S d = some (1, S', d') ∧ ListT S' d' l e' cap' (n + 1) (fun i => if i = n then x else el i) ∧ (e' = e ∨ S.1.length ≤ e') ∧ (18 ≤ cap' ∧ cap' ≤ 60) ∧ (∀ a, a < S.1.length → a ≠ l → d'.1 a = d.1 a) ∧ (∀ i, i < S.1.length → S'.1[i]? = S.1[i]?) ∧ (∀ a, a < S.1.length → a ≠ l → a ≠ e → S'.2.1 a = S.2.1 a) ∧ (∀ j, j ≠ 1 → S'.2.1 l j = S.2.1 l j) ∧ S'.2.2.1 ≤ S.2.2.1 + 1 ∧ S'.2.2.2 ≤ S.2.2.2 + 27 ∧ S'.1.length + S.2.2.1 ≤ S'.2.2.1 + S.1.length ∧ S.1.length ≤ S'.1.length := by
  obtain ⟨l1, l2, l3, l4, l5, l6, l7⟩ := h
  have hll := (List.getElem?_eq_some_iff.mp l1).1
  have hle := (List.getElem?_eq_some_iff.mp l3).1
  have hlx := (List.getElem?_eq_some_iff.mp hx).1
  have hne : l ≠ e := by
    intro z
    rw [z, l3] at l1
    exact absurd (congrArg Prod.fst (Option.some.inj l1)) (show ¬ (58 : Nat) = 16 by decide)
  have hkT : ∀ T : Sp, T.1[x]? = some (13, 0) → kTI T (some x) = some x := by
    intro T hT
    unfold kTI okT
    rw [Option.bind_some, hT]
    rfl
  have e2 : (dI d l 0 (d.1 l 0 + 1)).1 l 2 = nI n := (dI_nk (by omega)).trans l4
  unfold Jl_add Jl_add_2 Jl_add_2_b11
  rw [isK_of l1, Option.bind_some, Option.bind_some, l2, e2, aln_ok l3, Option.bind_some]
  by_cases c : n = cap
  · have hn18 : n = 18 := by omega
    have hc18 : cap = 18 := by omega
    subst c
    subst hn18
    rw [if_neg (fun z => z rfl), Option.bind_some]
    unfold Jl_grow Jl_grow_2
    rw [isK_of l1, Option.bind_some, Option.bind_some, e2, l2, aln_ok l3, Option.bind_some, Option.bind_some, if_pos (show (0 : Int32) < nI 18 by decide), show Jas_newLength (nI 18) (nI 18 + 1 - nI 18) (nI 18 >>> (1 &&& 31)) S (dI d l 0 (d.1 l 0 + 1)) = some (nI 27) from by unfold Jas_newLength; decide, Option.bind_some]
    unfold Ja_copyOf Ja_copyOf_2
    rw [aln_ok l3, Option.bind_some, show geq (some (OPQ + 300)) (some (OPQ + 300)) = some () from if_pos rfl, Option.bind_some, gn_ok (n := 27) (by omega), Option.bind_some, bind2_some]
    obtain ⟨S3, hS3⟩ : ∃ S3, S3 = mmNew S (50 + 8, 27) 27 := ⟨_, rfl⟩
    obtain ⟨d4, hd4⟩ : ∃ d4, d4 = mmNewD S (dI d l 0 (d.1 l 0 + 1)) := ⟨_, rfl⟩
    have x3 : S3.1 = S.1 ++ [(58, 27)] := by rw [hS3]; rfl
    have n3 : S3.1.length = S.1.length + 1 := by rw [x3, List.length_append]; rfl
    have k3 : S3.2.2.1 = S.2.2.1 + 1 ∧ S3.2.2.2 = S.2.2.2 + 27 := by rw [hS3]; exact ⟨rfl, rfl⟩
    have r3 : ∀ a, a ≠ S.1.length → S3.2.1 a = S.2.1 a := fun a ha => by rw [hS3]; exact z2_row ha
    have r3n : ∀ j, S3.2.1 S.1.length j = none := fun j => by rw [hS3]; exact if_pos rfl
    have l33 : S3.1[e]? = some (58, 18) := at_old x3 l3
    have l13 : S3.1[l]? = some (16, 0) := at_old x3 l1
    have hx3 : S3.1[x]? = some (13, 0) := at_old x3 hx
    have lL : S3.1[S.1.length]? = some (58, 27) := by
      rw [x3, List.getElem?_append_right (Nat.le_refl _), Nat.sub_self]; rfl
    have him : imin (nI 18) (nI 27) = nI 18 := by decide
    have z0 : Int32.toNatClampNeg 0 = 0 := by decide
    have z18 : Int32.toNatClampNeg (nI 18) = 18 := by decide
    have hgel : gel S3 e 0 18 = some () := gel_ok (fun i hi => ⟨el i, by rw [r3 e (by omega)]; exact l6 i hi, Or.inr (at_old x3 (hel i hi))⟩)
    rw [← hS3, ← hd4, aln_ok l33, Option.bind_some, him, gcp_ok l33 lL (by omega) (by omega) (by omega), Option.bind_some, z0, z18, hgel, Option.bind_some, Option.bind_some, bind3_some, bind3_some]
    dsimp only
    obtain ⟨S8, hS8⟩ : ∃ S8 : Sp, S8 = (S3.1, c2 S3.2.1 e S.1.length 0 0 18, S3.2.2) := ⟨_, rfl⟩
    rw [← hS8]
    have x8 : S8.1 = S3.1 := by rw [hS8]
    have q8 : S8.2.2 = S3.2.2 := by rw [hS8]
    have r8 : ∀ a, a ≠ S.1.length → S8.2.1 a = S3.2.1 a := fun a ha => by rw [hS8]; exact c2_row ha
    have r8L : ∀ i, S8.2.1 S.1.length i = if i < 18 then S.2.1 e i else none := by
      intro i
      rw [hS8]
      show c2 S3.2.1 e S.1.length 0 0 18 S.1.length i = _
      rw [c2_at]
      unfold va_cpy
      by_cases ci : i < 18
      · rw [if_pos (by omega), if_pos ci, r3 e (by omega), Nat.zero_add, Nat.sub_zero]
      · rw [if_neg (by omega), if_neg ci]
        exact r3n i
    rw [isK_of (show S8.1[l]? = some (16, 0) by rw [x8]; exact l13), Option.bind_some, Option.bind_some, bind3_some, bind3_some]
    obtain ⟨S9, hS9⟩ : ∃ S9, S9 = sR S8 l 1 (some S.1.length) := ⟨_, rfl⟩
    rw [← hS9]
    have x9 : S9.1 = S3.1 := by rw [hS9]; exact x8
    have q9 : S9.2.2 = S3.2.2 := by rw [hS9]; exact q8
    have r9 : ∀ a, a ≠ l → S9.2.1 a = S8.2.1 a := fun a ha => by rw [hS9]; exact u2_row ha
    have r9l : S9.2.1 l 1 = some S.1.length ∧ ∀ j, j ≠ 1 → S9.2.1 l j = S8.2.1 l j := by
      rw [hS9]; exact ⟨u2_at, fun j hj => u2_ne (fun z => hj z.2)⟩
    rw [show aix S9 58 (some S.1.length) (nI 18) = some (S.1.length, 18) from aix_nI (n := 27) (by rw [x9]; exact lL) (by omega) (by omega), Option.bind_some, hkT S9 (by rw [x9]; exact hx3), Option.bind_some, Option.bind_some, isK_of (show (sR S9 S.1.length 18 (some x)).1[l]? = some (16, 0) by show S9.1[l]? = _; rw [x9]; exact l13), Option.bind_some, Option.bind_some, bind3_some, nI_1]
    have w4 : ∀ a, a ≠ S.1.length → d4.1 a = (dI d l 0 (d.1 l 0 + 1)).1 a := fun a ha => by rw [hd4]; exact z2_row ha
    refine ⟨sR S9 S.1.length 18 (some x), dI d4 l 2 (nI (18 + 1)), S.1.length, 27, rfl, ⟨?_, ?_, ?_, dI_at, by omega, fun i hi => ?_, fun i h1 h2 => ?_⟩, Or.inr (Nat.le_refl _), by omega, fun a h1 h2 => ?_, fun i hi => ?_, fun a h1 h2 h3 => ?_, fun j hj => ?_, ?_, ?_, ?_, ?_⟩
    · show S9.1[l]? = _
      rw [x9]; exact l13
    · show (u2 S9.2.1 S.1.length 18 (some x)) l 1 = _
      rw [u2_row (by omega)]
      exact r9l.1
    · show S9.1[S.1.length]? = _
      rw [x9]; exact lL
    · show (u2 S9.2.1 S.1.length 18 (some x)) S.1.length i = some (if i = 18 then x else el i)
      by_cases ci : i = 18
      · subst ci
        rw [u2_at, if_pos rfl]
      · rw [u2_ne (fun z => ci z.2), r9 _ (by omega), r8L, if_pos (by omega), if_neg ci]
        exact l6 i (by omega)
    · show (u2 S9.2.1 S.1.length 18 (some x)) S.1.length i = _
      rw [u2_ne (by omega), r9 _ (by omega), r8L, if_neg (by omega)]
    · rw [dI_ne h2, w4 a (by omega), dI_ne h2]
    · show S9.1[i]? = _
      rw [x9, x3, List.getElem?_append_left hi]
    · show (u2 S9.2.1 S.1.length 18 (some x)) a = _
      rw [u2_row (by omega), r9 a h2, r8 a (by omega), r3 a (by omega)]
    · show (u2 S9.2.1 S.1.length 18 (some x)) l j = _
      rw [u2_row (by omega), r9l.2 j hj, r8 l (by omega), r3 l (by omega)]
    · show S9.2.2.1 ≤ _
      rw [q9]; omega
    · show S9.2.2.2 ≤ _
      rw [q9]; omega
    · show S9.1.length + _ ≤ S9.2.2.1 + _
      rw [x9, q9, n3]; omega
    · show _ ≤ S9.1.length
      rw [x9, n3]; omega
  · have hlt : n < cap := by omega
    rw [if_pos (show ¬ nI n = nI cap from fun z => c ((nI_eq (by omega) (by omega)).mp z)), aix_nI l3 hlt (by omega), Option.bind_some, hkT S hx, Option.bind_some, Option.bind_some, isK_of (show (sR S e n (some x)).1[l]? = some (16, 0) from l1), Option.bind_some, Option.bind_some, bind3_some, nI_1]
    refine ⟨sR S e n (some x), dI (dI d l 0 (d.1 l 0 + 1)) l 2 (nI (n + 1)), e, cap, rfl, ⟨l1, ?_, l3, dI_at, by omega, fun i hi => ?_, fun i h1 h2 => ?_⟩, Or.inl rfl, by omega, fun a h1 h2 => ?_, fun i hi => rfl, fun a h1 h2 h3 => ?_, fun j hj => ?_, by show S.2.2.1 ≤ _; omega, by show S.2.2.2 ≤ _; omega, by show S.1.length + _ ≤ S.2.2.1 + _; omega, Nat.le_refl _⟩
    · show (u2 S.2.1 e n (some x)) l 1 = _
      rw [u2_row hne]; exact l2
    · show (u2 S.2.1 e n (some x)) e i = some (if i = n then x else el i)
      by_cases ci : i = n
      · subst ci
        rw [u2_at, if_pos rfl]
      · rw [u2_ne (fun z => ci z.2), if_neg ci]
        exact l6 i (by omega)
    · show (u2 S.2.1 e n (some x)) e i = _
      rw [u2_ne (by omega)]
      exact l7 i h1 (by omega)
    · rw [dI_ne h2, dI_ne h2]
    · exact u2_row h3
    · show (u2 S.2.1 e n (some x)) l j = _
      rw [u2_row hne]
/-- what stays of a memory whose list of injections changes -/
def Kj (q : TdP) (S : Sp) (d : Dt) (S' : Sp) (d' : Dt) (c s : Nat) : Prop := (∀ i, i < S.1.length → S'.1[i]? = S.1[i]?) ∧ (∀ a, a < S.1.length → a ≠ q.li → a ≠ q.ei → S'.2.1 a = S.2.1 a) ∧ (∀ a, a < S.1.length → a ≠ q.li → d'.1 a = d.1 a) ∧ S'.2.2.1 ≤ S.2.2.1 + c ∧ S'.2.2.2 ≤ S.2.2.2 + s ∧ S'.1.length + S.2.2.1 ≤ S'.2.2.1 + S.1.length ∧ S.1.length ≤ S'.1.length
/-- a new injection is put to the list -/
theorem add_step {S : Sp} {d : Dt} {w w' : Nat → Int32} {q : TdP} (hC : CE S d w q) (n1 : q.li ≠ q.lt) (n2 : q.ei ≠ q.et) (hna : q.na ≤ 10) (hb : ¬ w 7 ≤ 0) {g0 g1 g2 g3 g4 : Int32} (hw : ∀ i, i < 106 + 5 * q.ni → i ≠ 6 → w' i = w i) (h6 : w' 6 = nI (q.na + 1)) (y0 : w' (106 + 5 * q.ni) = g0) (y1 : w' (106 + 5 * q.ni + 1) = g1) (y2 : w' (106 + 5 * q.ni + 2) = g2) (y3 : w' (106 + 5 * q.ni + 3) = g3) (y4 : w' (106 + 5 * q.ni + 4) = g4) (hI : InjW w' q.nw q.nt q.nd q.ni) : ∃ d20 S' d' ei ci, isK (mmNew S (13, 0) 5) 13 (some S.1.length) = some S.1.length ∧ In_init S.1.length g0 g1 g2 g3 g4 (mmNew S (13, 0) 5) (mmNewD S d) = some ((), d20) ∧ isK (mmNew S (13, 0) 5) 16 (S.2.1 q.a 1) = some q.li ∧ Jl_add q.li (some S.1.length) (mmNew S (13, 0) 5) d20 = some (1, S', d') ∧ CE S' d' w' (q.wi ei ci (fun i => if i = q.ni then S.1.length else q.ij i) (q.ni + 1) (q.na + 1)) ∧ (ei = q.ei ∨ S.1.length ≤ ei) ∧ Kj q S d S' d' 2 32 := by
  obtain ⟨hF, h0, hT⟩ := hC
  have hC : CE S d w q := ⟨hF, h0, hT⟩
  have hl := Ws_len hF
  have hni := hC.ni18
  obtain ⟨-, -, ⟨w5, w6, u1, u2, u3⟩, -⟩ := hC.wf
  obtain ⟨T, hT9⟩ : ∃ T, T = mmNew S (13, 0) 5 := ⟨_, rfl⟩
  have x1 : T.1 = S.1 ++ [(13, 0)] := by rw [hT9]; rfl
  have nT : T.1.length = S.1.length + 1 := by rw [x1, List.length_append]; rfl
  have kT9 : T.2.2.1 = S.2.2.1 + 1 ∧ T.2.2.2 = S.2.2.2 + 5 := by rw [hT9]; exact ⟨rfl, rfl⟩
  have E : Ext S T := by rw [hT9]; exact Ext.new
  have hL : T.1[S.1.length]? = some (13, 0) := by rw [x1, List.getElem?_append_right (Nat.le_refl _), Nat.sub_self]; rfl
  obtain ⟨e0, he0⟩ : ∃ e0, e0 = mmNewD S d := ⟨_, rfl⟩
  obtain ⟨d20, hd20⟩ : ∃ d20, d20 = dI (dI (dI (dI (dI e0 S.1.length 0 g0) S.1.length 1 g1) S.1.length 2 g2) S.1.length 3 g3) S.1.length 4 g4 := ⟨_, rfl⟩
  have hd : ∀ a, a ≠ S.1.length → d20.1 a = d.1 a := fun a ha => by
    rw [hd20, dI_ne ha, dI_ne ha, dI_ne ha, dI_ne ha, dI_ne ha, he0]; exact z2_row ha
  have f0 : d20.1 S.1.length 0 = g0 := by rw [hd20, dI_nk (by omega), dI_nk (by omega), dI_nk (by omega), dI_nk (by omega), dI_at]
  have f1 : d20.1 S.1.length 1 = g1 := by rw [hd20, dI_nk (by omega), dI_nk (by omega), dI_nk (by omega), dI_at]
  have f2 : d20.1 S.1.length 2 = g2 := by rw [hd20, dI_nk (by omega), dI_nk (by omega), dI_at]
  have f3 : d20.1 S.1.length 3 = g3 := by rw [hd20, dI_nk (by omega), dI_at]
  have f4 : d20.1 S.1.length 4 = g4 := by rw [hd20, dI_at]
  have hCT : CE T d20 w q := hC.ext E (fun a h1 h2 => hd a (by omega))
  have hK13 : isK T 13 (some S.1.length) = some S.1.length := isK_of hL
  have hin : In_init S.1.length g0 g1 g2 g3 g4 T e0 = some ((), d20) := by
    unfold In_init
    rw [hK13, Option.bind_some, Option.bind_some, Option.bind_some, Option.bind_some, Option.bind_some, Option.bind_some, hd20]
  have hLT := hCT.cap.2
  have hCT2 := hCT
  obtain ⟨-, -, -, -, -, -, -, -, -, -, cc, -⟩ := hCT2
  obtain ⟨S', d', ei, ci, a1, a2, a3, a4, a5, a6, a7, a8, a9, a10, a11, a12⟩ := list_add hLT hL (by omega) cc.1 cc.2 (fun i hi => (hCT.inj hi).1)
  have htl := hT.lt
  have q2 : q.li < S.1.length := htl.2.1
  have q4 : q.ei < S.1.length := htl.2.2.2.1
  have hkeep : ∀ a, a < S.1.length → a ≠ q.li → a ≠ q.ei → S'.2.1 a = S.2.1 a := fun a h1 h2 h3 => (a7 a (by omega) h2 h3).trans (E.2.1 a h1)
  have hkd : ∀ a, a < S.1.length → a ≠ q.li → d'.1 a = d.1 a := fun a h1 h2 => (a5 a (by omega) h2).trans (hd a (by omega))
  have hks : ∀ i, i < S.1.length → S'.1[i]? = S.1[i]? := fun i h1 => (a6 i (by omega)).trans (E.1 i h1)
  have hreg := hC.reg
  have hLS : S'.1[S.1.length]? = some (13, 0) := (a6 S.1.length (by omega)).trans hL
  refine ⟨d20, S', d', ei, ci, by rw [← hT9]; exact hK13, by rw [← hT9, ← he0]; exact hin, by rw [← hT9, ← E.2.1 q.a htl.2.2.2.2]; exact hCT.kM, by rw [← hT9]; exact a1, ⟨?_, ?_, ?_⟩, by omega, hks, hkeep, hkd, by omega, by omega, by omega, by omega⟩
  · refine ⟨fun i hi => (hks i (by omega)).trans (hF.1 i hi), fun k hk hk0 => by rw [hkeep 0 (by omega) (by omega) (by omega)]; exact hF.2.1 k hk hk0, fun j hj => by rw [hkeep 11 (by omega) (by omega) (by omega)]; exact hF.2.2.1 j hj, fun a ha k hk => by rw [hkeep (12 + a) (by omega) (by omega) (by omega)]; exact hF.2.2.2.1 a ha k hk, fun t ht => by rw [hkeep 16 (by omega) (by omega) (by omega)]; exact hF.2.2.2.2 t ht⟩
  · rw [hkeep 0 (by omega) (by omega) (by omega)]; exact h0
  · refine hT.inj hF n1 n2 (fun a sh ha hr c1 c2 => ?_) a2 a4 (fun i hi => ?_) (fun i h1 h2 => hw i (by omega) h2) (hC.wf.row2 hb (fun i h1 h2 => hw i (by omega) h2) h6 ⟨by omega, by omega, by omega⟩ (fun i hi => ?_))
    · have hal := (List.getElem?_eq_some_iff.mp ha).1
      obtain ⟨m1, -, m3, -⟩ := hC.cap.2
      have z1 : a ≠ q.li := fun z => c1 ⟨z, by rw [z, m1] at ha; exact (Option.some.inj ha).symm⟩
      have z2 : a ≠ q.ei := fun z => c2 ⟨z, by rw [z, m3] at ha; rw [← Option.some.inj ha]⟩
      exact ⟨(hks a hal).trans ha, hkeep a hal z1 z2, hkd a hal z1⟩
    · by_cases ci : i = q.ni
      · subst ci
        refine ⟨by rw [if_pos rfl]; exact hLS, fun f hf => ?_⟩
        rw [if_pos rfl, a5 S.1.length (by omega) (by omega)]
        obtain rfl | rfl | rfl | rfl | rfl : f = 0 ∨ f = 1 ∨ f = 2 ∨ f = 3 ∨ f = 4 := by omega
        · exact f0.trans y0.symm
        · exact f1.trans y1.symm
        · exact f2.trans y2.symm
        · exact f3.trans y3.symm
        · exact f4.trans y4.symm
      · obtain ⟨i1, i2⟩ := hC.inj (i := i) (by omega)
        have hil := (List.getElem?_eq_some_iff.mp i1).1
        have z1 : q.ij i ≠ q.li := fun z => by
          obtain ⟨m1, -⟩ := hC.cap.2
          rw [z, m1] at i1
          exact absurd (congrArg Prod.fst (Option.some.inj i1)) (show ¬ (16 : Nat) = 13 by decide)
        refine ⟨by rw [if_neg ci]; exact (hks _ hil).trans i1, fun f hf => ?_⟩
        rw [if_neg ci, hkd _ hil z1, hw _ (by omega) (by omega)]
        exact i2 f hf
    · by_cases ci : i = q.ni
      · subst ci; exact hI
      · exact (hC.wf.injs (by omega)).cong (fun f hf => hw _ (by omega) (by omega))
