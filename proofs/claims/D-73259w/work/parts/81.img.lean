/-! THE PLAIN LAW: image, back -/
set_option maxRecDepth 100000
theorem gel_ok {S : Sp} {v n : Nat} (h : ∀ i, i < n → ∃ x, S.2.1 v i = some x ∧ (S.1[x]? = some (12, 0) ∨ S.1[x]? = some (13, 0))) : gel S v 0 n = some () := by
  refine if_pos (List.all_eq_true.mpr (fun i hi => ?_))
  obtain ⟨x, h1, h2⟩ := h i (List.mem_range.mp hi)
  rw [Nat.zero_add, h1]
  show okT S x = true
  unfold okT
  rcases h2 with h2 | h2
  · rw [h2]; rfl
  · rw [h2]; rfl
theorem Jl_addAll_ok {T : Sp} {e : Dt} {l o el eo cap capo n m : Nat} (hl : T.1[l]? = some (16, 0)) (ho : T.1[o]? = some (16, 0)) (hle : T.2.1 l 1 = some el) (hoe : T.2.1 o 1 = some eo) (he : T.1[el]? = some (58, cap)) (heo : T.1[eo]? = some (58, capo)) (hz : e.1 l 2 = 0) (hn : e.1 o 2 = nI n) (h1 : n ≤ cap) (h2 : n ≤ capo) (h3 : cap ≤ 60) (h4 : capo ≤ 60) (hel : ∀ i, i < n → ∃ x, T.2.1 eo i = some x ∧ (T.1[x]? = some (12, 0) ∨ T.1[x]? = some (13, 0))) (hm : T.1.length = m) : ∃ r T' e', Jl_addAll l (some o) T e = some (r, T', e') ∧ T'.1 = T.1 ++ [(58, n)] ∧ T'.2.2 = (T.2.2.1 + 1, T.2.2.2 + n) ∧ (∀ a, a ≠ el → a ≠ m → T'.2.1 a = T.2.1 a) ∧ (∀ i, i < n → T'.2.1 el i = T.2.1 eo i) ∧ (∀ i, n ≤ i → T'.2.1 el i = T.2.1 el i) ∧ (∀ a, a ≠ l → a ≠ m → e'.1 a = e.1 a) ∧ e'.1 l 2 = nI n := by
  have b1 : l < m := by rw [← hm]; exact (List.getElem?_eq_some_iff.mp hl).1
  have b2 : o < m := by rw [← hm]; exact (List.getElem?_eq_some_iff.mp ho).1
  have b3 : el < m := by rw [← hm]; exact (List.getElem?_eq_some_iff.mp he).1
  have b4 : eo < m := by rw [← hm]; exact (List.getElem?_eq_some_iff.mp heo).1
  unfold Jl_addAll Jl_toArray Ja_copyOf Ja_copyOf_2
  rw [isK_of ho]
  simp only [Option.bind_some]
  rw [isK_of ho]
  simp only [Option.bind_some]
  rw [hoe, aln_ok heo, hn, show geq (some (OPQ + 300)) (some (OPQ + 300)) = some () from if_pos rfl, gn_ok (by omega)]
  simp only [Option.bind_some, bind2_some]
  rw [hm]
  generalize hT1 : mmNew T (50 + 8, n) n = T1
  generalize he1 : mmNewD T e = e1
  have n1 : T1.1 = T.1 ++ [(58, n)] := by rw [← hT1]; rfl
  have k1 : T1.2.2 = (T.2.2.1 + 1, T.2.2.2 + n) := by rw [← hT1]; rfl
  have r1 : ∀ a, a ≠ m → T1.2.1 a = T.2.1 a := fun a ha => by rw [← hT1]; exact z2_row (by omega)
  have d1 : ∀ a, a ≠ m → e1.1 a = e.1 a := fun a ha => by rw [← he1]; exact z2_row (by omega)
  have am : T1.1[m]? = some (58, n) := by
    have := at_app (k := 0) n1 (x := (58, n)) rfl
    rw [hm] at this
    exact this
  have g1 : gel T1 eo 0 n = some () := gel_ok (fun i hi => by
    obtain ⟨x, x1, x2⟩ := hel i hi
    refine ⟨x, by rw [r1 eo (by omega)]; exact x1, ?_⟩
    rcases x2 with x2 | x2
    · exact Or.inl (at_old n1 x2)
    · exact Or.inr (at_old n1 x2))
  rw [aln_ok (at_old n1 heo)]
  simp only [Option.bind_some]
  rw [imin_nI h2 (by omega), gcp_ok (at_old n1 heo) am h2 (Nat.le_refl n) (by omega)]
  simp only [Option.bind_some]
  rw [nI_clamp (show n < 2 ^ 31 by omega), show Int32.toNatClampNeg 0 = 0 from rfl, g1]
  simp only [Option.bind_some, bind3_some]
  generalize hT2 : ((T1.1, c2 T1.2.1 eo m 0 0 n, T1.2.2) : Sp) = T2
  have n2 : T2.1 = T.1 ++ [(58, n)] := by rw [← hT2]; exact n1
  have k2 : T2.2.2 = (T.2.2.1 + 1, T.2.2.2 + n) := by rw [← hT2]; exact k1
  have r2 : ∀ a, a ≠ m → T2.2.1 a = T.2.1 a := fun a ha => by rw [← hT2]; exact (c2_row ha).trans (r1 a ha)
  have r2m : ∀ i, i < n → T2.2.1 m i = T.2.1 eo i := fun i hi => by
    rw [← hT2]
    show c2 T1.2.1 eo m 0 0 n m i = _
    rw [c2_at, pk_cpy_in (Nat.zero_le i) (by omega), Nat.zero_add, Nat.sub_zero, r1 eo (by omega)]
  have am2 : T2.1[m]? = some (58, n) := by rw [← hT2]; exact am
  rw [isK_of (at_old n2 hl), aln_ok am2]
  simp only [Option.bind_some]
  rw [show c2 T1.2.1 eo m 0 0 n l 1 = some el from (congrFun ((c2_row (show l ≠ m by omega)).trans (r1 l (by omega))) 1).trans hle]
  have z1 : u2 e1.1 l 0 (e1.1 l 0 + 1) l 2 = 0 := (u2_ne (by omega)).trans (by rw [d1 l (by omega)]; exact hz)
  by_cases h0 : n = 0
  · subst h0
    rw [if_neg (show ¬ ¬ nI 0 = 0 from fun z => z rfl)]
    refine ⟨_, _, _, rfl, n2, k2, fun a _ ha => r2 a ha, fun i hi => absurd hi (Nat.not_lt_zero i), fun i _ => by rw [r2 el (by omega)], fun a ha hm' => (dI_ne ha).trans (d1 a hm'), ?_⟩
    exact z1
  rw [if_pos (nI_ne0 (by omega) (by omega)), aln_ok (at_old n2 he)]
  simp only [Option.bind_some]
  rw [z1, Int32.sub_zero, if_pos (nI_le h1 (by omega))]
  unfold Jl_addAll_b56
  have g2 : gel T2 m 0 n = some () := gel_ok (fun i hi => by
    obtain ⟨x, x1, x2⟩ := hel i hi
    refine ⟨x, by rw [r2m i hi]; exact x1, ?_⟩
    rcases x2 with x2 | x2
    · exact Or.inl (at_old n2 x2)
    · exact Or.inr (at_old n2 x2))
  rw [gcp_ok am2 (at_old n2 he) (Nat.le_refl n) h1 (by omega)]
  simp only [Option.bind_some]
  rw [nI_clamp (show n < 2 ^ 31 by omega), show Int32.toNatClampNeg 0 = 0 from rfl, g2]
  simp only [Option.bind_some]
  have n3 : ((T2.1, c2 T2.2.1 m el 0 0 n, T2.2.2) : Sp).1 = T.1 ++ [(58, n)] := n2
  rw [isK_of (at_old n3 hl)]
  simp only [Option.bind_some]
  refine ⟨_, _, _, rfl, n2, k2, fun a ha hm' => (c2_row ha).trans (r2 a hm'), fun i hi => ?_, fun i hi => ?_, fun a ha hm' => (dI_ne ha).trans ((dI_ne ha).trans (d1 a hm')), ?_⟩
  · show c2 T2.2.1 m el 0 0 n el i = _
    rw [c2_at, pk_cpy_in (Nat.zero_le i) (by omega), Nat.zero_add, Nat.sub_zero, r2m i hi]
  · show c2 T2.2.1 m el 0 0 n el i = _
    rw [c2_at, pk_cpy_out (Or.inr (by omega)), r2 el (by omega)]
  · show u2 _ l 2 (0 + nI n) l 2 = nI n
    rw [u2_at, Int32.zero_add]
/-- six numbers copied from a to m -/
theorem copy6 {R : Type} {E : Dt} {m a : Nat} (h : a ≠ m) (k : Dt → Option R) : ∃ F : Dt, ((some (dI E m 3 (E.1 a 3))).bind fun d21 => (some (dI d21 m 4 (d21.1 a 4))).bind fun d22 => (some (dI d22 m 5 (d22.1 a 5))).bind fun d23 => (some (dI d23 m 6 (d23.1 a 6))).bind fun d24 => (some (dI d24 m 7 (d24.1 a 7))).bind fun d25 => (some (dI d25 m 8 (d25.1 a 8))).bind fun d26 => k d26) = k F ∧ (∀ b, b ≠ m → F.1 b = E.1 b) ∧ ∀ j, 3 ≤ j → j < 9 → F.1 m j = E.1 a j := by
  rw [Option.bind_some]
  generalize h3 : dI E m 3 (E.1 a 3) = E3
  rw [Option.bind_some]
  generalize h4 : dI E3 m 4 (E3.1 a 4) = E4
  rw [Option.bind_some]
  generalize h5 : dI E4 m 5 (E4.1 a 5) = E5
  rw [Option.bind_some]
  generalize h6 : dI E5 m 6 (E5.1 a 6) = E6
  rw [Option.bind_some]
  generalize h7 : dI E6 m 7 (E6.1 a 7) = E7
  rw [Option.bind_some]
  have a3 : ∀ b, b ≠ m → E3.1 b = E.1 b := fun b hb => by rw [← h3]; exact dI_ne hb
  have a4 : ∀ b, b ≠ m → E4.1 b = E.1 b := fun b hb => by rw [← h4]; exact (dI_ne hb).trans (a3 b hb)
  have a5 : ∀ b, b ≠ m → E5.1 b = E.1 b := fun b hb => by rw [← h5]; exact (dI_ne hb).trans (a4 b hb)
  have a6 : ∀ b, b ≠ m → E6.1 b = E.1 b := fun b hb => by rw [← h6]; exact (dI_ne hb).trans (a5 b hb)
  have a7 : ∀ b, b ≠ m → E7.1 b = E.1 b := fun b hb => by rw [← h7]; exact (dI_ne hb).trans (a6 b hb)
  have b3 : E3.1 m 3 = E.1 a 3 := by rw [← h3]; exact dI_at
  have b4 : ∀ j, E4.1 m j = if j = 4 then E.1 a 4 else E3.1 m j := fun j => by
    rw [← h4]
    by_cases e : j = 4
    · subst e; rw [if_pos rfl]; exact dI_at.trans (congrFun (a3 a h) 4)
    · rw [if_neg e]; exact dI_nk (fun z => e z.2)
  have b5 : ∀ j, E5.1 m j = if j = 5 then E.1 a 5 else E4.1 m j := fun j => by
    rw [← h5]
    by_cases e : j = 5
    · subst e; rw [if_pos rfl]; exact dI_at.trans (congrFun (a4 a h) 5)
    · rw [if_neg e]; exact dI_nk (fun z => e z.2)
  have b6 : ∀ j, E6.1 m j = if j = 6 then E.1 a 6 else E5.1 m j := fun j => by
    rw [← h6]
    by_cases e : j = 6
    · subst e; rw [if_pos rfl]; exact dI_at.trans (congrFun (a5 a h) 6)
    · rw [if_neg e]; exact dI_nk (fun z => e z.2)
  have b7 : ∀ j, E7.1 m j = if j = 7 then E.1 a 7 else E6.1 m j := fun j => by
    rw [← h7]
    by_cases e : j = 7
    · subst e; rw [if_pos rfl]; exact dI_at.trans (congrFun (a6 a h) 7)
    · rw [if_neg e]; exact dI_nk (fun z => e z.2)
  refine ⟨_, rfl, fun b hb => (dI_ne hb).trans (a7 b hb), fun j j1 j2 => ?_⟩
  by_cases e : j = 8
  · subst e
    exact dI_at.trans (congrFun (a7 a h) 8)
  rw [dI_nk (fun z => e z.2), b7, b6, b5, b4]
  obtain rfl | rfl | rfl | rfl | rfl : j = 3 ∨ j = 4 ∨ j = 5 ∨ j = 6 ∨ j = 7 := by omega
  · exact b3
  · rfl
  · rfl
  · rfl
  · rfl
theorem To_same_ok {S : Sp} {d : Dt} {w : Nat → Int32} {q : TdP} (h : TdOk S d w q) (hF : WsFix S) (h10 : q.na ≤ 10) : ∃ S' d', To_same q.a S d = some (some S.1.length, S', d') ∧ Ext S S' ∧ (∀ a, a < S.1.length → d'.1 a = d.1 a) ∧ S'.1.length = S.1.length + 8 ∧ S'.2.2.1 = S.2.2.1 + 8 ∧ S'.2.2.2 ≤ S.2.2.2 + 120 ∧ TdOk S' d' w ((S.1.length, S.1.length + 1, S.1.length + 2, 5, S.1.length + 3, S.1.length + 4, 18, S.1.length + 5), q.tk, q.ij, (q.nw, q.nt, q.ni, q.na), q.nd) := by
  have hlen := Ws_len hF
  have hq := h
  have hlt := h.lt
  obtain ⟨ta, t0, t1, t2, ⟨to, o1, o2⟩, ⟨l1, l2, l3, l4, l5, l6, l7⟩, ⟨m1, m2, m3, m4, m5, m6, m7⟩, c1, c2', hT, hI, hO, v3, v4, v5, v6, v7, v8, hW⟩ := h
  have hnt : q.nt ≤ 5 := hW.2.1.2
  have hni : q.ni ≤ 18 := by
    obtain ⟨-, -, ⟨-, -, x1, x2, x3⟩, -⟩ := hW
    have y1 : q.na ≤ q.ni := x1
    have y2 : q.ni - q.na ≤ 8 := x2
    omega
  have hov : q.ov < S.1.length := (List.getElem?_eq_some_iff.mp to).1
  have hcT : q.1.2.2.2.1 ≤ 60 := c1.2
  have hcI : q.ci ≤ 60 := c2'.2
  have htl : ∀ t, t < q.nt → q.tk t < S.1.length := fun t ht => (List.getElem?_eq_some_iff.mp (hT t ht).1).1
  have hil : ∀ i, i < q.ni → q.ij i < S.1.length := fun i hi => (List.getElem?_eq_some_iff.mp (hI i hi).1).1
  generalize hm : S.1.length = m at *
  unfold To_same
  simp only [bind2_some]
  rw [hm]
  generalize hS1 : mmNew S (1, 0) 9 = S1
  generalize hd1 : mmNewD S d = e1
  have n1 : S1.1 = S.1 ++ [(1, 0)] := by rw [← hS1]; rfl
  have k1 : S1.2.2 = (S.2.2.1 + 1, S.2.2.2 + 9) := by rw [← hS1]; rfl
  have r1 : ∀ a, a < m → S1.2.1 a = S.2.1 a := fun a ha => by rw [← hS1]; exact z2_row (by omega)
  have d1 : ∀ a, a < m → e1.1 a = d.1 a := fun a ha => by rw [← hd1]; exact z2_row (by omega)
  have at1 : S1.1[m]? = some (1, 0) := by
    have := at_app (k := 0) n1 (x := (1, 0)) rfl
    rw [hm] at this
    exact this
  have len1 : S1.1.length = m + 1 := by rw [n1, List.length_append, hm]; rfl
  obtain ⟨S2, e2, g2, n2, k2, r2, -, q0, q1, q2, p1, p2, z1, z2, d2, s1, s2, s3⟩ := To_init_ok (e := e1) at1 len1
  rw [g2]
  simp only [bind3_some]
  have n2' : S2.1 = S.1 ++ [(1, 0), (16, 0), (58, 5), (16, 0), (58, 18), (50, 3)] := by rw [n2, n1, List.append_assoc]; rfl
  have aN : ∀ {k : Nat} {x : Nat × Nat}, ([(1, 0), (16, 0), (58, 5), (16, 0), (58, 18), (50, 3)] : List (Nat × Nat))[k]? = some x → S2.1[m + k]? = some x := fun {k x} hk => by
    have := at_app n2' hk
    rw [hm] at this
    exact this
  have r2' : ∀ a, a < m → S2.2.1 a = S.2.1 a := fun a ha => (r2 a (by omega) (by omega)).trans (r1 a ha)
  have d2' : ∀ a, a < m → e2.1 a = d.1 a := fun a ha => (d2 a (by omega)).trans (d1 a ha)
  rw [show isK S2 1 (some m) = some m from isK_of (aN (k := 0) rfl), Option.bind_some, isK_of (at_old n2' ta), Option.bind_some]
  rw [show S2.2.1 m 0 = some (m + 1) from q0, isK_of (aN (k := 1) rfl), Option.bind_some, r2' _ hlt.2.2.2.2, t0]
  obtain ⟨x3, S3, e3, g3, n3, k3, r3, f3, f3', d3, s4⟩ := Jl_addAll_ok (T := S2) (e := e2) (l := m + 1) (o := q.lt) (el := m + 2) (eo := q.et) (cap := 5) (capo := q.1.2.2.2.1) (n := q.nt) (m := m + 6) (aN (k := 1) rfl) (at_old n2' l1) p1 (by rw [r2' _ hlt.1]; exact l2) (aN (k := 2) rfl) (at_old n2' l3) s1 (by rw [d2' _ hlt.1]; exact l4) hnt l5 (by omega) hcT (fun i hi => ⟨q.tk i, by rw [r2' _ hlt.2.2.1]; exact l6 i hi, Or.inl (at_old n2' (hT i hi).1)⟩) (by rw [n2', List.length_append, hm]; rfl)
  rw [g3]
  simp only [bind3_some]
  have n3' : S3.1 = S.1 ++ [(1, 0), (16, 0), (58, 5), (16, 0), (58, 18), (50, 3), (58, q.nt)] := by rw [n3, n2', List.append_assoc]; rfl
  have aN3 : ∀ {k : Nat} {x : Nat × Nat}, ([(1, 0), (16, 0), (58, 5), (16, 0), (58, 18), (50, 3), (58, q.nt)] : List (Nat × Nat))[k]? = some x → S3.1[m + k]? = some x := fun {k x} hk => by
    have := at_app n3' hk
    rw [hm] at this
    exact this
  have r3' : ∀ a, a < m → S3.2.1 a = S.2.1 a := fun a ha => (r3 a (by omega) (by omega)).trans (r2' a ha)
  have d3' : ∀ a, a < m → e3.1 a = d.1 a := fun a ha => (d3 a (by omega) (by omega)).trans (d2' a ha)
  rw [show isK S3 1 (some m) = some m from isK_of (aN3 (k := 0) rfl), Option.bind_some, isK_of (at_old n3' ta), Option.bind_some]
  rw [show S3.2.1 m 1 = some (m + 3) from by rw [r3 m (by omega) (by omega)]; exact q1, isK_of (aN3 (k := 3) rfl), Option.bind_some, r3' _ hlt.2.2.2.2, t1]
  obtain ⟨x5, S5, e5, g5, n5, k5, r5, f5, f5', d5, s5⟩ := Jl_addAll_ok (T := S3) (e := e3) (l := m + 3) (o := q.li) (el := m + 4) (eo := q.ei) (cap := 18) (capo := q.ci) (n := q.ni) (m := m + 7) (aN3 (k := 3) rfl) (at_old n3' m1) (by rw [r3 (m + 3) (by omega) (by omega)]; exact p2) (by rw [r3' _ hlt.2.1]; exact m2) (aN3 (k := 4) rfl) (at_old n3' m3) (by rw [d3 (m + 3) (by omega) (by omega)]; exact s2) (by rw [d3' _ hlt.2.1]; exact m4) hni m5 (by omega) hcI (fun i hi => ⟨q.ij i, by rw [r3' _ hlt.2.2.2.1]; exact m6 i hi, Or.inr (at_old n3' (hI i hi).1)⟩) (by rw [n3', List.length_append, hm]; rfl)
  rw [g5]
  simp only [bind3_some]
  have n5' : S5.1 = S.1 ++ [(1, 0), (16, 0), (58, 5), (16, 0), (58, 18), (50, 3), (58, q.nt), (58, q.ni)] := by rw [n5, n3', List.append_assoc]; rfl
  have aN5 : ∀ {k : Nat} {x : Nat × Nat}, ([(1, 0), (16, 0), (58, 5), (16, 0), (58, 18), (50, 3), (58, q.nt), (58, q.ni)] : List (Nat × Nat))[k]? = some x → S5.1[m + k]? = some x := fun {k x} hk => by
    have := at_app n5' hk
    rw [hm] at this
    exact this
  have r5' : ∀ a, a < m → S5.2.1 a = S.2.1 a := fun a ha => (r5 a (by omega) (by omega)).trans (r3' a ha)
  have d5' : ∀ a, a < m → e5.1 a = d.1 a := fun a ha => (d5 a (by omega) (by omega)).trans (d3' a ha)
  rw [isK_of (at_old n5' ta), Option.bind_some, show isK S5 1 (some m) = some m from isK_of (aN5 (k := 0) rfl), Option.bind_some]
  have o5 : S5.2.1 m 2 = some (m + 5) := by
    rw [r5 m (by omega) (by omega), r3 m (by omega) (by omega)]
    exact q2
  rw [r5' _ hlt.2.2.2.2, t2, o5, show gcp S5 50 (some q.ov) (some (m + 5)) 0 0 3 = some (q.ov, m + 5) from gcp_ok (n := 3) (at_old n5' to) (aN5 (k := 5) rfl) (by omega) (by omega) (by omega)]
  rw [Option.bind_some]
  dsimp only
  generalize hd6 : ((c2 e5.1 q.ov (m + 5) (Int32.toNatClampNeg 0) (Int32.toNatClampNeg 0) (Int32.toNatClampNeg 3), e5.2) : Dt) = e6
  have d6 : ∀ a, a < m → e6.1 a = d.1 a := fun a ha => by rw [← hd6]; exact (c2_row (by omega)).trans (d5' a ha)
  have d6o : ∀ i, i < 3 → e6.1 (m + 5) i = d.1 q.ov i := fun i hi => by
    rw [← hd6]
    show c2 e5.1 q.ov (m + 5) 0 0 3 (m + 5) i = _
    rw [c2_at, pk_cpy_in (Nat.zero_le i) (by omega), Nat.zero_add, Nat.sub_zero, d5' _ hov]
  have d6r : ∀ a, a ≠ m + 5 → e6.1 a = e5.1 a := fun a ha => by rw [← hd6]; exact c2_row ha
  rw [Option.bind_some]
  obtain ⟨F, F1, F2, F3⟩ := copy6 (E := e6) (m := m) (a := q.a) (by omega) (fun d26 => some (some m, S5, d26))
  rw [F1]
  refine ⟨S5, F, rfl, ⟨fun i hi => ?_, fun a ha => r5' a (by omega), ?_⟩, fun a ha => (F2 a (by omega)).trans (d6 a ha), ?_, ?_, ?_, ?_⟩
  · rw [n5', List.getElem?_append_left hi]
  · rw [n5', List.length_append]
    omega
  · rw [n5', List.length_append, hm]
    rfl
  · rw [k5]
    show S3.2.2.1 + 1 = _
    rw [k3]
    show S2.2.2.1 + 1 + 1 = _
    rw [k2]
    show S1.2.2.1 + 5 + 1 + 1 = _
    rw [k1]
  · rw [k5]
    show S3.2.2.2 + q.ni ≤ _
    rw [k3]
    show S2.2.2.2 + q.nt + q.ni ≤ _
    rw [k2]
    show S1.2.2.2 + 32 + q.nt + q.ni ≤ _
    rw [k1]
    show S.2.2.2 + 9 + 32 + q.nt + q.ni ≤ _
    omega
  have hx : TdOk S5 F w q := hq.go hF ⟨fun i hi => by rw [n5', List.getElem?_append_left hi], fun a ha => r5' a (by omega), by rw [n5', List.length_append]; omega⟩ (fun a ha _ => (F2 a (by omega)).trans (d6 a (by omega)))
  obtain ⟨-, -, -, -, -, -, -, -, -, hT', hI', -⟩ := hx
  refine ⟨aN5 (k := 0) rfl, ?_, ?_, o5, ⟨aN5 (k := 5) rfl, by show m + 5 ≠ 18; omega, by show m + 5 ≠ 19; omega⟩, ⟨aN5 (k := 1) rfl, ?_, aN5 (k := 2) rfl, ?_, hnt, ?_, ?_⟩, ⟨aN5 (k := 3) rfl, ?_, aN5 (k := 4) rfl, ?_, hni, ?_, ?_⟩, ⟨by show 5 ≤ 5; omega, by show 5 ≤ 60; omega⟩, ⟨by show 18 ≤ 18; omega, by show 18 ≤ 60; omega⟩, hT', hI', ?_, ?_, ?_, ?_, ?_, ?_, ?_, hW⟩
  · show S5.2.1 m 0 = some (m + 1)
    rw [r5 m (by omega) (by omega), r3 m (by omega) (by omega)]
    exact q0
  · show S5.2.1 m 1 = some (m + 3)
    rw [r5 m (by omega) (by omega), r3 m (by omega) (by omega)]
    exact q1
  · show S5.2.1 (m + 1) 1 = some (m + 2)
    rw [r5 (m + 1) (by omega) (by omega), r3 (m + 1) (by omega) (by omega)]
    exact p1
  · show F.1 (m + 1) 2 = nI q.nt
    rw [F2 _ (by omega), d6r _ (by omega), d5 _ (by omega) (by omega)]
    exact s4
  · intro i hi
    show S5.2.1 (m + 2) i = some (q.tk i)
    rw [r5 (m + 2) (by omega) (by omega), f3 i hi, r2' _ hlt.2.2.1]
    exact l6 i hi
  · intro i hi hj
    show S5.2.1 (m + 2) i = none
    rw [r5 (m + 2) (by omega) (by omega), f3' i hj]
    exact z1 i
  · show S5.2.1 (m + 3) 1 = some (m + 4)
    rw [r5 (m + 3) (by omega) (by omega), r3 (m + 3) (by omega) (by omega)]
    exact p2
  · show F.1 (m + 3) 2 = nI q.ni
    rw [F2 _ (by omega), d6r _ (by omega)]
    exact s5
  · intro i hi
    show S5.2.1 (m + 4) i = some (q.ij i)
    rw [f5 i hi, r3' _ hlt.2.2.2.1]
    exact m6 i hi
  · intro i hi hj
    show S5.2.1 (m + 4) i = none
    rw [f5' i hj, r3 (m + 4) (by omega) (by omega)]
    exact z2 i
  · intro v hv
    show F.1 (m + 5) v = _
    have hv' : v < q.nw := hv
    have hw3 : q.nw ≤ 3 := hW.1.2
    rw [F2 _ (by omega), d6o v (by omega)]
    exact hO v hv
  · show F.1 m 3 = _
    rw [F3 3 (by omega) (by omega), d6 _ hlt.2.2.2.2]
    exact v3
  · show F.1 m 4 = _
    rw [F3 4 (by omega) (by omega), d6 _ hlt.2.2.2.2]
    exact v4
  · show F.1 m 5 = _
    rw [F3 5 (by omega) (by omega), d6 _ hlt.2.2.2.2]
    exact v5
  · show F.1 m 6 = _
    rw [F3 6 (by omega) (by omega), d6 _ hlt.2.2.2.2]
    exact v6
  · show F.1 m 7 = _
    rw [F3 7 (by omega) (by omega), d6 _ hlt.2.2.2.2]
    exact v7
  · show F.1 m 8 = _
    rw [F3 8 (by omega) (by omega), d6 _ hlt.2.2.2.2]
    exact v8
