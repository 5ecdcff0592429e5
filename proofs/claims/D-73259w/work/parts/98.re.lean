/-! READING: tasks -/
set_option maxRecDepth 100000
section
variable {S0 S S' T : Sp} {d0 m0 d m d' m' d'' m'' x y : Dt} {rd sz ap tk a c z nw nt ni : Nat} {nd tks ij : Nat → Nat} {w w' : Nat → Int32} {lo hi : Int32}
/-- the same over other cells -/
theorem Rs.to {c' : Nat} (h : Rs S0 d0 m0 rd sz c ap tk S d m) (hT : RdS T rd) (he : Ext S0 T) (hc : T.2.2.1 ≤ S0.2.2.1 + c' ∧ T.2.2.2 ≤ S0.2.2.2 + 32 * c' ∧ T.1.length + S0.2.2.1 ≤ T.2.2.1 + S0.1.length) (hd : ∀ b, b ≤ rd → d'.1 b = d.1 b) (hm : ∀ b, b ≠ 6 → m'.1 b = m.1 b) : Rs S0 d0 m0 rd sz c' ap tk T d' m' := by
  obtain ⟨h1, h2, h3, h4, ⟨b1, b2, b3, b4, b5⟩, h6⟩ := h.wr hd hm
  exact ⟨hT, h2, h3, h4, ⟨he, hc, b3, b4, b5⟩, h6⟩
theorem RdS.rows (h : RdS S rd) (h1 : T.1 = S.1) (h2 : ∀ b, b < rd + 2 → T.2.1 b = S.2.1 b) : RdS T rd := by
  obtain ⟨g1, g2, g3, g4, g5, g6, g7, g8⟩ := h
  exact ⟨g1.rows h1 (fun b hb => h2 b (by omega)), g2, by rw [h1]; exact g3, by rw [h2 rd (by omega)]; exact g4, by rw [h2 rd (by omega)]; exact g5, by rw [h2 rd (by omega)]; exact g6, by rw [h1]; exact g7, fun k hk => by rw [h2 (rd + 1) (by omega)]; exact g8 k hk⟩
/-- a list that has room gets one more -/
theorem list_ng {l e cap n b : Nat} {el : Nat → Nat} (h : ListT S d l e cap n el) (hb : S.1[b]? = some (12, 0) ∨ S.1[b]? = some (13, 0)) (hn : n < cap) (hc : cap ≤ 60) : Jl_add l (some b) S d = some (1, sR S e n (some b), dI (dI d l 0 (d.1 l 0 + 1)) l 2 (nI (n + 1))) ∧ ListT (sR S e n (some b)) (dI (dI d l 0 (d.1 l 0 + 1)) l 2 (nI (n + 1))) l e cap (n + 1) (fun i => if i = n then b else el i) := by
  obtain ⟨l1, l2, l3, l4, l5, l6, l7⟩ := h
  have hne : l ≠ e := by
    intro z
    rw [z, l3] at l1
    exact absurd (congrArg Prod.fst (Option.some.inj l1)) (show ¬ (58 : Nat) = 16 by decide)
  have hkT : kTI S (some b) = some b := by
    unfold kTI okT
    rw [Option.bind_some]
    rcases hb with hb | hb
    · rw [hb]; rfl
    · rw [hb]; rfl
  have e2 : (dI d l 0 (d.1 l 0 + 1)).1 l 2 = nI n := (dI_nk (by omega)).trans l4
  refine ⟨?_, l1, ?_, l3, dI_at, by omega, fun i hi => ?_, fun i h1 h2 => ?_⟩
  · unfold Jl_add Jl_add_2 Jl_add_2_b11
    rw [isK_of l1, Option.bind_some, Option.bind_some, l2, e2, aln_ok l3, Option.bind_some, if_pos (show ¬ nI n = nI cap from fun z => absurd ((nI_eq (by omega) (by omega)).mp z) (by omega)), aix_nI l3 hn (by omega), Option.bind_some, hkT, Option.bind_some, Option.bind_some, isK_of (show (sR S e n (some b)).1[l]? = some (16, 0) from l1), Option.bind_some, Option.bind_some, bind3_some, nI_1]
  · show (u2 S.2.1 e n (some b)) l 1 = _
    rw [u2_row hne]; exact l2
  · show (u2 S.2.1 e n (some b)) e i = some (if i = n then b else el i)
    by_cases ci : i = n
    · subst ci
      rw [u2_at, if_pos rfl]
    · rw [u2_ne (fun z => ci z.2), if_neg ci]
      exact l6 i (by omega)
  · show (u2 S.2.1 e n (some b)) e i = _
    rw [u2_ne (by omega)]
    exact l7 i h1 (by omega)
/-- a new Task -/
theorem task_new {L : Nat} {p1 p2 p3 p4 p5 p6 : Int32} (hL : S.1.length = L + 1) (hl : S.1[L]? = some (12, 0)) (h8 : d.1 L 8 = 0) : ∃ T e, Ta_init L p1 p2 p3 p4 p5 p6 S d = some ((), T, e) ∧ Ext S (T.1, (fun b => if b = L then S.2.1 L else T.2.1 b), T.2.2) ∧ T.1 = S.1 ++ [(50, 6), (50, 6)] ∧ T.2.2 = (S.2.2.1 + 2, S.2.2.2 + 12) ∧ (∀ b, b < L → T.2.1 b = S.2.1 b) ∧ T.2.1 L 6 = some (L + 1) ∧ T.2.1 L 7 = some (L + 2) ∧ (∀ b, b < L → e.1 b = d.1 b) ∧ e.1 L 0 = p1 ∧ e.1 L 1 = p2 ∧ e.1 L 2 = p3 ∧ e.1 L 3 = p4 ∧ e.1 L 4 = p5 ∧ e.1 L 5 = p6 ∧ e.1 L 8 = 0 ∧ ∀ j, e.1 (L + 2) j = 0 := by
  obtain ⟨S2, hS2⟩ : ∃ S2, S2 = mmNew S (50 + 0, 6) 6 := ⟨_, rfl⟩
  obtain ⟨d3, hd3⟩ : ∃ d3, d3 = mmNewD S d := ⟨_, rfl⟩
  obtain ⟨S5, hS5⟩ : ∃ S5, S5 = sR S2 L 6 (some (L + 1)) := ⟨_, rfl⟩
  obtain ⟨S7, hS7⟩ : ∃ S7, S7 = mmNew S5 (50 + 0, 6) 6 := ⟨_, rfl⟩
  obtain ⟨d8, hd8⟩ : ∃ d8, d8 = mmNewD S5 d3 := ⟨_, rfl⟩
  obtain ⟨S10, hS10⟩ : ∃ S10, S10 = sR S7 L 7 (some (L + 2)) := ⟨_, rfl⟩
  have x2 : S2.1 = S.1 ++ [(50, 6)] := by rw [hS2]; rfl
  have x5 : S5.1 = S.1 ++ [(50, 6)] := by rw [hS5]; exact x2
  have n5 : S5.1.length = L + 2 := by rw [x5, List.length_append, hL]; rfl
  have x7 : S7.1 = S.1 ++ [(50, 6), (50, 6)] := by rw [hS7]; show S5.1 ++ [(50, 6)] = _; rw [x5, List.append_assoc]; rfl
  have x10 : S10.1 = S.1 ++ [(50, 6), (50, 6)] := by rw [hS10]; exact x7
  have k2 : isK S2 12 (some L) = some L := isK_of (at_old x2 hl)
  have k7 : isK S7 12 (some L) = some L := isK_of (at_old x7 hl)
  have k10 : isK S10 12 (some L) = some L := isK_of (at_old x10 hl)
  have r2 : ∀ b, b ≤ L → S2.2.1 b = S.2.1 b := fun b hb => by rw [hS2]; exact z2_row (by omega)
  have r5 : ∀ b, b ≠ L → S5.2.1 b = S2.2.1 b := fun b hb => by rw [hS5]; exact u2_row hb
  have r5L : S5.2.1 L 6 = some (L + 1) := by rw [hS5]; exact u2_at
  have r7 : ∀ b, b ≠ L + 2 → S7.2.1 b = S5.2.1 b := fun b hb => by rw [hS7]; exact z2_row (by omega)
  have r10 : ∀ b, b ≠ L → S10.2.1 b = S7.2.1 b := fun b hb => by rw [hS10]; exact u2_row hb
  have r10a : S10.2.1 L 7 = some (L + 2) := by rw [hS10]; exact u2_at
  have r10b : S10.2.1 L 6 = some (L + 1) := by
    rw [hS10]
    show (u2 S7.2.1 L 7 (some (L + 2))) L 6 = _
    rw [u2_ne (by omega), r7 L (by omega)]
    exact r5L
  have v8 : ∀ b, b ≤ L → d8.1 b = d.1 b := fun b hb => by
    rw [hd8]
    show z2 d3.1 S5.1.length 0 b = _
    rw [z2_row (by omega), hd3]
    exact z2_row (by omega)
  have rr : ∀ b, b < L → S10.2.1 b = S.2.1 b := fun b hb => by rw [r10 b (by omega), r7 b (by omega), r5 b (by omega), r2 b (by omega)]
  refine ⟨S10, dI (dI (dI (dI (dI (dI d8 L 0 p1) L 1 p2) L 2 p3) L 3 p4) L 4 p5) L 5 p6, ?_, ⟨fun i hi => ?_, fun b hb => ?_, ?_⟩, x10, ?_, rr, r10b, r10a, fun b hb => ?_, ?_, ?_, ?_, ?_, ?_, dI_at, ?_, fun j => ?_⟩
  · unfold Ta_init
    rw [show gn 6 = some 6 from gn_ok (n := 6) (by omega), Option.bind_some, bind2_some, ← hS2, ← hd3, k2, Option.bind_some, hL, Option.bind_some, ← hS5, Option.bind_some, bind2_some, ← hS7, ← hd8, k7, Option.bind_some, n5, Option.bind_some, ← hS10, k10, Option.bind_some, Option.bind_some, Option.bind_some, Option.bind_some, Option.bind_some, Option.bind_some, Option.bind_some]
  · show S10.1[i]? = _
    rw [x10, List.getElem?_append_left hi]
  · show (if b = L then S.2.1 L else S10.2.1 b) = S.2.1 b
    by_cases e : b = L
    · rw [if_pos e, e]
    · rw [if_neg e]
      exact rr b (by omega)
  · show S.1.length ≤ S10.1.length
    rw [x10, List.length_append]
    omega
  · rw [hS10]
    show S7.2.2 = _
    rw [hS7]
    show (S5.2.2.1 + 1, S5.2.2.2 + 6) = _
    rw [hS5]
    show (S2.2.2.1 + 1, S2.2.2.2 + 6) = _
    rw [hS2]
    rfl
  · rw [dI_ne (by omega), dI_ne (by omega), dI_ne (by omega), dI_ne (by omega), dI_ne (by omega), dI_ne (by omega), v8 b (by omega)]
  · rw [dI_nk (by omega), dI_nk (by omega), dI_nk (by omega), dI_nk (by omega), dI_nk (by omega), dI_at]
  · rw [dI_nk (by omega), dI_nk (by omega), dI_nk (by omega), dI_nk (by omega), dI_at]
  · rw [dI_nk (by omega), dI_nk (by omega), dI_nk (by omega), dI_at]
  · rw [dI_nk (by omega), dI_nk (by omega), dI_at]
  · rw [dI_nk (by omega), dI_at]
  · rw [dI_nk (by omega), dI_nk (by omega), dI_nk (by omega), dI_nk (by omega), dI_nk (by omega), dI_nk (by omega), v8 L (by omega)]
    exact h8
  · rw [dI_ne (by omega), dI_ne (by omega), dI_ne (by omega), dI_ne (by omega), dI_ne (by omega), dI_ne (by omega), hd8]
    show z2 d3.1 S5.1.length 0 (L + 2) j = 0
    rw [n5]
    exact if_pos rfl
/-- the numbers of a task that is told -/
theorem WP.task {b9 p9 o9 c9 l9 m9 : Nat} (h : WP w nw nt ni nd) (h5 : nt < 5) (hw : ∀ j, j ≠ 4 → j < 11 + 7 * nt ∨ 11 + 7 * nt + 6 ≤ j → w' j = w j) (h4 : w' 4 = nI (nt + 1)) (v0 : w' (11 + 7 * nt) = nI b9) (v1 : w' (11 + 7 * nt + 1) = nI p9) (v2 : w' (11 + 7 * nt + 2) = nI o9) (v3 : w' (11 + 7 * nt + 3) = nI c9) (v4 : w' (11 + 7 * nt + 4) = nI l9) (v5 : w' (11 + 7 * nt + 5) = nI m9) (q0 : b9 < nw) (q1 : 4 ≤ p9 ∧ p9 ≤ 60) (q2 : o9 ≤ 99) (q3 : o9 < c9 ∧ c9 ≤ 120) (q4 : l9 ≤ 20) (q5 : l9 ≤ m9 ∧ m9 ≤ 40) : WP w' nw (nt + 1) ni (fun t => if t = nt then 0 else nd t) := by
  obtain ⟨x1, x2, x3, x4, x5, x6, x7⟩ := h
  have hw3 := x1.2
  refine ⟨⟨by rw [hw 3 (by omega) (by omega)]; exact x1.1, x1.2⟩, ⟨h4, by omega⟩, ⟨by rw [hw 5 (by omega) (by omega)]; exact x3.1, x3.2.1, by rw [hw 6 (by omega) (by omega)]; exact x3.2.2⟩, fun v hv => ?_, fun t ht => ?_, fun i hi => ?_, fun t h1 h2 => ?_⟩
  · rw [hw 8 (by omega) (by omega), hw (8 + v) (by omega) (by omega)]
    exact x4 v hv
  · by_cases e : t = nt
    · subst e
      dsimp only
      rw [if_pos rfl]
      refine ⟨⟨by omega, by rw [hw _ (by omega) (by omega)]; exact x7 t (Nat.le_refl _) h5⟩, ⟨b9, p9, o9, c9, l9, m9, v0, q0, v1, q1.1, q1.2, v2, q2, v3, q3.1, q3.2, v4, q4, v5, q5.1, q5.2⟩, fun n hn => absurd hn (by omega)⟩
    · dsimp only
      rw [if_neg e]
      have ht' : t < nt := by omega
      obtain ⟨g1, ⟨a, p, o, c9, le, mo, g2, g3, g4⟩, g5⟩ := x5 t ht'
      have hn6 := g1.1
      refine ⟨⟨g1.1, by rw [hw _ (by omega) (by omega)]; exact g1.2⟩, ⟨a, p, o, c9, le, mo, by rw [hw _ (by omega) (by omega)]; exact g2, g3, ?_⟩, fun n hn => ?_⟩
      · rw [hw (11 + 7 * t + 1) (by omega) (by omega), hw (11 + 7 * t + 2) (by omega) (by omega), hw (11 + 7 * t + 3) (by omega) (by omega), hw (11 + 7 * t + 4) (by omega) (by omega), hw (11 + 7 * t + 5) (by omega) (by omega)]
        exact g4
      · rw [hw (46 + 2 * (6 * t + n)) (by omega) (by omega), hw (46 + 2 * (6 * t + n) + 1) (by omega) (by omega)]
        exact g5 n hn
  · exact ((x6 i hi).mono (Nat.le_refl _) (Nat.le_succ _) (fun t ht => by rw [if_neg (by omega)]; exact Nat.le_refl _)).cong (fun f hf => hw _ (by omega) (by omega))
  · rw [hw _ (by omega) (by omega)]
    exact x7 t (by omega) h2
theorem task_eq (h : Rs S0 d0 m0 rd sz c ap tk S d m) (hp : PT S d (m.1 6) rd nw nt ni nd tks ij) : OF S0 d0 m0 (c + 4) () (Re_taskLine rd S d) (Mo_readTask 0 MoS m) ∨ LOk S0 d0 m0 rd sz (c + 3) ap (3 * nt + ni + 3) m (Re_taskLine rd S d) (Mo_readTask 0 MoS m) := by
  have hr := h.1.2.2.1
  have hx := hp.wp
  have hm3 : m.1 6 3 = nI nw := hx.1.1
  have hw3 := hx.1.2
  have hm4 : m.1 6 4 = nI nt := hx.2.1.1
  have ht5 := hx.2.1.2
  have hlr := (List.getElem?_eq_some_iff.mp hr).1
  have hl2 := (List.getElem?_eq_some_iff.mp hp.1.1).1
  have hl7 := (List.getElem?_eq_some_iff.mp hp.1.2.2.2.2).1
  have e6 : d.1 (rd + 2) 6 = nI nw := hp.pf.2.2.2.2.1.trans hm3
  obtain ⟨o, ho⟩ : ∃ o, o = Re_taskLine rd S d := ⟨_, rfl⟩
  obtain ⟨p, hq⟩ : ∃ p, p = Mo_readTask 0 MoS m := ⟨_, rfl⟩
  rw [← ho, ← hq]
  have f3 : aix MoS 50 (MoS.2.1 0 14) 3 = some (6, 3) := Mf 3 (by omega)
  have f4 : aix MoS 50 (MoS.2.1 0 14) 4 = some (6, 4) := Mf 4 (by omega)
  unfold Re_taskLine at ho
  rw [h.1.K, Option.bind_some, hp.K h.1, Option.bind_some, hp.kT, Option.bind_some, list_sz hp.2.1, Option.bind_some] at ho
  unfold Mo_readTask at hq
  rw [Mo_K, Option.bind_some] at hq
  by_cases c5 : nt = 5
  · subst c5
    obtain ⟨z, S', d', m', g1, g2, g3⟩ := can_full (γ := Unit) h (k := 4) (M := 5) (by omega) hm4
    rw [if_neg (show ¬ ¬ nI 5 = 5 from fun z => z rfl), g1] at ho
    rw [show Mo_canTake 0 4 5 MoS m = _ from g2, bind2_some, if_neg (show ¬ ¬ (0 : Int32) = 0 from fun z => z rfl)] at hq
    exact Or.inl (OF.mono ⟨z, S', d', m', ho, hq, g3⟩ (by omega))
  have c5' : ¬ nI nt = 5 := fun z => c5 ((nI_eq (b := 5) (by omega) (by omega)).mp z)
  obtain ⟨K, hK⟩ : ∃ K, K = 11 + 7 * nt := ⟨_, rfl⟩
  have i0 : aix MoS 50 (MoS.2.1 0 14) (nI K) = some (6, K) := Mf K (by omega)
  have i1 : aix MoS 50 (MoS.2.1 0 14) (nI K + 1) = some (6, K + 1) := by rw [nI_1]; exact Mf _ (by omega)
  have i2 : aix MoS 50 (MoS.2.1 0 14) (nI K + 2) = some (6, K + 2) := by rw [show nI K + 2 = nI (K + 2) from nI_add K 2]; exact Mf _ (by omega)
  have i3 : aix MoS 50 (MoS.2.1 0 14) (nI K + 3) = some (6, K + 3) := by rw [show nI K + 3 = nI (K + 3) from nI_add K 3]; exact Mf _ (by omega)
  have i4 : aix MoS 50 (MoS.2.1 0 14) (nI K + 4) = some (6, K + 4) := by rw [show nI K + 4 = nI (K + 4) from nI_add K 4]; exact Mf _ (by omega)
  have i5 : aix MoS 50 (MoS.2.1 0 14) (nI K + 5) = some (6, K + 5) := by rw [show nI K + 5 = nI (K + 5) from nI_add K 5]; exact Mf _ (by omega)
  obtain ⟨d1, m1, a1, t1, n1, n2, n3, n4, n5, n6⟩ := next_rs h
  have hc := can_go h.2.2.1 (k := 4) (M := 5) (by omega) (by rw [hm4]; exact c5') n2 n3.2.2.1
  have e61 : d1.1 (rd + 2) 6 = nI nw := (congrFun (n6.1 (rd + 2) (by omega)) 6).trans e6
  have m13 : m1.1 6 3 = nI nw := (congrFun (n6.2.2.1 6 (by omega)) 3).trans hm3
  have m14 : m1.1 6 4 = nI nt := (congrFun (n6.2.2.1 6 (by omega)) 4).trans hm4
  rw [if_pos c5', n1, bind2_some, e61] at ho
  rw [show Mo_canTake 0 4 5 MoS m = _ from hc, bind2_some, if_pos (show ¬ (1 : Int32) = 0 by decide), f4, Option.bind_some, m14, show (11 : Int32) + 7 * nI nt = nI K from by rw [nlit, nlit, nI_mul, nI_add, hK], Option.bind_some, f3, Option.bind_some, m13] at hq
  -- under
  rcases num_eq n3 (i := 12) (lo := 0) (hi := nI nw - 1) (by omega) with ⟨z, S', d', m', g1, g2, g3, g4⟩ | ⟨v1, d2, m2, a2, t2, q1, q2, q3, q4, q5, q6, q7, q8⟩
  · rw [g1, bindE_r] at ho
    rw [g2, bind2_some] at hq
    refine Or.inl ((OF.of ho g3 ?_).mono (by omega))
    rw [hq]
    exact bs_set i0 (bs_told (by omega) (bs_set i1 (bs_told (by omega) (bs_set i2 (bs_told (by omega) (bs_set i3 (bs_told (by omega) (bs_set i4 (bs_told (by omega) (bs_set i5 (bs_some bs_end)))))))))))
  rw [q1, bindE_l, h.1.K, Option.bind_some] at ho
  rw [q2, bind2_some, i0, Option.bind_some, Option.bind_some] at hq
  have b1 : v1 < nw := by
    rcases inI_nI (x := nI v1) (n := nw) (by omega) with ⟨z, -⟩ | ⟨t, z1, z2, -⟩
    · rw [z] at q4
      exact absurd q4 (by decide)
    · have := (nI_eq (by omega) (by omega)).mp z2
      omega
  have k2 : Rs S0 d0 m0 rd sz c a2 t2 S d2 (dI m2 6 K (nI v1)) := q5.wr (fun b hb => rfl) (fun b hb => dI_ne hb)
  have D2 : ∀ b, b ≠ rd → d2.1 b = d.1 b := fun b hb => (q8.1 b hb).trans (n6.1 b hb)
  have M2 : ∀ j, (dI m2 6 K (nI v1)).1 6 j = if j = K then nI v1 else m.1 6 j := fun j => by
    by_cases e : j = K
    · rw [if_pos e, e]; exact dI_at
    · rw [if_neg e, dI_nk (fun z => e z.2), q8.2.2.1 6 (by omega), n6.2.2.1 6 (by omega)]
  clear q1 q2 q4 n1 n2
  -- period
  rcases num_eq k2 (i := 14) (lo := 4) (hi := 60) (by omega) with ⟨z, S', d', m', g1, g2, g3, g4⟩ | ⟨v2, d3, m3, a3, t3, r1, r2, r3, r4, r5, r6, r7, r8⟩
  · rw [g1, bindE_r] at ho
    rw [g2, bind2_some] at hq
    refine Or.inl ((OF.of ho g3 ?_).mono (by omega))
    rw [hq]
    exact bs_set i1 (bs_told (by omega) (bs_set i2 (bs_told (by omega) (bs_set i3 (bs_told (by omega) (bs_set i4 (bs_told (by omega) (bs_set i5 (bs_some bs_end)))))))))
  rw [r1, bindE_l, h.1.K, Option.bind_some] at ho
  rw [r2, bind2_some, i1, Option.bind_some, Option.bind_some] at hq
  have b2 := inI_b (a := 4) (b := 60) r3 (by omega) (by omega) r4
  have k3 : Rs S0 d0 m0 rd sz c a3 t3 S d3 (dI m3 6 (K + 1) (nI v2)) := r5.wr (fun b hb => rfl) (fun b hb => dI_ne hb)
  have D3 : ∀ b, b ≠ rd → d3.1 b = d.1 b := fun b hb => (r8.1 b hb).trans (D2 b hb)
  have M3 : ∀ j, (dI m3 6 (K + 1) (nI v2)).1 6 j = if j = K + 1 then nI v2 else if j = K then nI v1 else m.1 6 j := fun j => by
    by_cases e : j = K + 1
    · rw [if_pos e, e]; exact dI_at
    · rw [if_neg e, dI_nk (fun z => e z.2), r8.2.2.1 6 (by omega), M2]
  clear r1 r2 r4
  -- open
  rcases num_eq k3 (i := 15) (lo := 0) (hi := 99) (by omega) with ⟨z, S', d', m', g1, g2, g3, g4⟩ | ⟨v3, d4, m4, a4, t4, s1, s2, s3, s4, s5, s6, s7, s8⟩
  · rw [g1, bindE_r] at ho
    rw [g2, bind2_some] at hq
    refine Or.inl ((OF.of ho g3 ?_).mono (by omega))
    rw [hq]
    exact bs_set i2 (bs_told (by omega) (bs_set i3 (bs_told (by omega) (bs_set i4 (bs_told (by omega) (bs_set i5 (bs_some bs_end)))))))
  rw [s1, bindE_l, h.1.K, Option.bind_some, nI_1] at ho
  rw [s2, bind2_some, i2, Option.bind_some, Option.bind_some, dI_at, nI_1] at hq
  have b3 := inI_b (a := 0) (b := 99) s3 (by omega) (by omega) s4
  have k4 : Rs S0 d0 m0 rd sz c a4 t4 S d4 (dI m4 6 (K + 2) (nI v3)) := s5.wr (fun b hb => rfl) (fun b hb => dI_ne hb)
  have D4 : ∀ b, b ≠ rd → d4.1 b = d.1 b := fun b hb => (s8.1 b hb).trans (D3 b hb)
  have M4 : ∀ j, (dI m4 6 (K + 2) (nI v3)).1 6 j = if j = K + 2 then nI v3 else if j = K + 1 then nI v2 else if j = K then nI v1 else m.1 6 j := fun j => by
    by_cases e : j = K + 2
    · rw [if_pos e, e]; exact dI_at
    · rw [if_neg e, dI_nk (fun z => e z.2), s8.2.2.1 6 (by omega), M3]
  clear s1 s2 s4
  -- close
  rcases num_eq k4 (i := 16) (lo := nI (v3 + 1)) (hi := 120) (by omega) with ⟨z, S', d', m', g1, g2, g3, g4⟩ | ⟨v4, d5, m5, a5, t5, u1, u2', u3, u4, u5, u6, u7, u8⟩
  · rw [g1, bindE_r] at ho
    rw [g2, bind2_some] at hq
    refine Or.inl ((OF.of ho g3 ?_).mono (by omega))
    rw [hq]
    exact bs_set i3 (bs_told (by omega) (bs_set i4 (bs_told (by omega) (bs_set i5 (bs_some bs_end)))))
  rw [u1, bindE_l, h.1.K, Option.bind_some] at ho
  rw [u2', bind2_some, i3, Option.bind_some, Option.bind_some] at hq
  have b4 := inI_b (a := v3 + 1) (b := 120) u3 (by omega) (by omega) u4
  have k5 : Rs S0 d0 m0 rd sz c a5 t5 S d5 (dI m5 6 (K + 3) (nI v4)) := u5.wr (fun b hb => rfl) (fun b hb => dI_ne hb)
  have D5 : ∀ b, b ≠ rd → d5.1 b = d.1 b := fun b hb => (u8.1 b hb).trans (D4 b hb)
  have M5 : ∀ j, (dI m5 6 (K + 3) (nI v4)).1 6 j = if j = K + 3 then nI v4 else if j = K + 2 then nI v3 else if j = K + 1 then nI v2 else if j = K then nI v1 else m.1 6 j := fun j => by
    by_cases e : j = K + 3
    · rw [if_pos e, e]; exact dI_at
    · rw [if_neg e, dI_nk (fun z => e z.2), u8.2.2.1 6 (by omega), M4]
  clear u1 u2' u4
  -- least
  rcases num_eq k5 (i := 17) (lo := 0) (hi := 20) (by omega) with ⟨z, S', d', m', g1, g2, g3, g4⟩ | ⟨v5, d6, m6, a6, t6, y1, y2, y3, y4, y5, y6, y7, y8⟩
  · rw [g1, bindE_r] at ho
    rw [g2, bind2_some] at hq
    refine Or.inl ((OF.of ho g3 ?_).mono (by omega))
    rw [hq]
    exact bs_set i4 (bs_told (by omega) (bs_set i5 (bs_some bs_end)))
  have D6 : ∀ b, b ≠ rd → d6.1 b = d.1 b := fun b hb => (y8.1 b hb).trans (D5 b hb)
  have hp6 : PT S d6 (m.1 6) rd nw nt ni nd tks ij := hp.go hr Ext.rf (fun b _ hb => D6 b hb)
  rw [y1, bindE_l, h.1.K, Option.bind_some, hp.K h.1, Option.bind_some, bind2_some] at ho
  rw [y2, bind2_some, i4, Option.bind_some, Option.bind_some, dI_at] at hq
  have b5 := inI_b (a := 0) (b := 20) y3 (by omega) (by omega) y4
  have k6 : Rs S0 d0 m0 rd sz c a6 t6 S d6 (dI m6 6 (K + 4) (nI v5)) := y5.wr (fun b hb => rfl) (fun b hb => dI_ne hb)
  have M6 : ∀ j, (dI m6 6 (K + 4) (nI v5)).1 6 j = if j = K + 4 then nI v5 else if j = K + 3 then nI v4 else if j = K + 2 then nI v3 else if j = K + 1 then nI v2 else if j = K then nI v1 else m.1 6 j := fun j => by
    by_cases e : j = K + 4
    · rw [if_pos e, e]; exact dI_at
    · rw [if_neg e, dI_nk (fun z => e z.2), y8.2.2.1 6 (by omega), M5]
  clear y1 y2 y4
  -- the new Task
  obtain ⟨L, hL⟩ : ∃ L, L = S.1.length := ⟨_, rfl⟩
  obtain ⟨T1, hT1⟩ : ∃ T1, T1 = mmNew S (12, 0) 9 := ⟨_, rfl⟩
  obtain ⟨f1, hf1⟩ : ∃ f1, f1 = mmNewD S d6 := ⟨_, rfl⟩
  have xT1 : T1.1 = S.1 ++ [(12, 0)] := by rw [hT1]; rfl
  have nT1 : T1.1.length = L + 1 := by rw [xT1, List.length_append, hL]; rfl
  have E1 : Ext S T1 := by rw [hT1]; exact Ext.new
  have atL : T1.1[L]? = some (12, 0) := by rw [xT1, hL, List.getElem?_append_right (Nat.le_refl _), Nat.sub_self]; rfl
  have F1 : ∀ b, b < L → f1.1 b = d6.1 b := fun b hb => by rw [hf1]; exact z2_row (by omega)
  have F1L : ∀ j, f1.1 L j = 0 := fun j => by rw [hf1, hL]; exact if_pos rfl
  have kT1 : T1.2.2.1 = S.2.2.1 + 1 ∧ T1.2.2.2 = S.2.2.2 + 9 := by rw [hT1]; exact ⟨rfl, rfl⟩
  have k7 : Rs S0 d0 m0 rd sz (c + 1) a6 t6 T1 f1 (dI m6 6 (K + 4) (nI v5)) := k6.ext E1 (by omega) (fun b hb => F1 b (by omega))
  rw [← hT1, ← hf1, ← hL, k7.1.K, Option.bind_some] at ho
  -- most
  rcases num_eq k7 (i := 18) (lo := nI v5) (hi := 40) (by omega) with ⟨z, S', d', m', g1, g2, g3, g4⟩ | ⟨v6, d7, m7, a7, t7, x1, x2, x3, x4, x5, x6, x7, x8⟩
  · rw [g1, bindE_r] at ho
    rw [g2, bind2_some] at hq
    refine Or.inl ((OF.of ho g3 ?_).mono (by omega))
    rw [hq]
    exact bs_set i5 (bs_some bs_end)
  have b6 := inI_b (a := v5) (b := 40) x3 (by omega) (by omega) x4
  have M7 : ∀ j, (dI m7 6 (K + 5) (nI v6)).1 6 j = if j = K + 5 then nI v6 else if j = K + 4 then nI v5 else if j = K + 3 then nI v4 else if j = K + 2 then nI v3 else if j = K + 1 then nI v2 else if j = K then nI v1 else m.1 6 j := fun j => by
    by_cases e : j = K + 5
    · rw [if_pos e, e]; exact dI_at
    · rw [if_neg e, dI_nk (fun z => e z.2), x8.2.2.1 6 (by omega), M6]
  have hm74 : (dI m7 6 (K + 5) (nI v6)).1 6 4 = nI nt := by
    rw [M7, if_neg (by omega), if_neg (by omega), if_neg (by omega), if_neg (by omega), if_neg (by omega), if_neg (by omega)]
    exact hm4
  rw [x2, bind2_some, i5, Option.bind_some, Option.bind_some, hm74, nI_1, Option.bind_some] at hq
  have D7 : ∀ b, b ≠ rd → b < L → d7.1 b = d.1 b := fun b hb hl => by rw [x8.1 b hb, F1 b hl, D6 b hb]
  have D7L : ∀ j, d7.1 L j = 0 := fun j => by rw [x8.1 L (by omega)]; exact F1L j
  obtain ⟨T2, e2, w1, w2, w3, w4, w5, w6, w7, w8, w90, w91, w92, w93, w94, w95, w98, w99⟩ := task_new (p1 := nI v1) (p2 := nI v2) (p3 := nI v3) (p4 := nI v4) (p5 := nI v5) (p6 := nI v6) nT1 atL (D7L 8)
  have kt2 : T2.2.2.1 = S.2.2.1 + 3 ∧ T2.2.2.2 = S.2.2.2 + 21 := by
    have e1 : T2.2.2.1 = T1.2.2.1 + 2 := by rw [w4]
    have e2 : T2.2.2.2 = T1.2.2.2 + 12 := by rw [w4]
    omega
  have xT2 : T2.1 = S.1 ++ [(12, 0), (50, 6), (50, 6)] := by rw [w3, xT1, List.append_assoc]; rfl
  have nT2 : T2.1.length = L + 3 := by rw [xT2, List.length_append, hL]; rfl
  have E2 : Ext S T2 := by
    refine ⟨fun i hi => by rw [xT2, List.getElem?_append_left hi], fun b hb => ?_, by omega⟩
    rw [w5 b (by omega)]
    exact E1.2.1 b hb
  have atT : ∀ k sh, [(12, 0), (50, 6), (50, 6)][k]? = some sh → T2.1[L + k]? = some sh := fun k sh hk => by
    rw [hL]; exact at_app xT2 hk
  have G2 : ∀ b, b < L → b ≠ rd → e2.1 b = d.1 b := fun b hb hr9 => by rw [w8 b hb]; exact D7 b hr9 hb
  have hpT : PT T2 e2 (m.1 6) rd nw nt ni nd tks ij := hp.go hr E2 (fun b hb hr9 => G2 b (by omega) hr9)
  obtain ⟨z1, l9, k9, hTt, hIi, ⟨y1', y2', y3', y4', y5', y6', y7'⟩, hWP⟩ := hpT
  have hpT : PT T2 e2 (m.1 6) rd nw nt ni nd tks ij := ⟨z1, l9, k9, hTt, hIi, ⟨y1', y2', y3', y4', y5', y6', y7'⟩, hWP⟩
  have hrT : T2.1[rd]? = some (10, 0) := (E2.1 rd hlr).trans hr
  obtain ⟨j1, j2⟩ := list_ng (b := L) l9 (Or.inl (atT 0 _ rfl)) (by omega) (by omega)
  have hkS : isK T2 16 (S.2.1 (rd + 2) 0) = some (rd + 3) := by rw [← E2.2.1 (rd + 2) (by omega)]; exact hpT.kT
  rw [x1, bindE_l, w1, bind3_some, hkS, Option.bind_some, j1, bind3_some] at ho
  obtain ⟨d8, hd8⟩ : ∃ d8, d8 = dI (dI e2 (rd + 3) 0 (e2.1 (rd + 3) 0 + 1)) (rd + 3) 2 (nI (nt + 1)) := ⟨_, rfl⟩
  obtain ⟨m8, hm8⟩ : ∃ m8, m8 = dI (dI m7 6 (K + 5) (nI v6)) 6 4 (nI (nt + 1)) := ⟨_, rfl⟩
  rw [← hd8] at ho j2
  rw [← hm8] at hq
  have W : ∀ j, j ≠ 4 → m8.1 6 j = if j = K + 5 then nI v6 else if j = K + 4 then nI v5 else if j = K + 3 then nI v4 else if j = K + 2 then nI v3 else if j = K + 1 then nI v2 else if j = K then nI v1 else m.1 6 j := fun j hj => by
    rw [hm8, dI_nk (fun z => hj z.2), M7]
  have W4 : m8.1 6 4 = nI (nt + 1) := by rw [hm8]; exact dI_at
  have Wo : ∀ j, j ≠ 4 → j < 11 + 7 * nt ∨ 11 + 7 * nt + 6 ≤ j → m8.1 6 j = m.1 6 j := fun j h4 hj => by
    rw [W j h4, if_neg (by omega), if_neg (by omega), if_neg (by omega), if_neg (by omega), if_neg (by omega), if_neg (by omega)]
  have W0 : m8.1 6 (11 + 7 * nt) = nI v1 := by rw [W _ (by omega), if_neg (by omega), if_neg (by omega), if_neg (by omega), if_neg (by omega), if_neg (by omega), if_pos (by omega)]
  have W1 : m8.1 6 (11 + 7 * nt + 1) = nI v2 := by rw [W _ (by omega), if_neg (by omega), if_neg (by omega), if_neg (by omega), if_neg (by omega), if_pos (by omega)]
  have W2 : m8.1 6 (11 + 7 * nt + 2) = nI v3 := by rw [W _ (by omega), if_neg (by omega), if_neg (by omega), if_neg (by omega), if_pos (by omega)]
  have W3 : m8.1 6 (11 + 7 * nt + 3) = nI v4 := by rw [W _ (by omega), if_neg (by omega), if_neg (by omega), if_pos (by omega)]
  have W4' : m8.1 6 (11 + 7 * nt + 4) = nI v5 := by rw [W _ (by omega), if_neg (by omega), if_pos (by omega)]
  have W5 : m8.1 6 (11 + 7 * nt + 5) = nI v6 := by rw [W _ (by omega), if_pos (by omega)]
  have hnew := hWP.task (w' := m8.1 6) (by omega) Wo W4 W0 W1 W2 W3 W4' W5 b1 b2 b3.2 ⟨by omega, b4.2⟩ b5.2 b6
  have V : ∀ b, b ≠ rd + 3 → d8.1 b = e2.1 b := fun b hb => by rw [hd8, dI_ne hb, dI_ne hb]
  obtain ⟨bb1, ⟨bb2, bb3, bb4⟩, -⟩ := h.2.2.2.2.1
  have hS0 := h.2.2.2.2.2
  have hRs : Rs S0 d0 m0 rd sz (c + 3) a7 t7 (sR T2 (rd + 4) nt (some L)) d8 m8 := x5.to ((h.1.ext E2).rows rfl (fun b hb => u2_row (by omega))) ((bb1.tr E2).sR (by omega)) (by show T2.2.2.1 ≤ _ ∧ T2.2.2.2 ≤ _ ∧ T2.1.length + _ ≤ T2.2.2.1 + _; omega) (fun b hb => by rw [V b (by omega), w8 b (by omega)]) (fun b hb => by rw [hm8, dI_ne hb, dI_ne hb])
  have R : ∀ b, b ≠ rd + 4 → (sR T2 (rd + 4) nt (some L)).2.1 b = T2.2.1 b := fun b hb => u2_row hb
  refine Or.inr ⟨sR T2 (rd + 4) nt (some L), d8, m8, a7, t7, nw, nt + 1, ni, fun t => if t = nt then 0 else nd t, fun t => if t = nt then L else tks t, ij, by omega, ho, hq, hRs, by omega, fun z => by have := x7 z; omega, ⟨z1.lst rfl (R (rd + 2) (by omega)), j2, ?_, fun t ht => ?_, fun i hi => ?_, ⟨fun v hv => ?_, ?_, ?_, ?_, ?_, ?_, ?_⟩, hnew⟩, fun j hj => Wo j (by omega) (by omega), Wo 7 (by omega) (by omega)⟩
  · obtain ⟨l1, l2, l3, l4, l5, l6, l7⟩ := k9
    exact ⟨l1, by rw [R (rd + 5) (by omega)]; exact l2, l3, by rw [V _ (by omega)]; exact l4, l5, fun i hi => by rw [R (rd + 6) (by omega)]; exact l6 i hi, fun i hi hj => by rw [R (rd + 6) (by omega)]; exact l7 i hi hj⟩
  · by_cases e : t = nt
    · subst e
      dsimp only
      rw [if_pos rfl, if_pos rfl]
      refine ⟨⟨atT 0 _ rfl, fun f hf => ?_, ?_, ?_, by omega, L + 1, L + 2, ?_, ?_, atT 1 _ rfl, atT 2 _ rfl, fun n hn => absurd hn (by omega), fun k hk => absurd hk (by omega)⟩, ?_, ?_, by omega, fun s h1 h2 => by omega, fun k _ _ => by rw [V (L + 2) (by omega)]; exact w99 k⟩
      · rw [V L (by omega)]
        obtain rfl | rfl | rfl | rfl | rfl | rfl : f = 0 ∨ f = 1 ∨ f = 2 ∨ f = 3 ∨ f = 4 ∨ f = 5 := by omega
        · exact w90.trans W0.symm
        · exact w91.trans W1.symm
        · exact w92.trans W2.symm
        · exact w93.trans W3.symm
        · exact w94.trans W4'.symm
        · exact w95.trans W5.symm
      · rw [V L (by omega)]; exact w98
      · rw [Wo _ (by omega) (by omega)]
        exact hWP.2.2.2.2.2.2 t (Nat.le_refl _) (by omega)
      · exact (congrFun (R L (by omega)) 6).trans w6
      · exact (congrFun (R L (by omega)) 7).trans w7
      · exact (congrFun (R L (by omega)) 6).trans w6
      · exact (congrFun (R L (by omega)) 7).trans w7
    · dsimp only
      rw [if_neg e, if_neg e]
      have ht' : t < nt := by omega
      obtain ⟨⟨s1, s2, s3, s4, s5, u, b, s6, s7, s8, s9, s10, s11⟩, q1, q2, q3, q4, q5⟩ := hTt t ht'
      have eu : u = tks t + 1 := Option.some.inj (s6.symm.trans q1)
      have eb : b = tks t + 2 := Option.some.inj (s7.symm.trans q2)
      subst eu eb
      refine ⟨TaskT.cong (w := m.1 6) ⟨s1, fun f hf => by rw [V _ (by omega)]; exact s2 f hf, by rw [V _ (by omega)]; exact s3, s4, s5, tks t + 1, tks t + 2, (congrFun (R (tks t) (by omega)) 6).trans s6, (congrFun (R (tks t) (by omega)) 7).trans s7, s8, s9, fun n hn => by rw [V _ (by omega)]; exact s10 n hn, fun k hk => by rw [V _ (by omega)]; exact s11 k hk⟩ (fun f hf => Wo _ (by omega) (by omega)) (fun j hj => Wo _ (by omega) (by omega)), (congrFun (R (tks t) (by omega)) 6).trans q1, (congrFun (R (tks t) (by omega)) 7).trans q2, q3, fun s h1 h2 => ?_, fun k a9 b9 => by rw [V _ (by omega)]; exact q5 k a9 b9⟩
      by_cases es : s = nt
      · subst es
        rw [if_pos rfl]
        obtain ⟨⟨-, -, -, -, -, u, b, -, o7, -, o9, -⟩, -, o2, -⟩ := hp.2.2.2.1 t ht'
        have eb : b = tks t + 2 := Option.some.inj (o7.symm.trans o2)
        subst eb
        have := (List.getElem?_eq_some_iff.mp o9).1
        omega
      · rw [if_neg es]
        exact q4 s h1 (by omega)
  · obtain ⟨s1, s2⟩ := hIi i hi
    obtain ⟨b1, b2, b3, -⟩ := hpT.nd13 hrT s1
    exact InjT.cong (w := m.1 6) ⟨s1, fun f hf => by rw [V _ b3]; exact s2 f hf⟩ (fun f hf => Wo _ (by omega) (by omega))
  · rw [V _ (by omega), Wo _ (by omega) (by omega)]; exact y1' v hv
  · rw [V _ (by omega), Wo 0 (by omega) (by omega)]; exact y2'
  · rw [V _ (by omega), Wo 1 (by omega) (by omega)]; exact y3'
  · rw [V _ (by omega), Wo 2 (by omega) (by omega)]; exact y4'
  · rw [V _ (by omega), Wo 3 (by omega) (by omega)]; exact y5'
  · rw [V _ (by omega), Wo 5 (by omega) (by omega)]; exact y6'
  · rw [V _ (by omega), Wo 7 (by omega) (by omega)]; exact y7'
end
