/-! THE PLAIN LAW: inject -/
set_option maxRecDepth 100000
section
variable {n r : Nat} {S S1 S' : Sp} {d d1 d2 d' m e1 e2 f1 f2 : Dt} {w : Nat → Int32} {q : TdP} {op cl : Nat → Nat} {p p1 p2 p3 p4 p5 : Int32}
theorem Kj.hk {c s : Nat} (h : Kj q S d S' d' c s) (hC : CE S d w q) : ∀ a sh, S.1[a]? = some sh → (1 ≤ a ∧ a < 7) ∨ 35 ≤ a → ¬ (a = q.li ∧ sh = (16, 0)) → ¬ (a = q.ei ∧ sh.1 = 58) → S'.1[a]? = some sh ∧ S'.2.1 a = S.2.1 a ∧ d'.1 a = d.1 a := by
  intro a sh ha hr c1 c2
  obtain ⟨h1, h2, h3, -⟩ := h
  have hal := (List.getElem?_eq_some_iff.mp ha).1
  obtain ⟨m1, -, m3, -⟩ := hC.cap.2
  have z1 : a ≠ q.li := fun z => c1 ⟨z, by rw [z, m1] at ha; exact (Option.some.inj ha).symm⟩
  have z2 : a ≠ q.ei := fun z => c2 ⟨z, by rw [z, m3] at ha; rw [← Option.some.inj ha]⟩
  exact ⟨(h1 a hal).trans ha, h2 a hal z1 z2, h3 a hal z1⟩
/-- what may be injected -/
def InjV (q : TdP) (p1 p2 p3 p4 p5 : Int32) : Prop := (p1 = 5 ∧ p4 = 0 ∧ p5 = 0 ∧ ∃ v j, p2 = nI v ∧ v < q.nw ∧ p3 = nI j ∧ j < 200) ∨ ∃ k t j tm, p1 = nI k ∧ k ≤ 4 ∧ p2 = nI t ∧ t < q.nt ∧ p3 = nI j ∧ j ≤ 50 ∧ p5 = nI tm ∧ 1 ≤ tm ∧ tm ≤ 9 ∧ (k = 4 ∧ p4 = 0 ∨ k < 4 ∧ ∃ nn, nn < q.nd t ∧ p4 = nI nn)
theorem inI_one {x : Int32} : (inI x 1 9 = 0) ∨ ∃ t, 1 ≤ t ∧ t ≤ 9 ∧ x = nI t ∧ inI x 1 9 = 1 := by
  by_cases h : 1 ≤ x ∧ x ≤ 9
  · obtain ⟨j, hj, rfl⟩ := nI_of2 (M := 9) (n := 9) (by decide) (fun z => by
      have := Int32.lt_of_le_of_lt h.1 z
      exact absurd this (by decide)) h.2
    refine Or.inr ⟨j, ?_, hj, rfl, if_pos h⟩
    by_cases c : j = 0
    · subst c
      exact absurd h.1 (by decide)
    · omega
  · exact Or.inl (if_neg h)
theorem can_eq (hC : CE S d (mw m) q) : ∃ x, Ws_isInject 0 p1 p2 p3 p4 p5 S d = some x ∧ Mo_canInject 0 p1 p2 p3 p4 p5 MoS m = some x ∧ (x = 0 ∨ (x = 1 ∧ InjV q p1 p2 p3 p4 p5)) := by
  have h3 := hC.nw3
  have h5 := hC.nt5
  unfold Ws_isInject Mo_canInject
  by_cases hp5 : p1 = 5
  · subst hp5
    simp only [i10, eq_self, not_true_eq_false, not_false_eq_true, ↓reduceIte, Option.bind_some]
    rw [hC.K, Mo_K]
    simp only [Option.bind_some]
    rw [hC.T]
    simp only [Option.bind_some]
    rw [hC.nwF, Ws_in0, Mo_isWatcher_eq, hC.wf.1.1, show (199 : Int64) = (199 : Int32).toInt64 from rfl, Ws_in0, Mo_in0]
    simp only [Option.bind_some]
    rcases inI_nI (x := p2) (n := q.nw) (by omega) with ⟨z, -⟩ | ⟨v, v1, v2, z⟩
    · simp only [z, i10, eq_self, not_true_eq_false, not_false_eq_true, ↓reduceIte, Option.bind_some]
      exact ⟨0, rfl, rfl, Or.inl rfl⟩
    simp only [z, i10, eq_self, not_true_eq_false, not_false_eq_true, ↓reduceIte, Option.bind_some]
    rcases inI_lit (x := p3) (n := 199) (by omega) with ⟨z2, -⟩ | ⟨j, j1, j2, z2⟩
    · have z2' : inI p3 0 199 = 0 := z2
      simp only [z2', i10, eq_self, not_true_eq_false, not_false_eq_true, ↓reduceIte, Option.bind_some]
      exact ⟨0, rfl, rfl, Or.inl rfl⟩
    have z2' : inI p3 0 199 = 1 := z2
    simp only [z2', i10, eq_self, not_true_eq_false, not_false_eq_true, ↓reduceIte, Option.bind_some]
    by_cases c4 : p4 = 0
    · subst c4
      by_cases c5 : p5 = 0
      · subst c5
        simp only [i10, eq_self, not_true_eq_false, not_false_eq_true, ↓reduceIte, Option.bind_some]
        exact ⟨1, rfl, rfl, Or.inr ⟨rfl, Or.inl ⟨rfl, rfl, rfl, v, j, v2, v1, j2, by omega⟩⟩⟩
      · simp only [c5, i10, eq_self, not_true_eq_false, not_false_eq_true, ↓reduceIte, Option.bind_some]
        exact ⟨0, rfl, rfl, Or.inl rfl⟩
    · simp only [c4, i10, eq_self, not_true_eq_false, not_false_eq_true, ↓reduceIte, Option.bind_some]
      exact ⟨0, rfl, rfl, Or.inl rfl⟩
  · simp only [hp5, i10, eq_self, not_true_eq_false, not_false_eq_true, ↓reduceIte, Option.bind_some]
    rw [show (4 : Int64) = (4 : Int32).toInt64 from rfl, show (50 : Int64) = (50 : Int32).toInt64 from rfl, show (9 : Int64) = (9 : Int32).toInt64 from rfl, show (1 : Int64) = (1 : Int32).toInt64 from rfl, Ws_in0, Mo_in0]
    simp only [Option.bind_some]
    rcases inI_lit (x := p1) (n := 4) (by omega) with ⟨z, -⟩ | ⟨k, k1, rfl, z⟩
    · have z' : inI p1 0 4 = 0 := z
      simp only [z', i10, eq_self, not_true_eq_false, not_false_eq_true, ↓reduceIte, Option.bind_some]
      exact ⟨0, rfl, rfl, Or.inl rfl⟩
    have z' : inI (nI k) 0 4 = 1 := z
    simp only [z', i10, eq_self, not_true_eq_false, not_false_eq_true, ↓reduceIte, Option.bind_some]
    rw [hC.K, hC.isTask, Mo_K]
    simp only [Option.bind_some]
    rw [Mo_isTask_eq, hC.wf.2.1.1]
    simp only [Option.bind_some]
    rcases inI_nI (x := p2) (n := q.nt) (by omega) with ⟨z1, -⟩ | ⟨t, t1, rfl, z1⟩
    · simp only [z1, i10, eq_self, not_true_eq_false, not_false_eq_true, ↓reduceIte, Option.bind_some]
      exact ⟨0, rfl, rfl, Or.inl rfl⟩
    simp only [z1, i10, eq_self, not_true_eq_false, not_false_eq_true, ↓reduceIte, Option.bind_some]
    rw [Ws_in0, Mo_in0]
    simp only [Option.bind_some]
    rcases inI_lit (x := p3) (n := 50) (by omega) with ⟨z2, -⟩ | ⟨j, j1, rfl, z2⟩
    · have z2' : inI p3 0 50 = 0 := z2
      simp only [z2', i10, eq_self, not_true_eq_false, not_false_eq_true, ↓reduceIte, Option.bind_some]
      exact ⟨0, rfl, rfl, Or.inl rfl⟩
    have z2' : inI (nI j) 0 50 = 1 := z2
    simp only [z2', i10, eq_self, not_true_eq_false, not_false_eq_true, ↓reduceIte, Option.bind_some]
    rw [Ws_in_eq, Mo_in_eq]
    simp only [Option.bind_some]
    rcases inI_one (x := p5) with z3 | ⟨tm, tm1, tm2, rfl, z3⟩
    · simp only [z3, i10, eq_self, not_true_eq_false, not_false_eq_true, ↓reduceIte, Option.bind_some]
      exact ⟨0, rfl, rfl, Or.inl rfl⟩
    simp only [z3, i10, eq_self, not_true_eq_false, not_false_eq_true, ↓reduceIte, Option.bind_some]
    by_cases k4 : k = 4
    · subst k4
      have e4 : (nI 4 = 4) = True := eq_true rfl
      simp only [e4, i10, eq_self, not_true_eq_false, not_false_eq_true, ↓reduceIte, Option.bind_some]
      by_cases c4 : p4 = 0
      · subst c4
        simp only [i10, eq_self, not_true_eq_false, not_false_eq_true, ↓reduceIte, Option.bind_some]
        exact ⟨1, rfl, rfl, Or.inr ⟨rfl, Or.inr ⟨4, t, j, tm, rfl, by omega, rfl, t1, rfl, j1, rfl, tm1, tm2, Or.inl ⟨rfl, rfl⟩⟩⟩⟩
      · simp only [c4, i10, eq_self, not_true_eq_false, not_false_eq_true, ↓reduceIte, Option.bind_some]
        exact ⟨0, rfl, rfl, Or.inl rfl⟩
    · have k4' : ¬ nI k = 4 := fun z => k4 ((nI_eq (b := 4) (by omega) (by omega)).mp z)
      obtain ⟨hn1, hn6, hnw, -⟩ := hC.tf t1
      simp only [k4', i10, eq_self, not_true_eq_false, not_false_eq_true, ↓reduceIte, Option.bind_some]
      rw [hC.taskOf t1, Mo_nodesOf_eq (show t < 5 by omega), hnw]
      simp only [Option.bind_some]
      rw [hC.tK t1]
      simp only [Option.bind_some]
      rw [show d.1 (q.tk t) 8 = nI (q.nd t) from (hC.task t1).2.2.1, Ws_in0, Mo_in0]
      simp only [Option.bind_some]
      rw [gb_inI]
      simp only [Option.bind_some]
      rcases inI_nI (x := p4) (n := q.nd t) (by omega) with ⟨z4, -⟩ | ⟨nn, nn1, rfl, z4⟩
      · rw [z4]
        exact ⟨0, rfl, rfl, Or.inl rfl⟩
      · rw [z4]
        exact ⟨1, rfl, rfl, Or.inr ⟨rfl, Or.inr ⟨k, t, j, tm, rfl, k1, rfl, t1, rfl, j1, rfl, tm1, tm2, Or.inr ⟨by omega, nn, nn1, rfl⟩⟩⟩⟩
/-- the model's row with an injection more -/
def inw (m : Dt) (N : Nat) (g0 g1 g2 g3 g4 : Int32) : Dt := dI (dI (dI (dI (dI m 1 N g0) 1 (N + 1) g1) 1 (N + 2) g2) 1 (N + 3) g3) 1 (N + 4) g4
theorem inw_v {N : Nat} {g0 g1 g2 g3 g4 : Int32} : (∀ a, a ≠ 1 → (inw m N g0 g1 g2 g3 g4).1 a = m.1 a) ∧ (∀ i, i < N ∨ N + 5 ≤ i → (inw m N g0 g1 g2 g3 g4).1 1 i = m.1 1 i) ∧ (inw m N g0 g1 g2 g3 g4).1 1 N = g0 ∧ (inw m N g0 g1 g2 g3 g4).1 1 (N + 1) = g1 ∧ (inw m N g0 g1 g2 g3 g4).1 1 (N + 2) = g2 ∧ (inw m N g0 g1 g2 g3 g4).1 1 (N + 3) = g3 ∧ (inw m N g0 g1 g2 g3 g4).1 1 (N + 4) = g4 := by
  unfold inw
  refine ⟨fun a ha => by rw [dI_ne ha, dI_ne ha, dI_ne ha, dI_ne ha, dI_ne ha], fun i hi => ?_, ?_, ?_, ?_, ?_, dI_at⟩
  · rw [dI_nk (by omega), dI_nk (by omega), dI_nk (by omega), dI_nk (by omega), dI_nk (by omega)]
  · rw [dI_nk (by omega), dI_nk (by omega), dI_nk (by omega), dI_nk (by omega), dI_at]
  · rw [dI_nk (by omega), dI_nk (by omega), dI_nk (by omega), dI_at]
  · rw [dI_nk (by omega), dI_nk (by omega), dI_at]
  · rw [dI_nk (by omega), dI_at]
/-- a run from what it stands on -/
theorem all_gen (h0 : RE S (dI d 0 28 p2) m w q op cl) (hb : ¬ w 7 ≤ 0) : ∃ S' f1 f2 H r b h9, w 0 = nI h9 ∧ h9 ≤ 200 ∧ Ws_all 0 p2 S d = some (nI r, S', f1) ∧ Mo_runs 0 (w 0) MoS m = some ((), f2) ∧ f2.1 0 56 = nI r ∧ Run S d m w q p2 H h9 r b S' f1 f2 ∧ r ≤ 2200 ∧ RE S' f1 f2 w q op cl := by
  have hC0 := h0.C
  have hl35 := Ws_len hC0.F
  have hC : CE S d w q := hC0.go (fun a ha hr => (dI_ne (show a ≠ 0 by omega)).symm)
  obtain ⟨h9, a1, a2, a3⟩ := hC.hF
  obtain ⟨S', f1, f2, H, r, b, s1, s2, s3, s4⟩ := runs_eq h0 hb a2
  have hrc := RT.rcr s3
  have hR := RT.re s3 h0
  refine ⟨S', f1, f2, H, r, b, h9, a1, a2, ?_, by rw [a1]; exact s2, hrc.2.1, s3, s4, hR⟩
  unfold Ws_all
  rw [hC.K, Option.bind_some, hC.T, Option.bind_some, a3, s1, bind3_some, hR.C.K, Option.bind_some, hrc.1]
end
theorem PL_49_Rel : PL_49 Rel := by
  intro n S1 d1 S2 d2 p1 p2 p3 p4 p5 hn hR
  have hU := hR.up
  have hR0 := hR
  obtain ⟨rfl, q, hF, hN, hC⟩ := rel_at hR
  obtain ⟨-, -, ⟨cc1, cc2, cc3⟩, -⟩ := hR0
  have hni := hC.ni18
  have hl := Ws_len hF
  have hna : q.na ≤ 10 := hN.2.2.1.2.2
  have hs1 : q.li ≠ q.lt := hN.2.2.1.1
  have hs2 : q.ei ≠ q.et := hN.2.2.1.2.1
  obtain ⟨-, -, ⟨w5, w6, u1, u2, u3⟩, -⟩ := hC.wf
  unfold Ws_inject Mo_inject
  rw [hC.K, Option.bind_some, Mo_K, Option.bind_some, Mo_isBoard_eq, Option.bind_some]
  obtain ⟨x, x1, x2, x3⟩ := can_eq (m := d2) (p1 := p1) (p2 := p2) (p3 := p3) (p4 := p4) (p5 := p5) hC
  rw [x1, Option.bind_some, x2, Option.bind_some]
  rcases x3 with rfl | ⟨rfl, hV⟩
  · rw [if_neg (show ¬ ¬ (0 : Int32) = 0 from fun z => z rfl), if_neg (show ¬ ¬ (0 : Int32) = 0 from fun z => z rfl)]
    refine ⟨-2, S1, d1, d2, rfl, ?_, hU⟩
    split
    · rfl
    · split <;> rfl
  have hb : ¬ mw d2 7 ≤ 0 := by
    rcases hV with ⟨-, -, -, v, j, -, v1, -⟩ | ⟨k, t, j, tm, -, -, -, t1, -⟩
    · exact hC.brd (by omega)
    · exact hC.brd (by omega)
  rw [if_pos (show ¬ (1 : Int32) = 0 by decide), if_pos (show ¬ (1 : Int32) = 0 by decide), if_neg hb, if_neg (show ¬ (1 : Int32) = 0 by decide), hC.T, Option.bind_some, hC.kM, Option.bind_some, hC.injs, Option.bind_some, hC.told, nI_sub (Nat.sub_le _ _), Nat.sub_sub_self u1, show aix MoS 50 (MoS.2.1 0 1) 6 = some (1, 6) from Mw 6 (by omega), Option.bind_some, show d2.1 1 6 = nI q.na from w6]
  by_cases c10 : q.na = 10
  · rw [c10, if_neg (show ¬ ¬ nI 10 = 10 from fun z => z rfl), if_neg (show ¬ ¬ nI 10 = 10 from fun z => z rfl)]
    exact ⟨_, _, _, _, rfl, rfl, hU⟩
  have c10' : ¬ nI q.na = 10 := fun z => c10 ((nI_eq (b := 10) (by omega) (by omega)).mp z)
  rw [if_pos c10', if_pos c10', Mo_many_eq, Option.bind_some, hC.wf.many]
  obtain ⟨g3, hg3⟩ : ∃ g3, g3 = (if p1 < 4 then p4 else -1) := ⟨_, rfl⟩
  obtain ⟨g4, hg4⟩ : ∃ g4, g4 = (if ¬ p1 = 5 then p5 else -1) := ⟨_, rfl⟩
  have hg3' : (if 4 ≤ p1 then -1 else p4) = g3 := by
    rw [hg3]
    by_cases c : p1 < 4
    · rw [if_pos c, if_neg (fun z => Int32.not_lt.mpr z c)]
    · rw [if_neg c, if_pos (Int32.not_lt.mp c)]
  have hN5 : q.ni ≤ 17 := by
    have y1 : q.ni - q.na ≤ 8 := u2
    omega
  obtain ⟨N, hNN⟩ : ∃ N, N = 106 + 5 * q.ni := ⟨_, rfl⟩
  have hN2 : (106 : Int32) + 5 * nI q.ni = nI N := by rw [nlit, nlit, nI_mul, nI_add, hNN]
  obtain ⟨m1, hm1⟩ : ∃ m1, m1 = inw d2 N p1 p2 p3 g3 g4 := ⟨_, rfl⟩
  obtain ⟨m2, hm2⟩ : ∃ m2, m2 = dI m1 1 6 (nI (q.na + 1)) := ⟨_, rfl⟩
  obtain ⟨i1, i2, i3, i4, i5, i6, i7⟩ := inw_v (m := d2) (N := N) (g0 := p1) (g1 := p2) (g2 := p3) (g3 := g3) (g4 := g4)
  rw [← hm1] at i1 i2 i3 i4 i5 i6 i7
  have r2 : ∀ a, a ≠ 1 → m2.1 a = d2.1 a := fun a ha => by rw [hm2, dI_ne ha, i1 a ha]
  have r1 : ∀ i, i ≠ 6 → m2.1 1 i = m1.1 1 i := fun i hi => by rw [hm2]; exact dI_nk (fun z => hi z.2)
  have r6 : m2.1 1 6 = nI (q.na + 1) := by rw [hm2]; exact dI_at
  have hI : InjW (mw m2) q.nw q.nt q.nd q.ni := by
    unfold InjW
    rw [← hNN]
    show (∃ v j, m2.1 1 N = nI 5 ∧ m2.1 1 (N + 1) = nI v ∧ v < q.nw ∧ m2.1 1 (N + 2) = nI j ∧ j < 200 ∧ m2.1 1 (N + 3) = -1 ∧ m2.1 1 (N + 4) = -1) ∨ ∃ k t j tm, m2.1 1 N = nI k ∧ k ≤ 4 ∧ m2.1 1 (N + 1) = nI t ∧ t < q.nt ∧ m2.1 1 (N + 2) = nI j ∧ j ≤ 50 ∧ ((k = 4 ∧ m2.1 1 (N + 3) = -1) ∨ k < 4 ∧ ∃ n, n < q.nd t ∧ m2.1 1 (N + 3) = nI n) ∧ m2.1 1 (N + 4) = nI tm ∧ 1 ≤ tm ∧ tm ≤ 9
    rw [r1 N (by omega), r1 (N + 1) (by omega), r1 (N + 2) (by omega), r1 (N + 3) (by omega), r1 (N + 4) (by omega), i3, i4, i5, i6, i7]
    rcases hV with ⟨a1, a2, a3, v, j, a4, a5, a6, a7⟩ | ⟨k, t, j, tm, a1, a2, a3, a4, a5, a6, a7, a8, a9, a10⟩
    · refine Or.inl ⟨v, j, a1, a4, a5, a6, a7, ?_, ?_⟩
      · rw [hg3, a1, if_neg (by decide)]
      · rw [hg4, if_neg (fun z => z a1)]
    · refine Or.inr ⟨k, t, j, tm, a1, a2, a3, a4, a5, a6, ?_, ?_, a8, a9⟩
      · rcases a10 with ⟨b1, b2⟩ | ⟨b1, nn, b2, b3⟩
        · exact Or.inl ⟨b1, by rw [hg3, a1, b1, if_neg (by decide)]⟩
        · exact Or.inr ⟨b1, nn, b2, by rw [hg3, a1, if_pos (show nI k < 4 from nI_lt (b := 4) b1 (by omega))]; exact b3⟩
      · rw [hg4, a1, if_pos (show ¬ nI k = 5 from fun z => absurd ((nI_eq (a := k) (b := 5) (by omega) (by omega)).mp z) (by omega))]
        exact a7
  obtain ⟨d20, S', d', ei, ci, s1, s2, s3, s4, s5, s6, s7⟩ := add_step (w' := mw m2) (g0 := p1) (g1 := p2) (g2 := p3) (g3 := g3) (g4 := g4) hC hs1 hs2 hna hb (fun i h1 h2 => by show m2.1 1 i = _; rw [r1 i h2, i2 i (by omega)]) r6 (by show m2.1 1 _ = _; rw [r1 _ (by omega), ← hNN, i3]) (by show m2.1 1 _ = _; rw [r1 _ (by omega), ← hNN, i4]) (by show m2.1 1 _ = _; rw [r1 _ (by omega), ← hNN, i5]) (by show m2.1 1 _ = _; rw [r1 _ (by omega), ← hNN, i6]) (by show m2.1 1 _ = _; rw [r1 _ (by omega), ← hNN, i7]) hI
  have hF' := s5.1
  have hreg := hC.reg
  have hN' : RelN S' d' m2 (q.wi ei ci (fun i => if i = q.ni then S1.1.length else q.ij i) (q.ni + 1) (q.na + 1)) := hN.inj hF s5.2.2 s6 (by omega) (s7.hk hC) (s7.2.1 0 (by omega) (by omega) (by omega)) (s7.2.1 7 (by omega) (by omega) (by omega)) (fun a h1 h2 => r2 a (by omega)) (r2 0 (by omega)) ⟨s7.2.2.1 8 (by omega) (by omega), fun k _ _ => by rw [s7.2.2.1 0 (by omega) (by omega)]⟩ (s7.2.2.1 25 (by omega) (by omega)) (s7.2.2.1 26 (by omega) (by omega)) (fun i h1 h2 => by show m2.1 1 i = _; rw [r1 i h2, i2 i (by omega)])
  have hb' : ¬ mw m2 7 ≤ 0 := by
    show ¬ m2.1 1 7 ≤ 0
    rw [r1 7 (by omega), i2 7 (by omega)]
    exact hb
  obtain ⟨S3, f1, f2, H, r, b, h9, t1, t2, t3, t4, t5, t6, t7, t8, t9⟩ := all1 (p2 := -1) hN' hF' hb'
  have hcomp : (bind2 (some (mmNew S1 (13, 0) 5, mmNewD S1 d1)) fun S6 d7 => Ws_inject_b68 0 p1 p2 p3 p4 p5 (if 4 ≤ p1 then -1 else p4) p3 p2 p1 (some S1.1.length) (some S1.1.length) (S1.2.1 q.a 1) S6 d7) = some (nI r, S3, f1) := by
    rw [bind2_some]
    unfold Ws_inject_b68 Ws_inject_b79
    rw [hg3', ← hg4, s1, Option.bind_some, s2, bind2_some, s3, Option.bind_some, s4, bind3_some, Ws_K hF', Option.bind_some, t3, bind3_some]
  have hmod : ((some (106 + 5 * nI q.ni)).bind fun x6 => (aix MoS 50 (MoS.2.1 0 1) x6).bind fun q7 => (some (dI d2 q7.1 q7.2 p1)).bind fun d8 => (aix MoS 50 (MoS.2.1 0 1) (x6 + 1)).bind fun q9 => (some (dI d8 q9.1 q9.2 p2)).bind fun d10 => (aix MoS 50 (MoS.2.1 0 1) (x6 + 2)).bind fun q11 => (some (dI d10 q11.1 q11.2 p3)).bind fun d12 => Mo_inject_b97 0 p1 p2 p3 p4 p5 MoS x6 (if p1 < 4 then p4 else -1) (x6 + 3) (MoS.2.1 0 1) d12) = some (nI r, f2) := by
    rw [Option.bind_some, hN2, Mw N (by omega), Option.bind_some, Option.bind_some, nI_1, Mw (N + 1) (by omega), Option.bind_some, Option.bind_some, show nI N + 2 = nI (N + 2) from nI_add N 2, Mw (N + 2) (by omega), Option.bind_some, Option.bind_some]
    unfold Mo_inject_b97 Mo_inject_b117
    rw [show nI N + 3 = nI (N + 3) from nI_add N 3, Mw (N + 3) (by omega), Option.bind_some, Option.bind_some, Mo_K, Option.bind_some, show nI N + 4 = nI (N + 4) from nI_add N 4, Mw (N + 4) (by omega), Option.bind_some, Option.bind_some, Option.bind_some, show aix MoS 50 (MoS.2.1 0 1) 6 = some (1, 6) from Mw 6 (by omega), Option.bind_some, ← hg3, ← hg4]
    show ((some (dI (inw d2 N p1 p2 p3 g3 g4) 1 6 ((inw d2 N p1 p2 p3 g3 g4).1 1 6 + 1))).bind fun d25 => bind2 (Mo_asks 0 MoS d25) fun r26 d27 => some (d27.1 0 56, d27)) = _
    rw [← hm1, i2 6 (by omega), show d2.1 1 6 = nI q.na from w6, nI_1, Option.bind_some, ← hm2, asks_yes hb' t4 t9.row, bind2_some, t5]
  rw [hcomp, hmod]
  obtain ⟨g1', g2', g3', g4', g5', g6', g7'⟩ := s7
  have hK9 := t9
  obtain ⟨z1, z2, -⟩ := t9
  exact ⟨nI r, S3, f1, f2, rfl, rfl, rfl, hK9.fix hF', ⟨by omega, by omega, by omega⟩, _, hK9.relN hN' hF'⟩
