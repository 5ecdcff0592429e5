/-! THE PLAIN LAW: what might go wrong, one by one -/
set_option maxRecDepth 100000
section
variable {n r : Nat} {S S1 S' : Sp} {d d1 d2 d' m e1 e2 f1 f2 : Dt} {w : Nat → Int32} {q : TdP} {op cl : Nat → Nat} {p p1 p2 p3 p4 p5 : Int32}
/-- the last injection is taken out of the list -/
theorem rm_td {w' : Nat → Int32} (hC : CE S d w q) (n1 : q.li ≠ q.lt) (n2 : q.ei ≠ q.et) (h0 : 0 < q.ni) (h1 : 0 < q.na) (hb : ¬ w 7 ≤ 0) (hw : ∀ i, i < 106 + 5 * (q.ni - 1) → i ≠ 6 → w' i = w i) (h6 : w' 6 = nI (q.na - 1)) : Jl_remove q.li (nI q.ni - 1) S d = some (some (q.ij (q.ni - 1)), sR S q.ei (q.ni - 1) none, dI (dI d q.li 0 (d.1 q.li 0 + 1)) q.li 2 (nI (q.ni - 1))) ∧ CE (sR S q.ei (q.ni - 1) none) (dI (dI d q.li 0 (d.1 q.li 0 + 1)) q.li 2 (nI (q.ni - 1))) w' (q.wi q.ei q.ci q.ij (q.ni - 1) (q.na - 1)) := by
  obtain ⟨r1, r2⟩ := hC.reg
  have hni := hC.ni18
  have hWF := hC.wf
  obtain ⟨-, -, ⟨-, -, w1, w2, w3⟩, -⟩ := hC.wf
  obtain ⟨m, hm9⟩ : ∃ m, q.ni = m + 1 := ⟨q.ni - 1, by omega⟩
  have hL := hC.cap.2
  rw [hm9] at hL
  have hrm := list_rm hL (by omega)
  have e1 : nI q.ni - 1 = nI (q.ni - 1) := by rw [hm9, nI_pred]; rfl
  have e2 : q.ni - 1 = m := by omega
  have hF' : WsFix (sR S q.ei (q.ni - 1) none) := hC.F.sR r2
  have hk : ∀ a sh, S.1[a]? = some sh → (1 ≤ a ∧ a < 7) ∨ 35 ≤ a → ¬ (a = q.li ∧ sh = (16, 0)) → ¬ (a = q.ei ∧ sh.1 = 58) → (sR S q.ei (q.ni - 1) none).1[a]? = some sh ∧ (sR S q.ei (q.ni - 1) none).2.1 a = S.2.1 a ∧ (dI (dI d q.li 0 (d.1 q.li 0 + 1)) q.li 2 (nI (q.ni - 1))).1 a = d.1 a := by
    intro a sh ha _ n1 n2
    obtain ⟨l1, l2, l3, -⟩ := hC.cap.2
    have x1 : a ≠ q.li := fun e => n1 ⟨e, by rw [e] at ha; rw [l1] at ha; exact (Option.some.inj ha).symm⟩
    have x2 : a ≠ q.ei := fun e => n2 ⟨e, by rw [e] at ha; rw [l3] at ha; rw [← Option.some.inj ha]⟩
    exact ⟨ha, u2_row x2, by rw [dI_ne x1, dI_ne x1]⟩
  refine ⟨by rw [e1, e2]; exact hrm, hF', ?_, ?_⟩
  · show (u2 S.2.1 q.ei (q.ni - 1) none) 0 0 = _
    rw [u2_row (by omega)]
    exact hC.2.1
  refine hC.2.2.inj hC.F n1 n2 hk ?_ ?_ ?_ (fun i a b => hw i (by omega) b) ?_
  · obtain ⟨l1, l2, l3, l4, l5, l6, l7⟩ := hC.cap.2
    have hne : q.li ≠ q.ei := by
      intro e
      rw [e] at l1
      rw [l1] at l3
      exact absurd (congrArg Prod.fst (Option.some.inj l3)) (show ¬ (16 : Nat) = 58 by decide)
    refine ⟨l1, (congrFun (u2_row hne) 1).trans l2, l3, dI_at, by omega, fun i hi => (u2_ne (by omega)).trans (l6 i (by omega)), fun i hi hj => ?_⟩
    by_cases e : i = q.ni - 1
    · subst e
      exact u2_at
    · exact (u2_ne (fun z => e z.2)).trans (l7 i hi (by omega))
  · obtain ⟨-, -, -, -, -, -, -, -, -, -, c2, -⟩ := hC
    exact c2
  · intro i hi
    obtain ⟨i1, i2⟩ := hC.inj (i := i) (by omega)
    have hrI := adr_of hC.F (by decide) i1
    obtain ⟨k1, k2, k3⟩ := hk _ _ i1 hrI (fun z => absurd z.2 (by decide)) (fun z => absurd z.2 (by decide))
    exact ⟨k1, fun f hf => by rw [k3, hw _ (by omega) (by omega)]; exact i2 f hf⟩
  · exact hWF.row2 hb (fun i a b => hw i (by omega) b) h6 ⟨by omega, by omega, by omega⟩ (fun i hi => (hWF.injs (by omega)).cong (fun f hf => hw _ (by omega) (by omega)))
/-- the greatest and how many are not caught -/
def mkC (x : Int32) (d : Dt) : Dt := dI (dI d 0 34 (imax (d.1 0 34) x)) 0 35 (d.1 0 35 + if ¬ x = -1 then 0 else 1)
def mkM (x : Int32) (d : Dt) : Dt := dI (dI (dI d 0 27 0) 0 60 (imax (d.1 0 60) x)) 0 61 (d.1 0 61 + if ¬ x = -1 then 0 else 1)
theorem marks_eq {x : Int32} (hF : WsFix S) : Ws_marks 0 x S d = some ((), mkC x d) := by
  unfold Ws_marks Ws_marks_b27 mkC
  rw [Ws_K hF, Option.bind_some, Option.bind_some, Option.bind_some, Option.bind_some, dI_nk (by omega)]
theorem mkC_v {x : Int32} : (∀ a, a ≠ 0 → (mkC x d).1 a = d.1 a) ∧ (∀ j, j ≠ 34 → j ≠ 35 → (mkC x d).1 0 j = d.1 0 j) ∧ (mkC x d).1 0 34 = imax (d.1 0 34) x ∧ (mkC x d).1 0 35 = d.1 0 35 + if ¬ x = -1 then 0 else 1 := by
  unfold mkC
  exact ⟨fun a ha => by rw [dI_ne ha, dI_ne ha], fun j h1 h2 => by rw [dI_nk (by omega), dI_nk (by omega)], by rw [dI_nk (by omega), dI_at], dI_at⟩
theorem mkM_v {x : Int32} : (∀ a, a ≠ 0 → (mkM x d).1 a = d.1 a) ∧ (∀ j, j ≠ 27 → j ≠ 60 → j ≠ 61 → (mkM x d).1 0 j = d.1 0 j) ∧ (mkM x d).1 0 60 = imax (d.1 0 60) x ∧ (mkM x d).1 0 61 = d.1 0 61 + if ¬ x = -1 then 0 else 1 := by
  unfold mkM
  exact ⟨fun a ha => by rw [dI_ne ha, dI_ne ha, dI_ne ha], fun j h1 h2 h3 => by rw [dI_nk (by omega), dI_nk (by omega), dI_nk (by omega)], by rw [dI_nk (by omega), dI_at], dI_at⟩
/-- where both stand between two tries -/
def Try (n0 : Nat) (q0 : TdP) (m0 : Dt) (c s : Nat) (S0 : Sp) (S : Sp) (d m : Dt) : Prop := WsFix S ∧ (S.2.2.1 ≤ S0.2.2.1 + c ∧ S.2.2.2 ≤ S0.2.2.2 + s ∧ S.1.length + S0.2.2.1 ≤ S.2.2.1 + S0.1.length) ∧ (d.1 0 34 = m.1 0 60 ∧ d.1 0 35 = m.1 0 61) ∧ (∀ i, i < 106 → mw m i = mw m0 i) ∧ ∃ q, RelN S d m q ∧ q.nt = q0.nt ∧ q.nd = q0.nd
theorem try_step {n0 c s : Nat} {q0 : TdP} {m0 : Dt} {S0 : Sp} (h : Try n0 q0 m0 c s S0 S d m) {t kd j : Nat} {N : Int32} (ht : t < q0.nt) (hk : kd ≤ 4) (hj : j ≤ 50) (hN : (kd = 4 ∧ N = -1) ∨ kd < 4 ∧ ∃ nn, nn < q0.nd t ∧ N = nI nn) : ∃ S' d' m', (∀ k43 k52 v3 v4 v5 v6, ((isK S 0 (some 0)).bind fun z13 => (isK S 1 (S.2.1 z13 0)).bind fun z14 => bind2 (some (mmNew S (13, 0) 5, mmNewD S d)) fun S15 d16 => Ws_tries_b85 0 (nI t) (nI kd) k43 k52 v3 v4 v5 v6 N (nI j) (nI t) (nI kd) (some S.1.length) (some S.1.length) (S.2.1 z14 1) S15 d16) = k52 v3 v4 v5 (v6 + 1) S' d') ∧ Mo_extra 0 (nI kd) (nI t) (nI j) N MoS m = some ((), m') ∧ Try n0 q0 m0 (c + 5) (s + 50) S0 S' d' m' := by
  obtain ⟨hF, ⟨c1, c2, c3⟩, ⟨g1, g2⟩, hrow, q, hR, hnt, hnd⟩ := h
  have hC := hR.ce hF
  have hni := hC.ni18
  have hl := Ws_len hF
  have hna : q.na ≤ 10 := hR.2.2.1.2.2
  have hs1 : q.li ≠ q.lt := hR.2.2.1.1
  have hs2 : q.ei ≠ q.et := hR.2.2.1.2.1
  have h5 := hC.nt5
  have hb := hC.brd (by omega)
  obtain ⟨-, -, ⟨w5, w6, u1, uu, u3⟩, -⟩ := hC.wf
  have hN18 : q.ni ≤ 18 := by
    have y1 : q.ni - q.na ≤ 8 := uu
    omega
  obtain ⟨B, hB⟩ : ∃ B, B = 106 + 5 * q.ni := ⟨_, rfl⟩
  have hB2 : (106 : Int32) + 5 * nI q.ni = nI B := by rw [nlit, nlit, nI_mul, nI_add, hB]
  obtain ⟨m1, hm1⟩ : ∃ m1, m1 = inw (dI (tld m (-1)) 0 27 1) B (nI kd) (nI t) (nI j) N 1 := ⟨_, rfl⟩
  obtain ⟨i1, i2, i3, i4, i5, i6, i7⟩ := inw_v (m := dI (tld m (-1)) 0 27 1) (N := B) (g0 := nI kd) (g1 := nI t) (g2 := nI j) (g3 := N) (g4 := 1)
  rw [← hm1] at i1 i2 i3 i4 i5 i6 i7
  obtain ⟨v1, v2, v3, v4, v5, v6⟩ := tld_v (m := m) (x := -1)
  have r1 : ∀ a, a ≠ 0 → a ≠ 1 → m1.1 a = m.1 a := fun a h0 h1 => by rw [i1 a h1, dI_ne h0, v1 a h0]
  have r11 : ∀ i, i < B ∨ B + 5 ≤ i → m1.1 1 i = m.1 1 i := fun i hi => by rw [i2 i hi, dI_ne (by omega), v1 1 (by omega)]
  have r0 : ∀ i, i ≠ 23 → i ≠ 24 → i ≠ 27 → m1.1 0 i = m.1 0 i := fun i a1 a2 a3 => by rw [i1 0 (by omega), dI_nk (by omega), v5 i a1 a2 a3]
  have r23 : m1.1 0 23 = -1 := by rw [i1 0 (by omega), dI_nk (by omega)]; exact v2
  have r24 : m1.1 0 24 = -1 := by rw [i1 0 (by omega), dI_nk (by omega)]; exact v3
  have r27 : m1.1 0 27 = 1 := by rw [i1 0 (by omega), dI_at]
  obtain ⟨w9, hw9⟩ : ∃ w9 : Nat → Int32, w9 = fun i => if i = 6 then nI (q.na + 1) else mw m1 i := ⟨_, rfl⟩
  have w9n : ∀ i, i ≠ 6 → w9 i = m1.1 1 i := fun i hi => by rw [hw9]; exact if_neg hi
  have w96 : w9 6 = nI (q.na + 1) := by rw [hw9]; exact if_pos rfl
  have hI : InjW w9 q.nw q.nt q.nd q.ni := by
    unfold InjW
    rw [← hB, w9n B (by omega), w9n (B + 1) (by omega), w9n (B + 2) (by omega), w9n (B + 3) (by omega), w9n (B + 4) (by omega), i3, i4, i5, i6, i7]
    refine Or.inr ⟨kd, t, j, 1, rfl, hk, rfl, by omega, rfl, hj, ?_, rfl, by omega, by omega⟩
    rw [hnd]
    exact hN
  obtain ⟨d20, S1, d1, ei, ci, s1, s2, s3, s4, s5, s6, s7⟩ := add_step (w' := w9) (g0 := nI kd) (g1 := nI t) (g2 := nI j) (g3 := N) (g4 := 1) hC hs1 hs2 hna hb (fun i h1 h2 => by rw [w9n i h2, r11 i (by omega)]) w96 (by rw [w9n _ (by omega), ← hB, i3]) (by rw [w9n _ (by omega), ← hB, i4]) (by rw [w9n _ (by omega), ← hB, i5]) (by rw [w9n _ (by omega), ← hB, i6]) (by rw [w9n _ (by omega), ← hB, i7]) hI
  have hreg := hC.reg
  obtain ⟨k1, k2, k3, k4, k5, k6, k7⟩ := s7
  have hF1 := s5.1
  have hl1 := Ws_len hF1
  have hlq := hC.2.2.lt
  -- the run
  have h0 : RE S1 (dI d1 0 28 (-1)) m1 w9 (q.wi ei ci (fun i => if i = q.ni then S.1.length else q.ij i) (q.ni + 1) (q.na + 1)) (opN (mw m)) (clN (mw m)) := by
    refine ⟨s5.go (Kp.rf.dI (by omega)), fun i hi => (w9n i hi).symm, ?_, ?_, fun x hx => ?_⟩
    · show (m1.1 1 5 + m1.1 1 6) + m1.1 0 27 = nI (q.ni + 1)
      rw [r11 5 (by omega), r11 6 (by omega), r27, show m.1 1 5 + m.1 1 6 = nI q.ni from hC.wf.many, nI_1]
    · rw [dI_at, r23]
    · have hx' : x < q.nt := hx
      obtain ⟨o1, o2⟩ := (RelN_iff.mp hR).2 x hx'
      obtain ⟨y1, y2, y3, y4, y5⟩ := hC.win hx'
      rw [dI_ne (show (25 : Nat) ≠ 0 by omega), dI_ne (show (26 : Nat) ≠ 0 by omega), k3 25 (by omega) (by omega), k3 26 (by omega) (by omega), r24, if_pos (m1_pos (by omega)), if_pos (m1_pos (by omega))]
      refine ⟨o1.trans y1, o2.trans y2, ?_, ?_, y3, y4⟩
      · show m1.1 1 _ = _
        rw [r11 _ (by omega)]; exact y1
      · show m1.1 1 _ = _
        rw [r11 _ (by omega)]; exact y2
  have hb9 : ¬ w9 7 ≤ 0 := by
    rw [w9n 7 (by omega), r11 7 (by omega)]; exact hb
  obtain ⟨S2, f1, f2, H, r, b, h9, t1, t2, t3, t4, t5, t6, t7, t8⟩ := all_gen h0 hb9
  have hBS := t6.1
  obtain ⟨b1, b2, b3, b4⟩ := hBS
  have hKC := t6.2.1.1
  have hKM := t6.2.1.2
  have hb3 : b ≤ 3 := (RT.bdr t6).1
  obtain ⟨x, x1, x2⟩ := caughtOf_eq (i := q.ni) s5 (show q.ni < q.ni + 1 by omega) t3 b1 t8 (RT.str t6) (RT.rcr t6) t7
  have hF2 : WsFix S2 := t8.C.F
  obtain ⟨f3, hf3⟩ : ∃ f3, f3 = mkC x f1 := ⟨_, rfl⟩
  obtain ⟨mc1, mc2, mc3, mc4⟩ := mkC_v (d := f1) (x := x)
  rw [← hf3] at mc1 mc2 mc3 mc4
  have hC3 : CE S2 f3 w9 (q.wi ei ci (fun i => if i = q.ni then S.1.length else q.ij i) (q.ni + 1) (q.na + 1)) := t8.C.go (fun a ha hr => mc1 a (by omega))
  obtain ⟨m4, hm4⟩ : ∃ m4, m4 = mkM x f2 := ⟨_, rfl⟩
  obtain ⟨mm1, mm2, mm3, mm4⟩ := mkM_v (d := f2) (x := x)
  rw [← hm4] at mm1 mm2 mm3 mm4
  have q1 : ∀ i, m4.1 1 i = m1.1 1 i := fun i => by rw [mm1 1 (by omega), hKM.1 1 (by omega) (by omega)]
  have hei : ei ≠ q.et := by
    rcases s6 with z | z
    · rw [z]; exact hs2
    · omega
  obtain ⟨y1, y2⟩ := rm_td (w' := mw m4) hC3 hs1 hei (show 0 < q.ni + 1 by omega) (show 0 < q.na + 1 by omega) hb9 (fun i h1 h2 => by show m4.1 1 i = _; rw [q1, w9n i h2]) (by
    show m4.1 1 6 = nI (q.na + 1 - 1)
    rw [q1, r11 6 (by omega), Nat.add_sub_cancel]
    exact w6)
  have y1' : Jl_remove q.li (nI (q.ni + 1) - 1) S2 f3 = some (some (if q.ni + 1 - 1 = q.ni then S.1.length else q.ij (q.ni + 1 - 1)), sR S2 ei (q.ni + 1 - 1) none, dI (dI f3 q.li 0 (f3.1 q.li 0 + 1)) q.li 2 (nI (q.ni + 1 - 1))) := y1
  obtain ⟨S3, hS3⟩ : ∃ S3, S3 = sR S2 ei (q.ni + 1 - 1) none := ⟨_, rfl⟩
  obtain ⟨d3, hd3⟩ : ∃ d3, d3 = dI (dI f3 q.li 0 (f3.1 q.li 0 + 1)) q.li 2 (nI (q.ni + 1 - 1)) := ⟨_, rfl⟩
  have y2' : CE S3 d3 (mw m4) (q.wi ei ci (fun i => if i = q.ni then S.1.length else q.ij i) q.ni q.na) := by
    rw [hS3, hd3]; exact y2
  have p3 : ∀ a, a ≠ q.li → d3.1 a = f3.1 a := fun a ha => by rw [hd3, dI_ne ha, dI_ne ha]
  have pd : ∀ a, a < S.1.length → (1 ≤ a ∧ a < 13) ∨ a = 25 ∨ a = 26 ∨ 35 ≤ a → a ≠ q.li → d3.1 a = d.1 a := fun a h1 h2 h3 => by
    rw [p3 a h3, mc1 a (by omega), hKC.1 a (by omega) h2, dI_ne (by omega), k3 a h1 h3]
  have pd0 : ∀ k, k < 24 → d3.1 0 k = d.1 0 k := fun k hk => by
    rw [p3 0 (by omega), mc2 k (by omega) (by omega), hKC.2 k (by omega), dI_nk (by omega), k3 0 (by omega) (by omega)]
  have ps : ∀ a, a < S.1.length → a ≠ q.li → a ≠ q.ei → S3.2.1 a = S.2.1 a := fun a h1 h2 h3 => by
    rw [hS3]
    show (u2 S2.2.1 ei (q.ni + 1 - 1) none) a = _
    rw [u2_row (by omega), b1.2.1 a (by omega), k2 a h1 h2 h3]
  have psh : ∀ a, a < S.1.length → S3.1[a]? = S.1[a]? := fun a h1 => by
    rw [hS3]
    show S2.1[a]? = _
    rw [b1.1 a (by omega), k1 a h1]
  have hf34 : f1.1 0 34 = d.1 0 34 ∧ f1.1 0 35 = d.1 0 35 := by
    rw [hKC.2 34 (by omega), hKC.2 35 (by omega), dI_nk (by omega), dI_nk (by omega), k3 0 (by omega) (by omega)]
    exact ⟨rfl, rfl⟩
  have hf60 : f2.1 0 60 = m.1 0 60 ∧ f2.1 0 61 = m.1 0 61 := by
    rw [hKM.2 60 (by omega), hKM.2 61 (by omega), r0 60 (by omega) (by omega) (by omega), r0 61 (by omega) (by omega) (by omega)]
    exact ⟨rfl, rfl⟩
  refine ⟨S3, d3, m4, fun k43 k52 v3 v4 v5 v6 => ?_, ?_, y2'.1, ⟨?_, ?_, ?_⟩, ⟨?_, ?_⟩, fun i hi => ?_, ?_⟩
  · have hj1 : Jl_size q.li S1 d1 = some (nI (q.ni + 1)) := s5.injs
    have hj2 : isK S1 16 (S1.2.1 q.a 1) = some q.li := s5.kM
    have hj3 : isK S1 1 (S1.2.1 0 0) = some q.a := s5.T
    have hj4 : Jl_size q.li S2 f3 = some (nI (q.ni + 1)) := hC3.injs
    have hj5 : isK S2 16 (S2.2.1 q.a 1) = some q.li := hC3.kM
    have hj6 : isK S2 1 (S2.2.1 0 0) = some q.a := hC3.T
    rw [hC.K, Option.bind_some, hC.T, Option.bind_some, bind2_some]
    unfold Ws_tries_b85
    rw [s1, Option.bind_some, s2, bind2_some, s3, Option.bind_some, s4, bind3_some, Ws_K hF1, Option.bind_some, hj3, Option.bind_some, hj2, Option.bind_some, hj1, Option.bind_some, nI_pred, x1, bind3_some, Ws_K hF2, Option.bind_some, marks_eq hF2, bind2_some, ← hf3, hj6, Option.bind_some, hj5, Option.bind_some, hj4, Option.bind_some, y1', bind3_some, ← hS3, ← hd3]
  · unfold Mo_extra Mo_extra_b123
    have hm5 : inw (dI (tld m (-1)) 0 27 1) B (nI kd) (nI t) (nI j) N 1 = m1 := hm1.symm
    have e0 : aix MoS 50 (MoS.2.1 0 1) 0 = some (1, 0) := Mw 0 (by omega)
    have hw0 : m1.1 1 0 = w9 0 := (w9n 0 (by omega)).symm
    have hmany : Mo_many 0 MoS f2 = some (nI q.ni) := by
      rw [Mo_many_eq]
      show some (f2.1 1 5 + f2.1 1 6) = _
      rw [hKM.1 1 (by omega) (by omega), r11 5 (by omega), r11 6 (by omega), show m.1 1 5 + m.1 1 6 = nI q.ni from hC.wf.many]
    rw [Mo_K, Option.bind_some, Mo_many_eq, Option.bind_some, hC.wf.many, Option.bind_some, hB2, asTold_eq, bind2_some, Option.bind_some, Mw B (by omega), Option.bind_some, Option.bind_some, nI_1, Mw (B + 1) (by omega), Option.bind_some, Option.bind_some, show nI B + 2 = nI (B + 2) from nI_add B 2, Mw (B + 2) (by omega), Option.bind_some, Option.bind_some, show nI B + 3 = nI (B + 3) from nI_add B 3, Mw (B + 3) (by omega), Option.bind_some, Option.bind_some, show nI B + 4 = nI (B + 4) from nI_add B 4, Mw (B + 4) (by omega), Option.bind_some, Option.bind_some, e0, Option.bind_some]
    show (bind2 (Mo_runs 0 ((inw (dI (tld m (-1)) 0 27 1) B (nI kd) (nI t) (nI j) N 1).1 1 0) MoS (inw (dI (tld m (-1)) 0 27 1) B (nI kd) (nI t) (nI j) N 1)) fun _ d17 => _) = _
    rw [hm5, hw0, t4, bind2_some, hmany, Option.bind_some, x2, Option.bind_some, Option.bind_some, Option.bind_some, Option.bind_some, hm4]
    unfold mkM
    rw [dI_nk (by omega), dI_nk (by omega), dI_nk (by omega), Option.bind_some]
  · rw [hS3]; show S2.2.2.1 ≤ _; omega
  · rw [hS3]; show S2.2.2.2 ≤ _; omega
  · rw [hS3]; show S2.1.length + _ ≤ S2.2.2.1 + _; omega
  · rw [p3 0 (by omega), mc3, mm3, hf34.1, hf60.1, g1]
  · rw [p3 0 (by omega), mc4, mm4, hf34.2, hf60.2, g2]
  · show m4.1 1 i = _
    rw [q1, r11 i (by omega)]
    exact hrow i hi
  · refine ⟨q.wi ei ci (fun i => if i = q.ni then S.1.length else q.ij i) q.ni q.na, ?_, hnt, hnd⟩
    obtain ⟨m5, hm5⟩ : ∃ m5 : Dt, m5 = (fun a => if a = 0 then m4.1 0 else m.1 a, m.2) := ⟨_, rfl⟩
    have z5 : ∀ a, a ≠ 0 → m5.1 a = m.1 a := fun a ha => by rw [hm5]; exact if_neg ha
    have z50 : m5.1 0 = m4.1 0 := by rw [hm5]; show (if (0 : Nat) = 0 then m4.1 0 else m.1 0) = _; exact if_pos rfl
    have c0 : ∀ k, k < 23 → m4.1 0 k = m.1 0 k := fun k hk => by
      rw [mm2 k (by omega) (by omega) (by omega), hKM.2 k (by omega), r0 k (by omega) (by omega) (by omega)]
    have hk5 : Kt S d m S d m5 0 0 := ⟨Ext.rf, by omega, Kp.rf, Kc.rf, ⟨fun a h1 h2 => z5 a (by omega), by rw [z50, c0 5 (by omega)], by rw [z50, c0 12 (by omega)], by rw [z50, c0 13 (by omega)]⟩, rfl, rfl⟩
    have hR5 := hk5.relN hR hF
    refine hR5.inj hF y2'.2.2 s6 hna (fun a sh ha hr z1 z2 => ?_) (ps 0 (by omega) (by omega) (by omega)) (ps 7 (by omega) (by omega) (by omega)) (fun a h1 h2 => ?_) z50.symm ⟨pd 8 (by omega) (by omega) (by omega), fun k _ h2 => pd0 k (by omega)⟩ (pd 25 (by omega) (by omega) (by omega)) (pd 26 (by omega) (by omega) (by omega)) (fun i h1 h2 => ?_)
    · have hal := (List.getElem?_eq_some_iff.mp ha).1
      obtain ⟨l1, -, l3, -⟩ := hC.cap.2
      have a1 : a ≠ q.li := fun z => z1 ⟨z, by rw [z, l1] at ha; exact (Option.some.inj ha).symm⟩
      have a2 : a ≠ q.ei := fun z => z2 ⟨z, by rw [z, l3] at ha; rw [← Option.some.inj ha]⟩
      exact ⟨(psh a hal).trans ha, ps a hal a1 a2, pd a hal (by omega) a1⟩
    · rw [z5 a (by omega), mm1 a (by omega), hKM.1 a (by omega) (by omega), r1 a (by omega) (by omega)]
    · show m4.1 1 i = m5.1 1 i
      rw [q1, z5 1 (by omega), r11 i (by omega)]
end
