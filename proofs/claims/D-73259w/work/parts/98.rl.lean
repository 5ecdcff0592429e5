/-! READING: board -/
set_option maxRecDepth 100000
theorem PL_2_Rel : PL_2 Rel := by
  intro n S1 d1 S2 d2 hn hR
  have hR0 := hR
  obtain ⟨rfl, q, hF, hN, hC⟩ := rel_at hR
  obtain ⟨-, -, ⟨c1, c2, c3⟩, -⟩ := hR0
  have hl := Ws_len hF
  obtain ⟨a1, a2, ⟨s1, s2⟩, a4, ⟨tp, b1, b2, b3⟩, a6, a7, a8, a9, a10⟩ := hN
  have zlt := a2.lt
  obtain ⟨rd, hrd⟩ : ∃ rd, S1.1.length = rd := ⟨_, rfl⟩
  -- the model's beginning
  obtain ⟨M0, hM0⟩ : ∃ M0, M0 = dI (dI (dI (dI (dI d2 0 7 (d2.1 0 5)) 0 5 0) 0 8 0) 0 12 0) 0 13 (-1) := ⟨_, rfl⟩
  obtain ⟨M, m1, m2, m3⟩ := Mo_h30 (m := M0)
  have y0 : ∀ a, a ≠ 0 → a ≠ 6 → M.1 a = d2.1 a := fun a h0 h6 => by
    rw [m2 a h6, hM0, dI_ne h0, dI_ne h0, dI_ne h0, dI_ne h0, dI_ne h0]
  have e7 : M.1 0 7 = nI tp := by
    rw [m2 0 (by omega), hM0, dI_nk (by omega), dI_nk (by omega), dI_nk (by omega), dI_nk (by omega), dI_at]
    exact b3
  have e5 : M.1 0 5 = 0 := by
    rw [m2 0 (by omega), hM0, dI_nk (by omega), dI_nk (by omega), dI_nk (by omega), dI_at]
  have e8 : M.1 0 8 = 0 := by
    rw [m2 0 (by omega), hM0, dI_nk (by omega), dI_nk (by omega), dI_at]
  have e12 : M.1 0 12 = 0 := by
    rw [m2 0 (by omega), hM0, dI_nk (by omega), dI_at]
  have e13 : M.1 0 13 = -1 := by
    rw [m2 0 (by omega), hM0, dI_at]
  have hq : Mo_board 0 MoS d2 = bind2 (Mo_advance 0 MoS M) (fun _ d8 => Mo_board_h54 0 MoS FU d8) := by
    unfold Mo_board
    rw [Mo_K, Option.bind_some, Option.bind_some, Option.bind_some, Option.bind_some, Option.bind_some, Option.bind_some, ← hM0]
    exact m1
  -- a new Reading
  obtain ⟨T, e, i1, i2, i3, ⟨i4, i5, i6⟩, i7, ⟨i8, i9⟩, i10, i11, i12, i13⟩ := Re_init_ok (d := d1) hF hrd (fun _ => 0) (fun _ => 0) (p2 := nI tp)
  have hlx : Lx0 rd tp 0 e M := ⟨b1, Nat.zero_le _, i8, e7, i9 4 (by omega), e8, fun i hi => by rw [i7 8 (by omega), y0 4 (by omega) (by omega)]; exact a6 i hi⟩
  obtain ⟨d', m', a, tk, j1, j2, j3, j4, j5, j6⟩ := next_eq i2 hlx
  rw [j2, bind2_some] at hq
  have hRs : Rs S1 d1 M rd tp (8 + (3 * 0 + 0)) a tk T d' m' := by
    refine ⟨i2, j3, (j6.2.2.2 12 (by omega)).trans e12, (j6.2.2.2 13 (by omega)).trans e13, ⟨i3, by omega, fun b hb => (j6.1 b (by omega)).trans (i7 b (by omega)), fun b h0 h6 => j6.2.2.1 b h0, fun k hk => j6.2.2.2 k (by omega)⟩, by omega⟩
  have z6 : ∀ j, j < 201 → m'.1 6 j = 0 := fun j hj => (congrFun (j6.2.2.1 6 (by omega)) j).trans (m3 j hj)
  have hWP : WP (m'.1 6) 0 0 0 (fun _ => 0) := ⟨⟨z6 3 (by omega), by omega⟩, ⟨z6 4 (by omega), by omega⟩, ⟨z6 5 (by omega), by omega, z6 6 (by omega)⟩, fun v hv => absurd hv (by omega), fun v hv => absurd hv (by omega), fun v hv => absurd hv (by omega), fun t h1 h2 => z6 _ (by omega)⟩
  have hPT : PT T d' (m'.1 6) rd 0 0 0 (fun _ => 0) (fun _ => 0) (fun _ => 0) := by
    have r2 : ∀ j, d'.1 (rd + 2) j = 0 := fun j => (congrFun (j6.1 (rd + 2) (by omega)) j).trans (i10 j)
    obtain ⟨l1, l2, l3, l4, l5, l6, l7⟩ := i12
    obtain ⟨k1, k2, k3, k4, k5, k6, k7⟩ := i13
    refine ⟨i11, ⟨l1, l2, l3, by rw [j6.1 (rd + 3) (by omega)]; exact l4, l5, l6, l7⟩, ⟨k1, k2, k3, by rw [j6.1 (rd + 5) (by omega)]; exact k4, k5, k6, k7⟩, fun v hv => absurd hv (by omega), fun v hv => absurd hv (by omega), ⟨fun v hv => absurd hv (by omega), ?_, ?_, ?_, ?_, ?_, ?_⟩, hWP⟩
    · rw [r2, z6 0 (by omega)]
    · rw [r2, z6 1 (by omega)]
    · rw [r2, z6 2 (by omega)]
    · rw [r2, z6 3 (by omega)]
    · rw [r2, z6 5 (by omega)]
    · rw [r2, z6 7 (by omega)]
  have hHD : HD (m'.1 6) 0 0 0 0 := ⟨z6 7 (by omega), ⟨0, 0, 0, z6 0 (by omega), by omega, z6 1 (by omega), by omega, z6 2 (by omega), by omega, fun z => absurd z (by omega)⟩, fun _ => ⟨rfl, rfl, rfl⟩⟩
  have hE := reads_eq (S0 := S1) (d0 := d1) (m0 := M) (rd := rd) (sz := tp) (c0 := 8) tp T d' m' a tk 0 0 0 0 (fun _ => 0) (fun _ => 0) (fun _ => 0) FU FU hRs hPT hHD (by omega) (by omega) (show tp + 2 ≤ 10000 by omega) (show tp + 2 ≤ 10000 by omega)
  obtain ⟨o, ho⟩ : ∃ o, o = Ws_board 0 S1 d1 := ⟨_, rfl⟩
  rw [← ho, hq]
  have h10 : T.1[rd]? = some (10, 0) := i2.2.2.1
  have hF1 : WsFix (mmNew S1 (10, 0) 8) := hF.ext Ext.new
  have ep1 : (mmNew S1 (10, 0) 8).2.1 0 2 = some 8 := by rw [Ext.new.2.1 0 (by omega)]; exact hF.2.1 2 (by omega) (by omega)
  have ep2 : (mmNewD S1 d1).1 0 3 = nI tp := (congrFun (z2_row (show 0 ≠ S1.1.length by omega)) 3).trans b2
  unfold Ws_board at ho
  rw [bind2_some, Ws_K hF1, Option.bind_some, ep1, ep2, hrd, i1, j1, bind2_some, bind3_some, isK_of h10, Option.bind_some, show Re_reads rd T d' = Re_reads_h0 rd FU T d' from rfl] at ho
  rcases hE with ⟨z, S', f, g, r1, r2, ⟨⟨u1, u2', u3, u4, u5⟩, u6, u7, u8, u9, u10⟩⟩ | ⟨S', f, g, aq, tk', nw, nt, ni, nd, tks, ij, ln, r1, r2, r3, r4, r5, r6, r7⟩
  · -- a fault
    have hF' := hF.ext u1
    rw [r1, bindE_r] at ho
    unfold Ws_board_b53 at ho
    rw [isK_of u6, Option.bind_some, Ws_K hF', Option.bind_some, Option.bind_some, Option.bind_some, Option.bind_some, dI_ne (show z ≠ 0 by omega)] at ho
    obtain ⟨F, hFd⟩ : ∃ F, F = dI (dI (dI f 0 4 (f.1 z 6)) 0 5 (f.1 z 7)) 0 3 0 := ⟨_, rfl⟩
    rw [← hFd] at ho
    have k0 : ∀ b, b < S1.1.length → b ≠ 0 → F.1 b = d1.1 b := fun b hb h0 => by
      rw [hFd, dI_ne h0, dI_ne h0, dI_ne h0]
      exact u3 b hb
    have kp : Kp S1 d1 F := fun b hb hr => k0 b hb (by omega)
    have ew : mw g = mw d2 := (u4 1 (by omega) (by omega)).trans (y0 1 (by omega) (by omega))
    refine ⟨_, _, _, _, ho, r2, rfl, hF', ⟨?_, ?_, ?_⟩, q, ?_, ?_, ⟨s1, s2⟩, fun k hk => ?_, ⟨0, by omega, ?_, ?_⟩, fun i hi => ?_, ?_, ?_, ?_, fun t ht => ?_⟩
    · omega
    · omega
    · omega
    · rw [u1.2.1 0 (by omega)]
      exact a1
    · rw [ew]
      exact a2.go hF u1 kp
    · rw [(u4 3 (by omega) (by omega)).trans (y0 3 (by omega) (by omega)), (u4 2 (by omega) (by omega)).trans (y0 2 (by omega) (by omega)), u1.2.1 7 (by omega)]
      rcases a4 k hk with w1 | ⟨w1, v, w2, w3, w4⟩
      · exact Or.inl w1
      · exact Or.inr ⟨w1, v, w2, w3.go hF u1 kp, w4⟩
    · rw [hFd]; exact dI_at
    · exact (u5 5 (by omega)).trans e5
    · rw [k0 8 (by omega) (by omega), (u4 4 (by omega) (by omega)).trans (y0 4 (by omega) (by omega))]
      exact a6 i hi
    · rw [hFd, dI_nk (by omega), dI_nk (by omega), dI_at]
      exact u8
    · rw [hFd, dI_nk (by omega), dI_at]
      exact u9
    · rw [hFd, dI_nk (by omega), dI_nk (by omega), dI_nk (by omega), u3 0 (by omega)]
      exact a9
    · rw [ew, k0 25 (by omega) (by omega), k0 26 (by omega) (by omega)]
      exact a10 t ht
  · -- all is read
    obtain ⟨q1, q2, q3, q4, ⟨u1, u2', u3, u4, u5⟩, q6⟩ := r3
    have hF' := hF.ext u1
    have hF'' : WsFix (sR S' 0 0 (some (rd + 2))) := fix_s7 hF' (Or.inr ⟨rfl, rfl⟩)
    obtain ⟨G, v1, v2, v3⟩ := Mo_h143 (m := g) q3
    have hk23 : 3 * nt + ni ≤ 23 := by
      have := r4.wp.2.1.2
      have := r4.wp.2.2.1.2.1
      omega
    have hTd := (r4.told (by omega) r5 r6 r7).sR hF' (v := 0) (k := 0) (o := some (rd + 2)) (Or.inl rfl)
    obtain ⟨qn, hqn⟩ : ∃ qn : TdP, qn = ((rd + 2, rd + 3, rd + 4, 5, rd + 5, rd + 6, 18, rd + 7), tks, ij, (nw, nt, ni, 0), nd) := ⟨_, rfl⟩
    rw [← hqn] at hTd
    have hCE : CE (sR S' 0 0 (some (rd + 2))) f (g.1 6) qn := ⟨hF'', by rw [hqn]; exact (u2_at : u2 S'.2.1 0 0 (some (rd + 2)) 0 0 = some (rd + 2)), hTd⟩
    obtain ⟨f2, x1, x2, x3⟩ := hCE.lays
    have x9 : f2.1 (rd + 2) 8 = nI ln := by
      rw [x2 (rd + 2) (by omega) (by omega)]
      exact r4.pf.2.2.2.2.2.2.trans r5.1
    have hk1 : isK (sR S' 0 0 (some (rd + 2))) 1 (some (rd + 2)) = some (rd + 2) := isK_of r4.1.1
    rw [r1, bindE_l, Ws_K hF', Option.bind_some, Option.bind_some, Ws_K hF'', Option.bind_some, x1, bind2_some, Option.bind_some, Option.bind_some, show (sR S' 0 0 (some (rd + 2))).2.1 0 0 = some (rd + 2) from (u2_at : u2 S'.2.1 0 0 (some (rd + 2)) 0 0 = some (rd + 2)), hk1, Option.bind_some, Option.bind_some, Option.bind_some, dI_ne (show rd + 2 ≠ 0 by omega), dI_ne (show rd + 2 ≠ 0 by omega), x9] at ho
    obtain ⟨F, hFd⟩ : ∃ F, F = dI (dI (dI f2 0 4 0) 0 5 (-1)) 0 3 0 := ⟨_, rfl⟩
    rw [← hFd] at ho
    rw [r5.1] at v1
    have k1 : ∀ b, b ≠ 0 → F.1 b = f2.1 b := fun b h0 => by rw [hFd, dI_ne h0, dI_ne h0, dI_ne h0]
    have k0 : ∀ b, b < S1.1.length → b ≠ 0 → b ≠ 25 → b ≠ 26 → F.1 b = d1.1 b := fun b hb h0 h25 h26 => by
      rw [k1 b h0, x2 b h25 h26]
      exact u3 b hb
    have kp : Kp S1 d1 F := fun b hb hr => k0 b hb (by omega) (by omega) (by omega)
    have kp2 : Kp (sR S' 0 0 (some (rd + 2))) f F := fun b hb hr => (k1 b (by omega)).trans (x2 b (by omega) (by omega))
    have y9 : ∀ a, a ≠ 0 → a ≠ 1 → a ≠ 6 → G.1 a = d2.1 a := fun a h0 h1 h6 => (v2 a h1).trans ((u4 a h0 h6).trans (y0 a h0 h6))
    refine ⟨_, _, _, _, ho, r2.trans v1, rfl, hF'', ⟨?_, ?_, ?_⟩, qn, ?_, ?_, ⟨?_, ?_, ?_⟩, fun k hk => ?_, ⟨0, by omega, ?_, ?_⟩, fun i hi => ?_, ?_, ?_, ?_, fun t ht => ?_⟩
    · show S'.2.2.1 ≤ _
      omega
    · show S'.2.2.2 ≤ _
      omega
    · show S'.1.length ≤ S'.2.2.1
      omega
    · rw [hqn]; exact (u2_at : u2 S'.2.1 0 0 (some (rd + 2)) 0 0 = some (rd + 2))
    · exact (hTd.go hF'' Ext.rf kp2).cong (fun i hi => v3 i hi)
    · rw [hqn]
      show rd + 5 ≠ rd + 3
      omega
    · rw [hqn]
      show rd + 6 ≠ rd + 4
      omega
    · rw [hqn]
      exact Nat.zero_le 10
    · have er : (sR S' 0 0 (some (rd + 2))).2.1 7 k = S1.2.1 7 k := by
        show u2 S'.2.1 0 0 (some (rd + 2)) 7 k = _
        rw [u2_ne (by omega), u1.2.1 7 (by omega)]
      rw [y9 3 (by omega) (by omega) (by omega), y9 2 (by omega) (by omega) (by omega), er]
      rcases a4 k hk with w1 | ⟨w1, v, w2, w3, w4⟩
      · exact Or.inl w1
      · have zv := w3.lt
        refine Or.inr ⟨w1, v, w2, (w3.go hF u1 kp).sR hF' (Or.inl rfl), ?_, ?_, ?_, ?_, w4.2.2.2.2⟩
        · rw [hqn]
          show rd + 5 ≠ v.lt
          have := zv.1
          omega
        · rw [hqn]
          show rd + 5 ≠ v.li
          have := zv.2.1
          omega
        · rw [hqn]
          show rd + 6 ≠ v.et
          have := zv.2.2.1
          omega
        · rw [hqn]
          show rd + 6 ≠ v.ei
          have := zv.2.2.2.1
          omega
    · rw [hFd]; exact dI_at
    · rw [v2 0 (by omega)]
      exact (u5 5 (by omega)).trans e5
    · rw [k0 8 (by omega) (by omega) (by omega) (by omega), y9 4 (by omega) (by omega) (by omega)]
      exact a6 i hi
    · rw [hFd, dI_nk (by omega), dI_nk (by omega), dI_at, v2 0 (by omega)]
      exact q3.symm
    · rw [hFd, dI_nk (by omega), dI_at, v2 0 (by omega)]
      exact q4.symm
    · rw [hFd, dI_nk (by omega), dI_nk (by omega), dI_nk (by omega), x2 0 (by omega) (by omega), u3 0 (by omega)]
      exact a9
    · have ht5 : t < 5 := by
        have := r4.wp.2.1.2
        rw [hqn] at ht
        exact Nat.lt_of_lt_of_le ht this
      obtain ⟨w1, w2⟩ := x3 t (by rw [hqn] at ht ⊢; exact ht)
      rw [k1 25 (by omega), k1 26 (by omega)]
      show f2.1 25 t = G.1 1 _ ∧ f2.1 26 t = G.1 1 _
      rw [w1, w2, v3 _ (by omega), v3 _ (by omega)]
      exact ⟨rfl, rfl⟩
