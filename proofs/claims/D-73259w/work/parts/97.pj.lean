/-! THE RUN: who works, and what comes of it -/
set_option maxRecDepth 100000
section
variable {w : Nat → Int32} {q : TdP} {u k kh kg r b t z : Nat} {kj : Nat → Nat} {S0 S S' : Sp} {d0 m0 d e f e1 e2 f1 f2 g1 g2 : Dt} {op cl : Nat → Nat} {W : Int32} {F0 : Int32 × (Nat → Int32)} {P V P' V' : Nat → Prop} {p1 p2 p3 : Int32}
theorem bE_id {o : Option ((Unit ⊕ Nat) × Sp × Dt)} : bindE o (fun v9 S9 d9 => some (Sum.inr v9, S9, d9)) (fun _ S9 d10 => some (.inl (()), S9, d10)) = o := by
  cases o with
  | none => rfl
  | some a =>
    obtain ⟨a1, a2, a3⟩ := a
    cases a1 <;> rfl
theorem b2_id {o : Option (Unit × Dt)} : bind2 o (fun _ d => some ((), d)) = o := by
  cases o with
  | none => rfl
  | some a => rfl
theorem CE.uni (h : CE S d w q) (ht : t < q.nt) {n : Nat} (hn : n < q.nd t) : ∃ x, aix S 50 (S.2.1 (q.tk t) 6) (nI n) = some (x, n) ∧ d.1 x n = w (46 + 2 * (6 * t + n)) ∧ x ≠ 30 + t := by
  have h5 := h.nt5
  obtain ⟨-, -, -, -, a5, u, b, s6, -, su, -, hu, -⟩ := h.task ht
  refine ⟨u, by rw [s6]; exact aix_nI su (by omega) (by omega), hu n hn, fun z => ?_⟩
  have h8 := cl_K h.F (show t < 5 by omega)
  rw [← z] at h8
  unfold isK at h8
  rw [Option.bind_some, su] at h8
  exact absurd h8 (by simp)
/-- one tick of work -/
theorem work1 (h : RT S0 d0 m0 w q W F0 99 k kh kj kg r b S e1 e2) (h0 : RE S0 d0 m0 w q op cl) (hk : k < 200) (hb : b < 3) (hr : r < 3000) (hkg : kg < 200) (ht : t < q.nt) {j n : Nat} (hgo : e1.1 (30 + t) 0 = 1) (hj : e1.1 (30 + t) 2 = nI j) (hj2 : e2.1 15 t = nI j) (hj9 : j < 2 ^ 31) (hn : n < q.nd t) (hn1 : e1.1 (30 + t) 3 = nI n) (hn2 : e2.1 17 t = nI n) (hdn : e1.1 (30 + t) 4 = e2.1 18 t) {x : Int32} (hx : Mo_changeAt 0 (nI t) (nI n) MoS e2 = some x) : OutB S0 d0 m0 w q W F0 99 k kh kj (kg + 1) (r + 1) b S e1 e2 (Ws_works_2 0 (nI t) (some (30 + t)) x S e1) (Mo_works 0 (nI t) (nI k) MoS e2) := by
  have hR := h.re h0
  have hC := hR.C
  have h5 := hC.nt5
  have ht5 : t < 5 := by omega
  have htf := hC.tf ht
  obtain ⟨z, hz⟩ : ∃ z, z = 30 + t := ⟨_, rfl⟩
  have hzK : isK S 8 (some z) = some z := by rw [hz]; exact cl_K hC.F ht5
  have hl35 := Ws_len h0.C.F
  rw [← hz] at hgo hj hn1 hdn ⊢
  obtain ⟨x1, u1, u2, u3⟩ := hC.uni ht hn
  obtain ⟨D, hD⟩ : ∃ D, D = e1.1 z 4 + 1 := ⟨_, rfl⟩
  obtain ⟨d2, hd2⟩ : ∃ d2, d2 = dI e1 z 4 D := ⟨_, rfl⟩
  obtain ⟨m2, hm2⟩ : ∃ m2, m2 = dI e2 18 t D := ⟨_, rfl⟩
  have v1 : ∀ v, v ≠ z → d2.1 v = e1.1 v := fun v hv => by rw [hd2, dI_ne hv]
  have v2 : ∀ f, f ≠ 4 → d2.1 z f = e1.1 z f := fun f h1 => by rw [hd2, dI_nk (by omega)]
  have v4 : d2.1 z 4 = D := by rw [hd2, dI_at]
  have vF : d2.2 = e1.2 := by rw [hd2]
  have n1 : ∀ v, v ≠ 18 → m2.1 v = e2.1 v := fun v hv => by rw [hm2, dI_ne hv]
  have n4 : m2.1 18 t = D := by rw [hm2, dI_at]
  have nt : ∀ s, s ≠ t → m2.1 18 s = e2.1 18 s := fun s hs => by rw [hm2, dI_nk (by omega)]
  have nF : m2.2 = e2.2 := by rw [hm2]
  have hrt2 : RT S0 d0 m0 w q W F0 99 k kh kj kg r b S d2 m2 := by
    obtain ⟨q1, q2, q3, q4, q5, q6, q7, q8, q9, q10, q11⟩ := h
    refine RT.lives (u' := 99) ⟨q1, q2, q3, q4, q5, q6, q7, q8, q9, q10, q11⟩ (q2.1.by (fun v h1 h2 => v1 v (by omega)) (fun f hf => by rw [v1 0 (by omega)])) (q2.2.by (fun v h1 h2 => n1 v (by omega)) (fun f hf => by rw [n1 0 (by omega)])) (fun s hs => ?_) (q6.go (v1 27 (by omega)) (n1 33 (by omega))) (fun f h1 h2 => by rw [v1 0 (by omega)]) (fun v h1 h2 h3 => v1 v (by omega)) (fun f h1 h2 h3 => by rw [n1 0 (by omega)]) (fun v h1 h2 h3 h4 h5 h6 => n1 v (by omega))
    by_cases c9 : s = t
    · subst c9
      refine (q4 s hs).goes (by rw [vF]) (by rw [vF]) nF (Or.inr ⟨?_, ?_, ?_, ⟨n, hn, ?_, ?_⟩, ?_⟩) (fun f h1 h2 h3 h4 h5 => by rw [← hz]; exact v2 f h4) (by rw [← hz]; exact v2 7 (by omega)) (fun p h1 h2 h3 h4 => by rw [n1 p h3])
      · rw [← hz]; exact v2 0 (by omega)
      · rw [← hz]; exact v2 2 (by omega)
      · rw [n1 15 (by omega)]
      · rw [← hz, v2 3 (by omega)]; exact hn1
      · rw [n1 17 (by omega)]; exact hn2
      · rw [← hz, v4, n4]
    · exact (q4 s hs).same (v1 (30 + s) (by omega)) (by rw [vF]) (by rw [vF]) (fun p h1 h2 => by
        by_cases c8 : p = 18
        · subst c8; exact nt s c9
        · rw [n1 p c8]) (by rw [nF]) (by rw [nF]) (by rw [nF])
  have hR2 := hrt2.re h0
  have hC2 := hR2.C
  have hunit : Mo_unitsOf 0 (nI t) (nI n) MoS m2 = some (w (46 + 2 * (6 * t + n))) := by
    rw [Mo_unitsOf_eq (by omega) (by omega), hR2.row (by omega)]
  have hbase : ∀ {kg' r'} {o : Option ((Unit ⊕ Nat) × Sp × Dt)} {p : Option (Unit × Dt)}, OutB S0 d0 m0 w q W F0 99 k kh kj kg' r' b S d2 m2 o p → OutB S0 d0 m0 w q W F0 99 k kh kj kg' r' b S e1 e2 o p := by
    rintro kg' r' o p ⟨r1, y0, f1, f2, y1, y2, y3, y4⟩
    exact ⟨r1, y0, f1, f2, y1, y2.trans (v1 20 (by omega)), y3.trans (n1 36 (by omega)), y4.imp (fun ⟨z1, z2, z3⟩ => ⟨z1, z2, z3.trans (by rw [n1 0 (by omega)])⟩) id⟩
  have hnx := hC2.next ht hn hj9
  have hkick := kick_eq hrt2 h0 hk hb hr hkg ht (j := j) (n := n) (by rw [← hz, v2 0 (by omega)]; exact hgo) (by rw [← hz, v2 2 (by omega)]; exact hj) (by rw [n1 15 (by omega)]; exact hj2) hn (by rw [n1 17 (by omega)]; exact hn2)
  refine hbase ?_
  have hstay : OutB S0 d0 m0 w q W F0 99 k kh kj (kg + 1) (r + 1) b S d2 m2 (some (.inl (), S, d2)) (some ((), m2)) := ⟨r, by omega, d2, m2, rfl, rfl, rfl, Or.inl ⟨rfl, hrt2.up (fun _ _ => Nat.le_refl _) (by omega), rfl⟩⟩
  unfold Ws_works_2 Mo_works
  rw [hzK, Option.bind_some, ← hD, ← hd2, Option.bind_some, hC.K, Option.bind_some, hC2.taskOf ht, Option.bind_some, hC2.tK ht, Option.bind_some, v2 3 (by omega), hn1, u1, Option.bind_some, v1 x1 (by rw [hz]; exact u3), u2, Mo_K, Option.bind_some, MoS_R0_31, ma17 ht5, Option.bind_some, hn2, hx, Option.bind_some, MoS_R0_32, ma18 ht5, Option.bind_some, ← hdn, ← hD, ← hm2, Option.bind_some, n1 17 (by omega), hn2, hunit, Option.bind_some]
  unfold Ws_works_2_b33 Mo_works_b43
  rw [Option.bind_some, Option.bind_some]
  by_cases c0 : x = 0
  · rw [if_pos c0, if_pos c0]
    exact hstay
  rw [if_neg c0, if_neg c0, hzK, Option.bind_some, v4, Mo_K, Option.bind_some, MoS_R0_32, ma18 ht5, Option.bind_some, n4]
  obtain ⟨Y, hY⟩ : ∃ Y, Y = w (46 + 2 * (6 * t + n)) * (if ¬ x = 3 then 1 else 2) := ⟨_, rfl⟩
  rw [← hY]
  by_cases cY : Y ≤ D
  rotate_left
  · rw [if_neg cY, if_neg cY]
    exact hstay
  rw [if_pos cY, if_pos cY, hC.K, Option.bind_some, hC2.taskOf ht, Option.bind_some, hC2.tK ht, Option.bind_some, v2 3 (by omega), v2 2 (by omega), hn1, hj, hnx, Option.bind_some, Option.bind_some, Option.bind_some, MoS_R0_31, ma17 ht5, Option.bind_some, n1 17 (by omega), hn2, hR2.fol ht hn, Option.bind_some]
  have hgoC : ∀ v5 : Int32, (if v5 = -1 then (0 : Int32) else 1) = (if nxC w t (q.nd t) n = 0 then 0 else 1) → Ws_works_2_b91 0 (nI t) (some z) x v5 S d2 = Ws_kicks 0 (nI t) (some z) (if nxC w t (q.nd t) n = 0 then 0 else 1) S (dI d2 z 0 0) := by
    intro v5 hv
    unfold Ws_works_2_b91 Ws_works_2_b110
    rw [hzK, Option.bind_some, Option.bind_some, hC.K, Option.bind_some, bE_id, hv]
  have hgoM : Mo_works_b85 0 (nI t) (nI k) MoS m2 = Mo_kickNow 0 (nI t) (nI k) MoS m2 := by
    unfold Mo_works_b85
    rw [Mo_K, Option.bind_some, b2_id]
  have hcle : nxC w t (q.nd t) n ≤ 6 := Nat.le_trans (gc_le _ _) htf.2.1
  rw [← hz] at hkick
  by_cases cn : nxC w t (q.nd t) n = 0
  · rw [if_pos cn]
    rw [if_pos cn] at hkick
    rw [if_pos rfl, if_neg (show ¬ ¬ nI (nxC w t (q.nd t) n) = 0 from fun y => y (by rw [cn]; rfl)), hgoC (-1) (by rw [if_pos rfl, if_pos cn]), hgoM, if_pos cn]
    by_cases c2 : x = 2
    · rw [if_pos c2, if_pos c2]
      exact hkick
    · rw [if_neg c2, if_neg c2]
      exact hkick
  · have hlt : j % nxC w t (q.nd t) n < nxC w t (q.nd t) n := Nat.mod_lt _ (by omega)
    obtain ⟨i1, i2, -⟩ := nxN_in hn hlt
    have hm1 : ¬ nI (nxN w t (q.nd t) n (j % nxC w t (q.nd t) n)) = -1 := m1_pos (by omega)
    rw [if_neg cn]
    rw [if_neg cn] at hkick
    rw [if_pos (show ¬ nI (nxC w t (q.nd t) n) = 0 from nI_ne0 (by omega) (by omega)), hgoC _ (by rw [if_neg hm1, if_neg cn]), hgoM, if_neg hm1, if_neg cn]
    by_cases c2 : x = 2
    · rw [if_pos c2, if_pos c2]
      exact hkick
    · rw [if_neg c2, if_neg c2, MoS_R0_29, ma15 ht5, Option.bind_some, gz_ok (nI_ne0 (by omega) (by omega)), Option.bind_some, n1 15 (by omega), hj2, irm_nI hj9 (by omega) (by omega)]
      have hfo := Mo_follower_eq (d := m2) (t := t) (n := n) (nd := q.nd t) ht5 hn htf.2.1 (i := j % nxC w t (q.nd t) n) (by unfold nxC; rw [hR2.gpe]; exact hlt)
      unfold nxN at hfo
      rw [hR2.gpe] at hfo
      rw [show Mo_follower 0 (nI t) (nI n) (nI (j % nxC w t (q.nd t) n)) MoS m2 = some (nI (nxN w t (q.nd t) n (j % nxC w t (q.nd t) n))) from hfo, Option.bind_some, Option.bind_some, Option.bind_some]
      obtain ⟨X, hX, hX9⟩ : ∃ X, X = nxN w t (q.nd t) n (j % nxC w t (q.nd t) n) ∧ X < q.nd t := ⟨_, rfl, i2⟩
      rw [← hX]
      refine ⟨r, by omega, _, _, rfl, (dI_ne (by omega)).trans (dI_ne (by omega)), (dI_ne (by omega)).trans (dI_ne (by omega)), Or.inl ⟨rfl, ?_, by rw [dI_ne (by omega), dI_ne (by omega)]⟩⟩
      obtain ⟨q1, q2, q3, q4, q5, q6, q7, q8, q9, q10, q11⟩ := hrt2
      refine RT.lives (u' := 99) (kg' := kg + 1) ⟨q1, q2, q3, q4, q5, q6, q7, q8, q9, q10, q11⟩ (q2.1.by (fun v h1 h2 => (dI_ne (by omega)).trans (dI_ne (by omega))) (fun f hf => (dI_nk (by omega)).trans (dI_nk (by omega)))) (q2.2.by (fun v h1 h2 => (dI_ne (by omega)).trans (dI_ne (by omega))) (fun f hf => (dI_nk (by omega)).trans (dI_nk (by omega)))) (fun s hs => ?_) (q6.go ((dI_ne (by omega)).trans (dI_ne (by omega))) ((dI_ne (by omega)).trans (dI_ne (by omega)))) (fun f h1 h2 => (dI_nk (by omega)).trans (dI_nk (by omega))) (fun v h1 h2 h3 => (dI_ne (by omega)).trans (dI_ne (by omega))) (fun f h1 h2 h3 => (dI_nk (by omega)).trans (dI_nk (by omega))) (fun v h1 h2 h3 h4 h5 h6 => (dI_ne (by omega)).trans (dI_ne (by omega)))
      by_cases c9 : s = t
      · subst c9
        have g1 : Lf q 99 k (kj s) kg r b (dI (dI d2 z 3 (nI X)) z 4 0) (dI (dI m2 17 s (nI X)) 18 s 0) s := by
          refine (q4 s hs).goes rfl rfl rfl (Or.inr ⟨(dI_nk (by omega)).trans (dI_nk (by omega)), (dI_nk (by omega)).trans (dI_nk (by omega)), (dI_nk (by omega)).trans (dI_nk (by omega)), ⟨X, hX9, ?_, ?_⟩, ?_⟩) (fun f h1 h2 h3 h4 h5 => (dI_nk (by omega)).trans (dI_nk (by omega))) ((dI_nk (by omega)).trans (dI_nk (by omega))) (fun p h1 h2 h3 h4 => (dI_nk (by omega)).trans (dI_nk (by omega)))
          · rw [← hz, dI_nk (by omega), dI_at]
          · rw [dI_nk (by omega), dI_at]
          · rw [← hz, dI_at, dI_at]
        exact g1.mono (Nat.le_refl _) (Nat.le_succ _) (Nat.le_refl _)
      · have g1 : Lf q 99 k (kj s) kg r b (dI (dI d2 z 3 (nI X)) z 4 0) (dI (dI m2 17 t (nI X)) 18 t 0) s := (q4 s hs).same ((dI_ne (by omega)).trans (dI_ne (by omega))) rfl rfl (fun p h1 h2 => (dI_nk (by omega)).trans (dI_nk (by omega))) rfl rfl rfl
        exact g1.mono (Nat.le_refl _) (Nat.le_succ _) (Nat.le_refl _)
end
