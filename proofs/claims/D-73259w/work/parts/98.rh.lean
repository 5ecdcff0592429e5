/-! READING: injections' lines -/
set_option maxRecDepth 100000
section
variable {S0 S S' T : Sp} {d0 m0 d m d' m' d'' m'' x y : Dt} {rd sz ap tk a c z nw nt ni n t0 L B : Nat} {nd tks ij : Nat → Nat} {w w' : Nat → Int32} {lo hi p1 g0 g1 g2 g3 g4 : Int32}
theorem n2_1 (h : Rs S0 d0 m0 rd sz c ap tk S d m) (h2 : tk ≠ 2) : Re_number_2 rd lo hi S d = bind3 (Re_fault rd 1 S d) fun r10 S11 d12 => (isK S11 11 r10).bind fun z13 => some (.inr z13, S11, d12) := by
  obtain ⟨-, -, t1, t2, t3, -⟩ := h.2.1
  unfold Re_number_2
  rw [h.1.K, Option.bind_some, t2, if_neg (show ¬ nI tk = 2 from fun q => h2 ((nI_eq (b := 2) (by omega) (by omega)).mp q))]
theorem n2_2 (h : Rs S0 d0 m0 rd sz c ap 2 S d m) {v : Nat} (hv : d.1 rd 7 = nI v) (hi9 : inI (nI v) lo hi = 0) : Re_number_2 rd lo hi S d = bind3 (Re_fault rd 2 S d) fun r5 S6 d7 => (isK S6 11 r5).bind fun z8 => some (.inr z8, S6, d7) := by
  obtain ⟨-, -, t1, t2, t3, -⟩ := h.2.1
  unfold Re_number_2
  rw [h.1.K, Option.bind_some, t2, if_pos (show nI 2 = 2 from rfl), hv, Ws_in_eq, Option.bind_some, hi9, if_neg (show ¬ ¬ (0 : Int32) = 0 from fun q => q rfl)]
theorem n2_3 (h : Rs S0 d0 m0 rd sz c ap 2 S d m) {v : Nat} (hv : d.1 rd 7 = nI v) (hi9 : inI (nI v) lo hi = 1) (hn : Re_next rd S d = some ((), d')) : Re_number_2 rd lo hi S d = some (.inl (nI v), S, d') := by
  obtain ⟨-, -, t1, t2, t3, -⟩ := h.2.1
  unfold Re_number_2
  rw [h.1.K, Option.bind_some, t2, if_pos (show nI 2 = 2 from rfl), hv, Ws_in_eq, Option.bind_some, hi9, if_pos (show ¬ (1 : Int32) = 0 by decide), Option.bind_some, hn, bind2_some]
theorem inI_yes {v n : Nat} (h : v < n) (hn : n < 2 ^ 31) : inI (nI v) 0 (nI n - 1) = 1 := by
  rcases inI_nI (x := nI v) (n := n) hn with ⟨-, y⟩ | ⟨t, y1, y2, y3⟩
  · exact absurd rfl (y v h)
  · exact y3
theorem inI_no {v n : Nat} (h : ¬ v < n) (hv : v ≤ 99999) (hn : n < 2 ^ 31) : inI (nI v) 0 (nI n - 1) = 0 := by
  rcases inI_nI (x := nI v) (n := n) hn with ⟨y, -⟩ | ⟨t, y1, y2, y3⟩
  · exact y
  · have := (nI_eq (by omega) (by omega)).mp y2
    omega
theorem inI_lt {v n : Nat} (hv : v ≤ 99999) (hn : n < 2 ^ 31) (h : inI (nI v) 0 (nI n - 1) = 1) : v < n := by
  by_cases c : v < n
  · exact c
  · rw [inI_no c hv hn] at h
    exact absurd h (by decide)
/-- the task that an injection names -/
theorem tref_eq (h : Rs S0 d0 m0 rd sz c ap tk S d m) (hp : PT S d w rd nw nt ni nd tks ij) (hm4 : m.1 6 4 = nI nt) (hmB : ∀ t, t < nt → m.1 6 (11 + 7 * t + 6) = nI (nd t)) : ∀ o, o = (if ¬ (d.1 rd 6) = 2 then Re_injectionLine_b131 rd p1 S d else (isK S 16 (S.2.1 (rd + 2) 0)).bind fun z4 => (Jl_size z4 S d).bind fun r5 => if r5 ≤ (d.1 rd 7) then Re_injectionLine_b131 rd p1 S d else (Jl_get z4 (d.1 rd 7) S d).bind fun r6 => (isK S 12 r6).bind fun z7 => if ¬ (d.1 z7 8) = 0 then Re_injectionLine_b131 rd p1 S d else bind3 (Re_fault rd 2 S d) fun r8 S9 d10 => (isK S9 11 r8).bind fun z11 => some (.inr z11, S9, d10)) → OG S0 d0 m0 (c + 1) m (0 : Int32) o (Mo_taskRead 0 MoS m) ∨ ∃ v d' m' a tk', v < nt ∧ 0 < nd v ∧ o = InjRest rd p1 (nI v) S d' ∧ Mo_taskRead 0 MoS m = some (nI v, m') ∧ Rs S0 d0 m0 rd sz c a tk' S d' m' ∧ ap ≤ a ∧ (tk' ≠ 0 → ap < a) ∧ Nx rd d m d' m' := by
  intro o ho
  have hg := h.2.2.1
  have hx := hp.wp
  have ht5 := hx.2.1.2
  obtain ⟨-, -, t1, t2, t3, t4⟩ := h.2.1
  have hB : Re_injectionLine_b131 rd p1 S d = bindE (Re_number_2 rd 0 (nI nt - 1) S d) (fun v9 S9 d9 => some (.inr v9, S9, d9)) fun r41 S42 d43 => InjRest rd p1 r41 S42 d43 := by
    unfold Re_injectionLine_b131
    rw [h.1.K, Option.bind_some, hp.K h.1, Option.bind_some, hp.kT, Option.bind_some, list_sz hp.2.1, Option.bind_some]
    rfl
  have b66 : ∀ m' : Dt, ¬ m'.1 0 12 = 0 → Mo_taskRead_b66 0 MoS m' = some (0, m') := fun m' hb => by
    unfold Mo_taskRead_b66
    rw [Mo_K, Option.bind_some, takes_0 hb, bind2_some]
  by_cases c2 : tk = 2
  rotate_left
  · have c2' : ¬ nI tk = 2 := fun y => c2 ((nI_eq (b := 2) (by omega) (by omega)).mp y)
    left
    obtain ⟨z, S', d', m', g1, g2, g3, g4⟩ := fault_eq (γ := Int32) h (k := 1) (by omega) (by omega)
    refine ⟨z, S', d', m', ?_, ?_, g3, g4⟩
    · rw [ho, t2, if_pos c2', hB, n2_1 h c2, show (1 : Int32) = nI 1 from rfl, g1, bindE_r]
    · unfold Mo_taskRead
      rw [Mo_K, Option.bind_some, good_1 hg, Option.bind_some, if_neg (show ¬ (1 : Int32) = 0 by decide), t3, if_neg c2', show (1 : Int32) = nI 1 from rfl, g2, bind2_some]
      unfold Mo_taskRead_b20
      rw [Mo_K, Option.bind_some, good_0 g3.2.2.2.2.2, Option.bind_some, if_pos rfl]
      exact b66 m' g3.2.2.2.2.2
  subst c2
  obtain ⟨v, v1, v2, v3⟩ := t4 rfl
  have hT0 : Mo_taskRead 0 MoS m = if nI nt ≤ nI v then Mo_taskRead_b61 0 MoS m else (aix MoS 50 (MoS.2.1 0 14) ((11 + (7 * nI v)) + 6)).bind fun q9 => if ¬ (m.1 q9.1 q9.2) = 0 then Mo_taskRead_b66 0 MoS m else Mo_taskRead_b61 0 MoS m := by
    unfold Mo_taskRead
    rw [Mo_K, Option.bind_some, good_1 hg, Option.bind_some, if_neg (show ¬ (1 : Int32) = 0 by decide), t3, if_pos (show nI 2 = 2 from rfl)]
    unfold Mo_taskRead_b20
    rw [Mo_K, Option.bind_some, good_1 hg, Option.bind_some, if_neg (show ¬ (1 : Int32) = 0 by decide), show aix MoS 50 (MoS.2.1 0 14) 4 = some (6, 4) from Mf 4 (by omega), Option.bind_some, hm4, v3]
  rw [t2, if_neg (show ¬ ¬ nI 2 = 2 from fun q => q rfl), hp.kT, Option.bind_some, list_sz hp.2.1, Option.bind_some, v2] at ho
  have hb61 : ∀ (γ : Type), ∃ z S' d' m', ((bind3 (Re_fault rd 2 S d) fun r4 S5 d6 => (isK S5 11 r4).bind fun z7 => some ((.inr z7 : γ ⊕ Nat), S5, d6)) = some (.inr z, S', d')) ∧ Mo_taskRead_b61 0 MoS m = some (0, m') ∧ Flt S0 d0 m0 (c + 1) z S' d' m' ∧ m'.1 6 = m.1 6 := by
    intro γ
    obtain ⟨z, S', d', m', g1, g2, g3, g4⟩ := fault_eq (γ := γ) h (k := 2) (by omega) (by omega)
    refine ⟨z, S', d', m', g1, ?_, g3, g4⟩
    unfold Mo_taskRead_b61
    rw [Mo_K, Option.bind_some, show (2 : Int32) = nI 2 from rfl, g2, bind2_some]
    exact b66 m' g3.2.2.2.2.2
  by_cases hvn : v < nt
  rotate_left
  · left
    obtain ⟨z, S', d', m', g1, g2, g3, g4⟩ := hb61 Int32
    refine ⟨z, S', d', m', ?_, ?_, g3, g4⟩
    · rw [ho, if_pos (nI_le (by omega) (by omega)), hB, n2_2 h v2 (inI_no hvn v1 (by omega)), g1, bindE_r]
    · rw [hT0, if_pos (nI_le (by omega) (by omega))]
      exact g2
  obtain ⟨⟨s1, s2, s3, s4, s5, -⟩, -⟩ := hp.2.2.2.1 v hvn
  have hk12 : isK S 12 (some (tks v)) = some (tks v) := isK_of s1
  rw [if_neg (nI_ge hvn (by omega)), list_get hp.2.1 hvn (by omega), Option.bind_some, hk12, Option.bind_some, s3] at ho
  have e2 : (11 : Int32) + 7 * nI v + 6 = nI (11 + 7 * v + 6) := by rw [nlit, nlit, nlit, nI_mul, nI_add, nI_add]
  rw [if_neg (nI_ge hvn (by omega)), e2, Mf _ (by omega), Option.bind_some, hmB v hvn] at hT0
  by_cases hnd : nd v = 0
  · left
    obtain ⟨z, S', d', m', g1, g2, g3, g4⟩ := hb61 Unit
    refine ⟨z, S', d', m', ?_, ?_, g3, g4⟩
    · rw [ho, hnd, if_neg (show ¬ ¬ nI 0 = 0 from fun q => q rfl)]
      exact g1
    · rw [hT0, hnd, if_neg (show ¬ ¬ nI 0 = 0 from fun q => q rfl)]
      exact g2
  · right
    have hne : ¬ nI (nd v) = 0 := nI_ne0 (by omega) (by omega)
    obtain ⟨d', m', a, tk', n1, n2, n3, n4, n5, n6⟩ := next_rs h
    refine ⟨v, d', m', a, tk', hvn, by omega, ?_, ?_, n3, n4, n5, n6⟩
    · rw [ho, if_pos hne, hB, n2_3 h v2 (inI_yes hvn (by omega)) n1, bindE_l]
    · have e5 : inI (nI v) 0 5 = 1 := by
        have := inI_yes (v := v) (n := 6) (by omega) (by omega)
        rw [show nI 6 - 1 = (5 : Int32) by decide] at this
        exact this
      rw [hT0, if_pos hne]
      unfold Mo_taskRead_b66 Mo_takes
      rw [Mo_K, Option.bind_some, Option.bind_some, good_1 hg, Option.bind_some, if_neg (show ¬ (1 : Int32) = 0 by decide), t3, if_pos (show nI 2 = 2 from rfl)]
      unfold Mo_takes_b20
      rw [Mo_K, Option.bind_some, good_1 hg, Option.bind_some, if_neg (show ¬ (1 : Int32) = 0 by decide), v3, show (5 : Int32) = (5 : Int32) from rfl, Mo_in_eq, Option.bind_some, e5, if_pos (show ¬ (1 : Int32) = 0 by decide)]
      unfold Mo_takes_b47
      rw [Mo_K, Option.bind_some, good_1 hg, Option.bind_some, if_pos (show ¬ (1 : Int32) = 0 by decide), v3, Option.bind_some, n2, bind2_some, bind2_some]
theorem b189_bad : Safe m (Mo_readInjection_b189 0 p1 MoS m) := by
  unfold Mo_readInjection_b189
  exact bs_K (bs_ix (show aix MoS 50 (MoS.2.1 0 14) 5 = some (6, 5) from Mf 5 (by omega)) (bs_some bs_end))
theorem b171_bad (hB : B < 197) : Safe m (Mo_readInjection_b171 0 p1 MoS (nI B) m) := by
  unfold Mo_readInjection_b171
  exact bs_K (bs_told (by omega) (bs_set (show aix MoS 50 (MoS.2.1 0 14) (nI B + 4) = some (6, B + 4) by rw [show nI B + 4 = nI (B + 4) from nI_add B 4]; exact Mf _ (by omega)) b189_bad))
/-- the end of a task's injection -/
theorem inj_tail (h : Rs S0 d0 m0 rd sz c ap tk S d m) (hp : PT S d w rd nw nt ni nd tks ij) (hni : ni < 8) (hB : B = 106 + 5 * ni) {v jb kd : Nat} (hw : ∀ j, j < B → m.1 6 j = w j) (w0 : m.1 6 B = nI kd) (w1 : m.1 6 (B + 1) = nI v) (w2 : m.1 6 (B + 2) = nI jb) (w3 : m.1 6 (B + 3) = g3) (hv : v < nt) (hj : jb ≤ 50) (hk : kd ≤ 4) (h3 : (kd = 4 ∧ g3 = -1) ∨ kd < 4 ∧ ∃ nn, nn < nd v ∧ g3 = nI nn) : OF S0 d0 m0 (c + 2) () (Re_injectionLine_b194 rd (nI kd) (nI v) (nI jb) g3 S d) (Mo_readInjection_b171 0 (nI kd) MoS (nI B) m) ∨ ∃ S' d' m' a tk' ij', Re_injectionLine_b194 rd (nI kd) (nI v) (nI jb) g3 S d = some (.inl (), S', d') ∧ Mo_readInjection_b171 0 (nI kd) MoS (nI B) m = some ((), m') ∧ Rs S0 d0 m0 rd sz (c + 1) a tk' S' d' m' ∧ ap ≤ a ∧ (tk' ≠ 0 → ap < a) ∧ PT S' d' (m'.1 6) rd nw nt (ni + 1) nd tks ij' ∧ (∀ j, j < 3 → m'.1 6 j = w j) ∧ m'.1 6 7 = w 7 := by
  have hr := h.1.2.2.1
  have hlr := (List.getElem?_eq_some_iff.mp hr).1
  obtain ⟨T, hT⟩ : ∃ T, T = mmNew S (13, 0) 5 := ⟨_, rfl⟩
  obtain ⟨f1, hf1⟩ : ∃ f1, f1 = mmNewD S d := ⟨_, rfl⟩
  obtain ⟨L, hL⟩ : ∃ L, L = S.1.length := ⟨_, rfl⟩
  have E : Ext S T := by rw [hT]; exact Ext.new
  have kT : T.2.2.1 = S.2.2.1 + 1 ∧ T.2.2.2 = S.2.2.2 + 5 := by rw [hT]; exact ⟨rfl, rfl⟩
  have nT : T.1.length = S.1.length + 1 := by rw [hT]; show (S.1 ++ [_]).length = _; rw [List.length_append]; rfl
  have F : ∀ b, b < L → f1.1 b = d.1 b := fun b hb => by rw [hf1]; exact z2_row (by omega)
  have k1 : Rs S0 d0 m0 rd sz (c + 1) ap tk T f1 m := h.ext E (by omega) (fun b hb => F b (by omega))
  have i4 : aix MoS 50 (MoS.2.1 0 14) (nI B + 4) = some (6, B + 4) := by rw [show nI B + 4 = nI (B + 4) from nI_add B 4]; exact Mf _ (by omega)
  obtain ⟨o, ho⟩ : ∃ o, o = Re_injectionLine_b194 rd (nI kd) (nI v) (nI jb) g3 S d := ⟨_, rfl⟩
  obtain ⟨p, hq⟩ : ∃ p, p = Mo_readInjection_b171 0 (nI kd) MoS (nI B) m := ⟨_, rfl⟩
  rw [← ho, ← hq]
  unfold Re_injectionLine_b194 at ho
  rw [h.1.K, Option.bind_some, hp.K h.1, Option.bind_some, bind2_some, ← hT, ← hf1, k1.1.K, Option.bind_some, ← hL] at ho
  unfold Mo_readInjection_b171 at hq
  rw [Mo_K, Option.bind_some] at hq
  rcases num_eq k1 (i := 23) (lo := 1) (hi := 9) (by omega) with ⟨z, S', d', m', g1, g2, g3', g4⟩ | ⟨tm, d2, m2, a2, t2, q1, q2, q3, q4, q5, q6, q7, q8⟩
  · rw [g1, bindE_r] at ho
    rw [g2, bind2_some] at hq
    refine Or.inl (OF.of ho g3' ?_)
    rw [hq]
    exact bs_set i4 b189_bad
  have bt := inI_b (a := 1) (b := 9) q3 (by omega) (by omega) q4
  rw [q1, bindE_l] at ho
  rw [q2, bind2_some, i4, Option.bind_some, Option.bind_some] at hq
  have k2 : Rs S0 d0 m0 rd sz (c + 1) a2 t2 T d2 (dI m2 6 (B + 4) (nI tm)) := q5.wr (fun b hb => rfl) (fun b hb => dI_ne hb)
  have M2 : ∀ j, j ≠ B + 4 → (dI m2 6 (B + 4) (nI tm)).1 6 j = m.1 6 j := fun j hj => by rw [dI_nk (fun q => hj q.2), q8.2.2.1 6 (by omega)]
  have hI : InjW ((dI m2 6 (B + 4) (nI tm)).1 6) nw nt nd ni := by
    unfold InjW
    rw [← hB, M2 B (by omega), M2 (B + 1) (by omega), M2 (B + 2) (by omega), M2 (B + 3) (by omega), w0, w1, w2, w3]
    exact Or.inr ⟨kd, v, jb, tm, rfl, hk, rfl, hv, rfl, hj, h3, dI_at, bt.1, bt.2⟩
  obtain ⟨S3, d3, m3, ij', r1, r2, r3, r4, r5, r6⟩ := inj_fin (p1 := nI kd) hT hL k2 hp hr (fun b h1 h2 => by rw [q8.1 b h2, F b h1]) hni hB (fun j hj => (M2 j (by omega)).trans (hw j hj)) ((M2 B (by omega)).trans w0) ((M2 (B + 1) (by omega)).trans w1) ((M2 (B + 2) (by omega)).trans w2) ((M2 (B + 3) (by omega)).trans w3) dI_at hI
  exact Or.inr ⟨S3, d3, m3, a2, t2, ij', ho.trans r1, hq.trans r2, r3, by omega, fun q => by have := q7 q; omega, r4, r5, r6⟩
theorem inj_eq (h : Rs S0 d0 m0 rd sz c ap tk S d m) (hp : PT S d (m.1 6) rd nw nt ni nd tks ij) {kd : Nat} (hk : kd ≤ 5) : OF S0 d0 m0 (c + 2) () (Re_injectionLine rd (nI kd) S d) (Mo_readInjection 0 (nI kd) MoS m) ∨ LOk S0 d0 m0 rd sz (c + 1) ap (3 * nt + ni + 1) m (Re_injectionLine rd (nI kd) S d) (Mo_readInjection 0 (nI kd) MoS m) := by
  have hr := h.1.2.2.1
  have hlr := (List.getElem?_eq_some_iff.mp hr).1
  have hx := hp.wp
  have hm5 : m.1 6 5 = nI ni := hx.2.2.1.1
  have hni8 := hx.2.2.1.2.1
  have ht5 := hx.2.1.2
  have hw3 := hx.1.2
  have e7 : d.1 (rd + 2) 7 = nI ni := hp.pf.2.2.2.2.2.1.trans hm5
  obtain ⟨o, ho⟩ : ∃ o, o = Re_injectionLine rd (nI kd) S d := ⟨_, rfl⟩
  obtain ⟨p, hq⟩ : ∃ p, p = Mo_readInjection 0 (nI kd) MoS m := ⟨_, rfl⟩
  rw [← ho, ← hq]
  have f5 : aix MoS 50 (MoS.2.1 0 14) 5 = some (6, 5) := Mf 5 (by omega)
  have f3 : aix MoS 50 (MoS.2.1 0 14) 3 = some (6, 3) := Mf 3 (by omega)
  unfold Re_injectionLine at ho
  rw [h.1.K, Option.bind_some, hp.K h.1, Option.bind_some, e7] at ho
  unfold Mo_readInjection at hq
  rw [Mo_K, Option.bind_some] at hq
  by_cases c8 : ni = 8
  · subst c8
    obtain ⟨z, S', d', m', g1, g2, g3⟩ := can_full (γ := Unit) h (k := 5) (M := 8) (by omega) hm5
    rw [if_neg (show ¬ ¬ nI 8 = 8 from fun q => q rfl), g1] at ho
    rw [show Mo_canTake 0 5 8 MoS m = _ from g2, bind2_some, if_neg (show ¬ ¬ (0 : Int32) = 0 from fun q => q rfl)] at hq
    exact Or.inl (OF.mono ⟨z, S', d', m', ho, hq, g3⟩ (by omega))
  have c8' : ¬ nI ni = 8 := fun q => c8 ((nI_eq (b := 8) (by omega) (by omega)).mp q)
  obtain ⟨d1, m1, a1, t1, n1, n2, n3, n4, n5, n6⟩ := next_rs h
  have hc := can_go h.2.2.1 (k := 5) (M := 8) (by omega) (by rw [hm5]; exact c8') n2 n3.2.2.1
  obtain ⟨B, hB⟩ : ∃ B, B = 106 + 5 * ni := ⟨_, rfl⟩
  have m15 : m1.1 6 5 = nI ni := (congrFun (n6.2.2.1 6 (by omega)) 5).trans hm5
  have i0 : aix MoS 50 (MoS.2.1 0 14) (nI B) = some (6, B) := Mf B (by omega)
  have i1 : aix MoS 50 (MoS.2.1 0 14) (nI B + 1) = some (6, B + 1) := by rw [nI_1]; exact Mf _ (by omega)
  have i2 : aix MoS 50 (MoS.2.1 0 14) (nI B + 2) = some (6, B + 2) := by rw [show nI B + 2 = nI (B + 2) from nI_add B 2]; exact Mf _ (by omega)
  have i3 : aix MoS 50 (MoS.2.1 0 14) (nI B + 3) = some (6, B + 3) := by rw [show nI B + 3 = nI (B + 3) from nI_add B 3]; exact Mf _ (by omega)
  have i4 : aix MoS 50 (MoS.2.1 0 14) (nI B + 4) = some (6, B + 4) := by rw [show nI B + 4 = nI (B + 4) from nI_add B 4]; exact Mf _ (by omega)
  rw [if_pos c8', n1, bind2_some] at ho
  rw [show Mo_canTake 0 5 8 MoS m = _ from hc, bind2_some, if_pos (show ¬ (1 : Int32) = 0 by decide), f5, Option.bind_some, m15, show (106 : Int32) + 5 * nI ni = nI B from by rw [nlit, nlit, nI_mul, nI_add, hB], Option.bind_some, i0, Option.bind_some, Option.bind_some, i3, Option.bind_some, Option.bind_some, i4, Option.bind_some, Option.bind_some] at hq
  obtain ⟨M3, hM3⟩ : ∃ M3, M3 = dI (dI (dI m1 6 B (nI kd)) 6 (B + 3) (-1)) 6 (B + 4) (-1) := ⟨_, rfl⟩
  have hq' : p = (if ¬ nI kd = 5 then
      bind2 (Mo_taskRead 0 MoS M3) fun r12 d13 =>
      (aix MoS 50 (MoS.2.1 0 14) (nI B + 1)).bind fun q14 =>
      (some (dI d13 q14.1 q14.2 r12)).bind fun d15 =>
      bind2 (Mo_toldBy 0 (some (OPQ + 22)) 0 50 MoS d15) fun r16 d17 =>
      (aix MoS 50 (MoS.2.1 0 14) (nI B + 2)).bind fun q18 =>
      (some (dI d17 q18.1 q18.2 r16)).bind fun d19 =>
      if nI kd = 4 then
        Mo_readInjection_b171 0 (nI kd) MoS (nI B) d19
      else
        (aix MoS 50 (MoS.2.1 0 14) ((11 + (7 * (d19.1 q14.1 q14.2))) + 6)).bind fun q20 =>
        bind2 (Mo_toldBy 0 (some (OPQ + 19)) 0 ((d19.1 q20.1 q20.2) - 1) MoS d19) fun r21 d22 =>
        (some (dI d22 6 (B + 3) r21)).bind fun d23 =>
        Mo_readInjection_b171 0 (nI kd) MoS (nI B) d23
    else
      (aix MoS 50 (MoS.2.1 0 14) 3).bind fun q25 =>
      bind2 (Mo_takes 0 0 ((M3.1 q25.1 q25.2) - 1) MoS M3) fun r26 d27 =>
      (aix MoS 50 (MoS.2.1 0 14) (nI B + 1)).bind fun q28 =>
      (some (dI d27 q28.1 q28.2 r26)).bind fun d29 =>
      bind2 (Mo_toldBy 0 (some (OPQ + 21)) 0 199 MoS d29) fun r30 d31 =>
      (aix MoS 50 (MoS.2.1 0 14) (nI B + 2)).bind fun q32 =>
      (some (dI d31 q32.1 q32.2 r30)).bind fun d33 =>
      Mo_readInjection_b189 0 (nI kd) MoS d33) := by
    rw [hq, hM3]
  clear hq
  have hq := hq'
  clear hq'
  have k3 : Rs S0 d0 m0 rd sz c a1 t1 S d1 M3 := n3.wr (fun b hb => rfl) (fun b hb => by rw [hM3, dI_ne hb, dI_ne hb, dI_ne hb])
  have W3 : ∀ j, j < B → M3.1 6 j = m.1 6 j := fun j hj => by rw [hM3, dI_nk (by omega), dI_nk (by omega), dI_nk (by omega), n6.2.2.1 6 (by omega)]
  have W3B : M3.1 6 B = nI kd := by rw [hM3, dI_nk (by omega), dI_nk (by omega), dI_at]
  have W33 : M3.1 6 (B + 3) = -1 := by rw [hM3, dI_nk (by omega), dI_at]
  have W34 : M3.1 6 (B + 4) = -1 := by rw [hM3, dI_at]
  have hp1 : PT S d1 (m.1 6) rd nw nt ni nd tks ij := hp.go hr Ext.rf (fun b _ hb => n6.1 b hb)
  by_cases c5 : kd = 5
  · subst c5
    rw [if_neg (show ¬ ¬ nI 5 = 5 from fun q => q rfl)] at ho hq
    have d16 : d1.1 (rd + 2) 6 = nI nw := (congrFun (n6.1 (rd + 2) (by omega)) 6).trans (hp.pf.2.2.2.2.1.trans hx.1.1)
    rw [d16] at ho
    rw [f3, Option.bind_some, (W3 3 (by omega)).trans hx.1.1] at hq
    rcases num2_eq k3 (lo := 0) (hi := nI nw - 1) with ⟨z, S', d', m', g1, g2, g3, g4⟩ | ⟨v, d2, m2, a2, t2, q1, q2, q3, q4, q5, q6, q7, q8, -⟩
    · rw [g1, bindE_r] at ho
      rw [g2, bind2_some] at hq
      refine Or.inl ((OF.of ho g3 ?_).mono (by omega))
      rw [hq]
      exact bs_set i1 (bs_told (by omega) (bs_set i2 b189_bad))
    have hv := inI_lt q3 (by omega) q4
    have hp2 : PT S d2 (m.1 6) rd nw nt ni nd tks ij := hp1.go hr Ext.rf (fun b _ hb => q8.1 b hb)
    obtain ⟨T, hT⟩ : ∃ T, T = mmNew S (13, 0) 5 := ⟨_, rfl⟩
    obtain ⟨f1, hf1⟩ : ∃ f1, f1 = mmNewD S d2 := ⟨_, rfl⟩
    obtain ⟨L, hL⟩ : ∃ L, L = S.1.length := ⟨_, rfl⟩
    have E : Ext S T := by rw [hT]; exact Ext.new
    have kT : T.2.2.1 = S.2.2.1 + 1 ∧ T.2.2.2 = S.2.2.2 + 5 := by rw [hT]; exact ⟨rfl, rfl⟩
    have nT : T.1.length = S.1.length + 1 := by rw [hT]; show (S.1 ++ [_]).length = _; rw [List.length_append]; rfl
    have F : ∀ b, b < L → f1.1 b = d2.1 b := fun b hb => by rw [hf1]; exact z2_row (by omega)
    rw [q1, bindE_l, h.1.K, Option.bind_some, hp.K h.1, Option.bind_some, bind2_some, ← hT, ← hf1, ← hL] at ho
    rw [q2, bind2_some, i1, Option.bind_some, Option.bind_some] at hq
    have k4 : Rs S0 d0 m0 rd sz c a2 t2 S d2 (dI m2 6 (B + 1) (nI v)) := q5.wr (fun b hb => rfl) (fun b hb => dI_ne hb)
    have k5 : Rs S0 d0 m0 rd sz (c + 1) a2 t2 T f1 (dI m2 6 (B + 1) (nI v)) := k4.ext E (by omega) (fun b hb => F b (by omega))
    rw [k5.1.K, Option.bind_some] at ho
    rcases num_eq k5 (i := 21) (lo := 0) (hi := 199) (by omega) with ⟨z, S', d', m', g1, g2, g3, g4⟩ | ⟨jb, d3, m3, a3, t3, r1, r2, r3, r4, r5, r6, r7, r8⟩
    · rw [g1, bindE_r] at ho
      rw [g2, bind2_some] at hq
      refine Or.inl ((OF.of ho g3 ?_).mono (by omega))
      rw [hq]
      exact bs_set i2 b189_bad
    have bj := inI_b (a := 0) (b := 199) r3 (by omega) (by omega) r4
    rw [r1, bindE_l] at ho
    rw [r2, bind2_some, i2, Option.bind_some, Option.bind_some] at hq
    have k6 : Rs S0 d0 m0 rd sz (c + 1) a3 t3 T d3 (dI m3 6 (B + 2) (nI jb)) := r5.wr (fun b hb => rfl) (fun b hb => dI_ne hb)
    have M6 : ∀ j, j ≠ B + 2 → j ≠ B + 1 → (dI m3 6 (B + 2) (nI jb)).1 6 j = M3.1 6 j := fun j h1 h2 => by rw [dI_nk (fun q => h1 q.2), r8.2.2.1 6 (by omega), dI_nk (fun q => h2 q.2), q8.2.2.1 6 (by omega)]
    have M61 : (dI m3 6 (B + 2) (nI jb)).1 6 (B + 1) = nI v := by rw [dI_nk (by omega), r8.2.2.1 6 (by omega), dI_at]
    have hI : InjW ((dI m3 6 (B + 2) (nI jb)).1 6) nw nt nd ni := by
      unfold InjW
      rw [← hB, M6 B (by omega) (by omega), M61, M6 (B + 3) (by omega) (by omega), M6 (B + 4) (by omega) (by omega), W3B, W33, W34]
      exact Or.inl ⟨v, jb, rfl, rfl, hv, dI_at, by omega, rfl, rfl⟩
    obtain ⟨S3, d4, m4, ij', s1, s2, s3, s4, s5, s6⟩ := inj_fin (p1 := nI 5) (g0 := 5) (g1 := nI v) (g2 := nI jb) (g3 := -1) (g4 := -1) hT hL k6 hp2 hr (fun b h1 h2 => by rw [r8.1 b h2, F b h1]) (by omega) hB (fun j hj => (M6 j (by omega) (by omega)).trans (W3 j hj)) ((M6 B (by omega) (by omega)).trans W3B) M61 dI_at ((M6 (B + 3) (by omega) (by omega)).trans W33) ((M6 (B + 4) (by omega) (by omega)).trans W34) hI
    exact Or.inr ⟨S3, d4, m4, a3, t3, nw, nt, ni + 1, nd, tks, ij', rfl, ho.trans s1, hq.trans s2, s3, by omega, fun q => by have := r7 q; omega, s4, s5, s6⟩
  have c5' : ¬ nI kd = 5 := fun q => c5 ((nI_eq (b := 5) (by omega) (by omega)).mp q)
  rw [if_pos c5'] at ho hq
  rcases tref_eq (p1 := nI kd) k3 hp1 ((W3 4 (by omega)).trans hx.2.1.1) (fun t ht => (W3 _ (by omega)).trans (hx.2.2.2.2.1 t ht).1.2) o ho with ⟨z, S', d', m', g1, g2, g3, g4⟩ | ⟨v, d2, m2, a2, t2, hv, hnd, q1, q2, q3, q4, q5, q6⟩
  · rw [g2, bind2_some] at hq
    refine Or.inl ((OF.of g1 g3 ?_).mono (by omega))
    rw [hq]
    refine bs_set i1 (bs_told (by omega) (bs_set i2 ?_))
    by_cases c4 : nI kd = 4
    · rw [if_pos c4]
      exact b171_bad (by omega)
    · rw [if_neg c4]
      refine bs_ix (j := 17) ?_ (bs_told (by omega) (bs_some (b171_bad (by omega))))
      rw [dI_nk (show ¬ ((6 : Nat) = 6 ∧ B + 1 = B + 2) by omega), dI_at]
      exact Mf 17 (by omega)
  have hp2 : PT S d2 (m.1 6) rd nw nt ni nd tks ij := hp1.go hr Ext.rf (fun b _ hb => q6.1 b hb)
  unfold InjRest at q1
  rw [h.1.K, Option.bind_some] at q1
  rw [q2, bind2_some, i1, Option.bind_some, Option.bind_some] at hq
  have k4 : Rs S0 d0 m0 rd sz c a2 t2 S d2 (dI m2 6 (B + 1) (nI v)) := q3.wr (fun b hb => rfl) (fun b hb => dI_ne hb)
  have e2 : (11 : Int32) + 7 * nI v + 6 = nI (11 + 7 * v + 6) := by rw [nlit, nlit, nlit, nI_mul, nI_add, nI_add]
  rcases num_eq k4 (i := 22) (lo := 0) (hi := 50) (by omega) with ⟨z, S', d', m', g1, g2, g3, g4⟩ | ⟨jb, d3, m3, a3, t3, r1, r2, r3, r4, r5, r6, r7, r8⟩
  · rw [g1, bindE_r] at q1
    rw [g2, bind2_some] at hq
    refine Or.inl ((OF.of q1 g3 ?_).mono (by omega))
    rw [hq]
    refine bs_set i2 ?_
    by_cases c4 : nI kd = 4
    · rw [if_pos c4]
      exact b171_bad (by omega)
    · rw [if_neg c4]
      refine bs_ix (j := 11 + 7 * v + 6) ?_ (bs_told (by omega) (bs_some (b171_bad (by omega))))
      rw [dI_nk (show ¬ ((6 : Nat) = 6 ∧ B + 1 = B + 2) by omega), g4, dI_at, e2]
      exact Mf _ (by omega)
  have bj := inI_b (a := 0) (b := 50) r3 (by omega) (by omega) r4
  rw [r1, bindE_l] at q1
  rw [r2, bind2_some, i2, Option.bind_some, Option.bind_some] at hq
  have k5 : Rs S0 d0 m0 rd sz c a3 t3 S d3 (dI m3 6 (B + 2) (nI jb)) := r5.wr (fun b hb => rfl) (fun b hb => dI_ne hb)
  have M5 : ∀ j, j ≠ B + 2 → j ≠ B + 1 → (dI m3 6 (B + 2) (nI jb)).1 6 j = M3.1 6 j := fun j h1 h2 => by rw [dI_nk (fun q => h1 q.2), r8.2.2.1 6 (by omega), dI_nk (fun q => h2 q.2), q6.2.2.1 6 (by omega)]
  have M51 : (dI m3 6 (B + 2) (nI jb)).1 6 (B + 1) = nI v := by rw [dI_nk (by omega), r8.2.2.1 6 (by omega), dI_at]
  have hp3 : PT S d3 (m.1 6) rd nw nt ni nd tks ij := hp2.go hr Ext.rf (fun b _ hb => r8.1 b hb)
  by_cases c4 : kd = 4
  · subst c4
    rw [if_neg (show ¬ ¬ nI 4 = 4 from fun q => q rfl)] at q1
    rw [if_pos (show nI 4 = 4 from rfl)] at hq
    rcases inj_tail (B := B) k5 hp3 (by omega) hB (v := v) (jb := jb) (kd := 4) (g3 := -1) (fun j hj => (M5 j (by omega) (by omega)).trans (W3 j hj)) ((M5 B (by omega) (by omega)).trans W3B) M51 dI_at ((M5 (B + 3) (by omega) (by omega)).trans W33) hv bj.2 (by omega) (Or.inl ⟨rfl, rfl⟩) with g | ⟨S3, d4, m4, a4, t4, ij', s1, s2, s3, s4, s5, s6, s7, s8⟩
    · rw [q1, hq]
      exact Or.inl g
    · exact Or.inr ⟨S3, d4, m4, a4, t4, nw, nt, ni + 1, nd, tks, ij', rfl, q1.trans s1, hq.trans s2, s3, by omega, fun q => by have := s5 q; omega, s6, s7, s8⟩
  have c4' : ¬ nI kd = 4 := fun q => c4 ((nI_eq (b := 4) (by omega) (by omega)).mp q)
  obtain ⟨⟨o1, o2, o3, o4, o5, -⟩, -⟩ := hp3.2.2.2.1 v hv
  have hk12 : isK S 12 (some (tks v)) = some (tks v) := isK_of o1
  rw [if_pos c4', h.1.K, Option.bind_some, hp.K h.1, Option.bind_some, hp.kT, Option.bind_some, list_get hp3.2.1 hv (by omega), Option.bind_some, hk12, Option.bind_some, o3] at q1
  rw [if_neg c4', M51, e2, Mf _ (by omega), Option.bind_some, M5 (11 + 7 * v + 6) (by omega) (by omega), W3 _ (by omega), o4] at hq
  rcases num_eq k5 (i := 19) (lo := 0) (hi := nI (nd v) - 1) (by omega) with ⟨z, S', d', m', g1, g2, g3, g4⟩ | ⟨nn, d4, m4, a4, t4, s1, s2, s3, s4, s5, s6, s7, s8⟩
  · rw [g1, bindE_r] at q1
    rw [g2, bind2_some] at hq
    refine Or.inl ((OF.of q1 g3 ?_).mono (by omega))
    rw [hq]
    exact bs_some (b171_bad (by omega))
  have hnn := inI_lt s3 (by omega) s4
  rw [s1, bindE_l] at q1
  rw [s2, bind2_some, Option.bind_some] at hq
  have k6 : Rs S0 d0 m0 rd sz c a4 t4 S d4 (dI m4 6 (B + 3) (nI nn)) := s5.wr (fun b hb => rfl) (fun b hb => dI_ne hb)
  have M6 : ∀ j, j ≠ B + 3 → (dI m4 6 (B + 3) (nI nn)).1 6 j = (dI m3 6 (B + 2) (nI jb)).1 6 j := fun j h1 => by rw [dI_nk (fun q => h1 q.2), s8.2.2.1 6 (by omega)]
  have hp4 : PT S d4 (m.1 6) rd nw nt ni nd tks ij := hp3.go hr Ext.rf (fun b _ hb => s8.1 b hb)
  rcases inj_tail (B := B) k6 hp4 (by omega) hB (v := v) (jb := jb) (kd := kd) (g3 := nI nn) (fun j hj => (M6 j (by omega)).trans ((M5 j (by omega) (by omega)).trans (W3 j hj))) ((M6 B (by omega)).trans ((M5 B (by omega) (by omega)).trans W3B)) ((M6 (B + 1) (by omega)).trans M51) ((M6 (B + 2) (by omega)).trans dI_at) dI_at hv bj.2 (by omega) (Or.inr ⟨by omega, nn, hnn, rfl⟩) with g | ⟨S3, d5, m5, a5, t5, ij', u1, u2', u3, u4, u5, u6, u7, u8⟩
  · rw [q1, hq]
    exact Or.inl g
  · exact Or.inr ⟨S3, d5, m5, a5, t5, nw, nt, ni + 1, nd, tks, ij', rfl, q1.trans u1, hq.trans u2', u3, by omega, fun q => by have := u5 q; omega, u6, u7, u8⟩
end
