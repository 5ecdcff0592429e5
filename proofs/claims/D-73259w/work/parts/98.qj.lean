/-! THE PLAIN LAW: longest, silent -/
set_option maxRecDepth 100000
section
variable {n r : Nat} {S S1 S' : Sp} {d d1 d2 d' m m0 e1 e2 f1 f2 : Dt} {w : Nat → Int32} {q q0 : TdP} {op cl : Nat → Nat} {p p1 p2 p3 p4 p5 : Int32} {S0 : Sp} {n0 c s t kd : Nat}
/-- how many nodes are tried -/
def tryN (q : TdP) (t kd : Nat) : Nat := if kd = 4 then 1 else q.nd t
theorem try_in (h : Try n0 q0 m0 c s S0 S d m) (ht : t < q0.nt) (ht5 : t < 5) (hk : kd ≤ 4) {i J : Nat} (hi : i ≤ 50) (hnd : q0.nd t ≤ 6) (hrow : mw m0 (11 + 7 * t + 6) = nI (q0.nd t)) (k43 : Int32 → Int32 → Int32 → Sp → Dt → Option (Unit × Sp × Dt)) (k54 : Int32 → Int32 → Dt → Option (Int32 × Dt)) : ∃ S' d' m', Ws_tries_h52 0 (nI t) (nI kd) k43 FU (nI J) (nI (tryN q0 t kd)) (nI i) 0 S d = k43 (nI J) (nI (tryN q0 t kd)) (nI (i + 1)) S' d' ∧ Mo_asksExtras_h63 0 (nI t) (nI kd) MoS k54 FU (nI J) (nI i) 0 m = k54 (nI J) (nI (i + 1)) m' ∧ Try n0 q0 m0 (c + 30) (s + 300) S0 S' d' m' := by
  have hNN : tryN q0 t kd ≤ 6 := by
    unfold tryN
    split <;> omega
  have hY : ∀ G (a : Nat) (y : Dt), mw y (11 + 7 * t + 6) = nI (q0.nd t) → Mo_asksExtras_h63 0 (nI t) (nI kd) MoS k54 (G + 1) (nI J) (nI i) (nI a) y = Mo_asksExtras_b79 0 (nI t) (nI kd) MoS k54 (Mo_asksExtras_h63 0 (nI t) (nI kd) MoS k54 G) (nI J) (nI i) (nI a) (nI (tryN q0 t kd)) (nI a) y := by
    intro G a y hy
    rw [Mo_asksExtras_h63]
    unfold tryN
    by_cases k4 : kd = 4
    · subst k4
      rw [if_neg (show ¬ ¬ nI 4 = 4 from fun z => z rfl), if_pos rfl]
      rfl
    · rw [if_pos (show ¬ nI kd = 4 from fun z => k4 ((nI_eq (b := 4) (by omega) (by omega)).mp z)), Mo_K, Option.bind_some, Mo_nodesOf_eq ht5, Option.bind_some, hy, if_neg k4]
  refine loop2_FU (X := fun F (x : Int32 × Sp × Dt) => Ws_tries_h52 0 (nI t) (nI kd) k43 F (nI J) (nI (tryN q0 t kd)) (nI i) x.1 x.2.1 x.2.2) (Y := fun F (y : Int32 × Dt) => Mo_asksExtras_h63 0 (nI t) (nI kd) MoS k54 F (nI J) (nI i) y.1 y.2) (Inv := fun a x y => x.1 = nI a ∧ y.1 = nI a ∧ Try n0 q0 m0 (c + 5 * a) (s + 50 * a) S0 x.2.1 x.2.2 y.2) (P := fun o p => ∃ S' d' m', o = k43 (nI J) (nI (tryN q0 t kd)) (nI (i + 1)) S' d' ∧ p = k54 (nI J) (nI (i + 1)) m' ∧ Try n0 q0 m0 (c + 30) (s + 300) S0 S' d' m') (x := (0, S, d)) (y := (0, m)) (tryN q0 t kd) (by omega) ⟨rfl, rfl, h⟩ ?_ ?_
  · rintro a ha F G ⟨x, T, e⟩ ⟨y, g⟩ ⟨h1, h2, h3⟩
    have h1' : x = nI a := h1
    have h2' : y = nI a := h2
    have h3' : Try n0 q0 m0 (c + 5 * a) (s + 50 * a) S0 T e g := h3
    subst h1' h2'
    have hN : (kd = 4 ∧ (if ¬ nI kd = 4 then nI a else -1) = -1) ∨ kd < 4 ∧ ∃ nn, nn < q0.nd t ∧ (if ¬ nI kd = 4 then nI a else -1) = nI nn := by
      by_cases k4 : kd = 4
      · subst k4
        exact Or.inl ⟨rfl, if_neg (fun z => z rfl)⟩
      · refine Or.inr ⟨by omega, a, ?_, if_pos (fun z => k4 ((nI_eq (b := 4) (by omega) (by omega)).mp z))⟩
        unfold tryN at ha
        rw [if_neg k4] at ha
        exact ha
    obtain ⟨S', d', m', a1, a2, a3⟩ := try_step h3' ht hk hi hN
    have hg : mw g (11 + 7 * t + 6) = nI (q0.nd t) := (h3'.2.2.2.1 _ (by omega)).trans hrow
    refine Or.inl ⟨(nI (a + 1), S', d'), (nI (a + 1), m'), ?_, ?_, rfl, rfl, a3⟩
    · show Ws_tries_h52 0 (nI t) (nI kd) k43 (F + 1) (nI J) (nI (tryN q0 t kd)) (nI i) (nI a) T e = _
      rw [Ws_tries_h52, if_neg (nI_ge ha (by omega)), a1, nI_1]
    · show Mo_asksExtras_h63 0 (nI t) (nI kd) MoS k54 (G + 1) (nI J) (nI i) (nI a) g = _
      rw [hY G a g hg]
      unfold Mo_asksExtras_b79 Mo_asksExtras_b98
      rw [if_neg (nI_ge ha (by omega)), Mo_K, Option.bind_some, a2, bind2_some, nI_1]
  · rintro F G ⟨x, T, e⟩ ⟨y, g⟩ ⟨h1, h2, h3⟩
    have h1' : x = nI (tryN q0 t kd) := h1
    have h2' : y = nI (tryN q0 t kd) := h2
    have h3' : Try n0 q0 m0 (c + 5 * tryN q0 t kd) (s + 50 * tryN q0 t kd) S0 T e g := h3
    subst h1' h2'
    have hg : mw g (11 + 7 * t + 6) = nI (q0.nd t) := (h3'.2.2.2.1 _ (by omega)).trans hrow
    obtain ⟨b1, b2, b3, b4, b5⟩ := h3'
    refine ⟨T, e, g, ?_, ?_, b1, ⟨by omega, by omega, b2.2.2⟩, b3, b4, b5⟩
    · show Ws_tries_h52 0 (nI t) (nI kd) k43 (F + 1) (nI J) (nI (tryN q0 t kd)) (nI i) (nI (tryN q0 t kd)) T e = _
      rw [Ws_tries_h52, if_pos (nI_le (Nat.le_refl _) (by omega)), nI_1]
    · show Mo_asksExtras_h63 0 (nI t) (nI kd) MoS k54 (G + 1) (nI J) (nI i) (nI (tryN q0 t kd)) g = _
      rw [hY G _ g hg]
      unfold Mo_asksExtras_b79
      rw [if_pos (nI_le (Nat.le_refl _) (by omega)), nI_1]
theorem try_out (h : Try n0 q0 m0 c s S0 S d m) (ht : t < q0.nt) (ht5 : t < 5) (hk : kd ≤ 4) {J : Nat} (hJ : J ≤ 51) (hnd : q0.nd t ≤ 6) (hrow : mw m0 (11 + 7 * t + 6) = nI (q0.nd t)) : ∃ S' d' m', Ws_tries_h43 0 (nI t) (nI kd) FU (nI J) (nI (tryN q0 t kd)) 0 S d = some ((), S', d') ∧ Mo_asksExtras_h54 0 (nI t) (nI kd) MoS FU (nI J) 0 m = some (1, m') ∧ Try n0 q0 m0 (c + 30 * 51) (s + 300 * 51) S0 S' d' m' := by
  refine loop2_FU (X := fun F (x : Int32 × Sp × Dt) => Ws_tries_h43 0 (nI t) (nI kd) F (nI J) (nI (tryN q0 t kd)) x.1 x.2.1 x.2.2) (Y := fun F (y : Int32 × Dt) => Mo_asksExtras_h54 0 (nI t) (nI kd) MoS F (nI J) y.1 y.2) (Inv := fun a x y => x.1 = nI a ∧ y.1 = nI a ∧ Try n0 q0 m0 (c + 30 * a) (s + 300 * a) S0 x.2.1 x.2.2 y.2) (P := fun o p => ∃ S' d' m', o = some ((), S', d') ∧ p = some (1, m') ∧ Try n0 q0 m0 (c + 30 * 51) (s + 300 * 51) S0 S' d' m') (x := (0, S, d)) (y := (0, m)) J (by omega) ⟨rfl, rfl, h⟩ ?_ ?_
  · rintro a ha F G ⟨x, T, e⟩ ⟨y, g⟩ ⟨h1, h2, h3⟩
    have h1' : x = nI a := h1
    have h2' : y = nI a := h2
    have h3' : Try n0 q0 m0 (c + 30 * a) (s + 300 * a) S0 T e g := h3
    subst h1' h2'
    obtain ⟨S', d', m', a1, a2, a3⟩ := try_in (J := J) h3' ht ht5 hk (show a ≤ 50 by omega) hnd hrow (Ws_tries_h43 0 (nI t) (nI kd) F) (Mo_asksExtras_h54 0 (nI t) (nI kd) MoS G)
    refine Or.inl ⟨(nI (a + 1), S', d'), (nI (a + 1), m'), ?_, ?_, rfl, rfl, a3⟩
    · show Ws_tries_h43 0 (nI t) (nI kd) (F + 1) (nI J) (nI (tryN q0 t kd)) (nI a) T e = _
      rw [Ws_tries_h43, if_neg (nI_ge ha (by omega))]
      exact a1
    · show Mo_asksExtras_h54 0 (nI t) (nI kd) MoS (G + 1) (nI J) (nI a) g = _
      rw [Mo_asksExtras_h54, if_neg (nI_ge ha (by omega))]
      exact a2
  · rintro F G ⟨x, T, e⟩ ⟨y, g⟩ ⟨h1, h2, h3⟩
    have h1' : x = nI J := h1
    have h2' : y = nI J := h2
    have h3' : Try n0 q0 m0 (c + 30 * J) (s + 300 * J) S0 T e g := h3
    subst h1' h2'
    obtain ⟨b1, b2, b3, b4, b5⟩ := h3'
    refine ⟨T, e, g, ?_, ?_, b1, ⟨by omega, by omega, b2.2.2⟩, b3, b4, b5⟩
    · show Ws_tries_h43 0 (nI t) (nI kd) (F + 1) (nI J) (nI (tryN q0 t kd)) (nI J) T e = _
      rw [Ws_tries_h43, if_pos (nI_le (Nat.le_refl _) (by omega))]
    · show Mo_asksExtras_h54 0 (nI t) (nI kd) MoS (G + 1) (nI J) (nI J) g = _
      rw [Mo_asksExtras_h54, if_pos (nI_le (Nat.le_refl _) (by omega))]
theorem tryAll (hR : Rel n S1 d1 MoS d2) : (Ws_triesAll 0 p1 p2 S1 d1 = some (0, S1, d1) ∧ Mo_asksExtras 0 p1 p2 MoS d2 = some (0, d2)) ∨ ∃ S' d' m', Ws_triesAll 0 p1 p2 S1 d1 = some (1, S', d') ∧ Mo_asksExtras 0 p1 p2 MoS d2 = some (1, m') ∧ d'.1 0 34 = m'.1 0 60 ∧ d'.1 0 35 = m'.1 0 61 ∧ WsFix S' ∧ Rel (n + 1) S' d' MoS m' := by
  have hR0 := hR
  obtain ⟨-, q, hF, hN, hC⟩ := rel_at hR
  obtain ⟨-, -, ⟨cc1, cc2, cc3⟩, -⟩ := hR0
  have h5 := hC.nt5
  unfold Mo_asksExtras
  rw [Mo_K, Option.bind_some, Mo_isTask_eq, Option.bind_some, hC.wf.2.1.1, show (4 : Int64) = (4 : Int32).toInt64 from rfl, Mo_in0]
  unfold Ws_triesAll
  rw [hC.K, Option.bind_some, hC.isTask, Option.bind_some, show (4 : Int64) = (4 : Int32).toInt64 from rfl, Ws_in0]
  simp only [Option.bind_some]
  rcases inI_nI (x := p1) (n := q.nt) (by omega) with ⟨z, -⟩ | ⟨t, t1, rfl, z⟩
  · rw [z, if_pos rfl, if_pos rfl]
    exact Or.inl ⟨rfl, rfl⟩
  rw [z, if_neg (show ¬ (1 : Int32) = 0 by decide), if_neg (show ¬ (1 : Int32) = 0 by decide)]
  rcases inI_lit (x := p2) (n := 4) (by omega) with ⟨z2, -⟩ | ⟨kd, kd1, rfl, z2⟩
  · rw [show (4 : Int32) = nI 4 from rfl, z2, if_neg (show ¬ ¬ (0 : Int32) = 0 from fun z => z rfl), if_pos rfl]
    exact Or.inl ⟨rfl, rfl⟩
  rw [show inI (nI kd) 0 4 = 1 from z2, if_pos (show ¬ (1 : Int32) = 0 by decide), if_neg (show ¬ (1 : Int32) = 0 by decide)]
  right
  have hb := hC.brd (by omega)
  obtain ⟨hn1, hn6, hnw, -⟩ := hC.tf t1
  obtain ⟨d5, hd5⟩ : ∃ d5, d5 = dI (dI d1 0 34 (-1)) 0 35 0 := ⟨_, rfl⟩
  have k5 : Kt S1 d1 d2 S1 d5 d2 0 0 := by rw [hd5]; exact (Kt.dC (by omega)).tr (Kt.dC (by omega))
  have e34 : d5.1 0 34 = -1 := by rw [hd5, dI_nk (by omega), dI_at]
  have e35 : d5.1 0 35 = 0 := by rw [hd5, dI_at]
  have hN5 := k5.relN hN hF
  have hC5 := hN5.ce hF
  obtain ⟨h9, y1, y2, y3⟩ := hC5.hF
  obtain ⟨S', f1, f2, H, r, b, s1, s2, s3, s4, s5, s6⟩ := run1 (p2 := -1) hN5 hF hb (p := h9) y2
  have hF' := s6.fix hF
  have hK' : Kt S1 d1 d2 S' f1 f2 3 18 := (k5.tr s6).mono (by omega) (by omega)
  have hf34 : f1.1 0 34 = -1 := by rw [s3.2.1.1.2 34 (by omega), dI_nk (by omega)]; exact e34
  have hf35 : f1.1 0 35 = 0 := by rw [s3.2.1.1.2 35 (by omega), dI_nk (by omega)]; exact e35
  obtain ⟨-, -, -, -, -, -, ⟨x, x1, x2, x3⟩, -⟩ := RT.lfs s3 t t1
  have x3' : f2.1 16 t = nI x := x3
  obtain ⟨J, hJ1, hJ2⟩ : ∃ J, imin 51 (nI x) = nI J ∧ J ≤ 51 := by
    unfold imin
    by_cases c : x < 51
    · rw [if_pos (show nI x < 51 from nI_lt (b := 51) c (by omega))]
      exact ⟨x, rfl, by omega⟩
    · rw [if_neg (show ¬ nI x < 51 from nI_nlt (b := 51) (by omega) (by omega))]
      exact ⟨51, rfl, by omega⟩
  obtain ⟨m8, hm8⟩ : ∃ m8, m8 = dI (dI f2 0 60 (-1)) 0 61 0 := ⟨_, rfl⟩
  have k8 : Kt S1 d1 d2 S' f1 m8 3 18 := by
    rw [hm8]
    exact (hK'.tr ((Kt.dM (by omega)).tr (Kt.dM (by omega)))).mono (by omega) (by omega)
  have hT : Try n q d2 3 18 S1 S' f1 m8 := ⟨hF', k8.2.1, ⟨by rw [hf34, hm8, dI_nk (by omega), dI_at], by rw [hf35, hm8, dI_at]⟩, fun i _ => by rw [k8.row], q, k8.relN hN hF, rfl, rfl⟩
  obtain ⟨S3, d3, m3, o1, o2, o3⟩ := try_out (J := J) hT t1 (by omega) kd1 hJ2 hn6 hnw
  obtain ⟨p1', ⟨p2', p3', p4'⟩, ⟨p5', p6'⟩, -, q', p7', -⟩ := o3
  refine ⟨S3, d3, m3, ?_, ?_, p5', p6', p1', rfl, p1', ⟨by omega, by omega, by omega⟩, q', p7'⟩
  · rw [← hd5]
    unfold Ws_tries Ws_then Ws_at
    rw [hC5.K, Option.bind_some, hC5.T, Option.bind_some, y3, Option.bind_some, Option.bind_some, s1, bind3_some, Ws_K hF', Option.bind_some, cr12 hF', ca16 hF' (show t < 5 by omega), Option.bind_some, cl_r hF' (show t < 5 by omega), bind3_some, bind3_some, cl_K hF' (show t < 5 by omega), Option.bind_some, x2, Option.bind_some, hJ1]
    unfold Ws_tries_b38
    by_cases k4 : kd = 4
    · subst k4
      have e1 : tryN q t 4 = 1 := if_pos rfl
      rw [e1] at o1
      rw [if_neg (show ¬ ¬ nI 4 = 4 from fun z => z rfl), show (1 : Int32) = nI 1 from rfl, o1, bind3_some]
    · have e1 : tryN q t kd = q.nd t := if_neg k4
      rw [e1] at o1
      rw [if_pos (show ¬ nI kd = 4 from fun z => k4 ((nI_eq (b := 4) (by omega) (by omega)).mp z)), s5.C.taskOf t1, Option.bind_some, s5.C.tK t1, Option.bind_some, show f1.1 (q.tk t) 8 = nI (q.nd t) from (s5.C.task t1).2.2.1, Ws_K hF', Option.bind_some, o1, bind3_some]
  · rw [asks_yes hb (by rw [y1]; exact s2) s6.row, bind2_some, if_pos (show ¬ (1 : Int32) = 0 by decide), MoS_R0_30, ma16 (show t < 5 by omega), Option.bind_some, x3', hJ1, ← hm8]
    exact o2
end
theorem PL_47_Rel : PL_47 Rel := by
  intro n S1 d1 S2 d2 p1 p2 hn hR
  have hU := hR.up
  obtain ⟨rfl, q, hF, hN, hC⟩ := rel_at hR
  unfold Ws_longest Mo_longest
  rw [hC.K, Option.bind_some, Mo_K, Option.bind_some]
  rcases tryAll (p1 := p1) (p2 := p2) hR with ⟨a1, a2⟩ | ⟨S', d', m', a1, a2, a3, a4, a5, a6⟩
  · rw [a1, bind3_some, if_pos rfl, a2, bind2_some, if_pos rfl]
    exact ⟨_, _, _, _, rfl, rfl, hU⟩
  · rw [a1, bind3_some, if_neg (show ¬ (1 : Int32) = 0 by decide), Ws_K a5, Option.bind_some, a2, bind2_some, if_neg (show ¬ (1 : Int32) = 0 by decide), a3]
    exact ⟨_, _, _, _, rfl, rfl, a6⟩
theorem PL_48_Rel : PL_48 Rel := by
  intro n S1 d1 S2 d2 p1 p2 hn hR
  have hU := hR.up
  obtain ⟨rfl, q, hF, hN, hC⟩ := rel_at hR
  unfold Ws_silent Mo_silent
  rw [hC.K, Option.bind_some, Mo_K, Option.bind_some]
  rcases tryAll (p1 := p1) (p2 := p2) hR with ⟨a1, a2⟩ | ⟨S', d', m', a1, a2, a3, a4, a5, a6⟩
  · rw [a1, bind3_some, if_pos rfl, a2, bind2_some, if_pos rfl]
    exact ⟨_, _, _, _, rfl, rfl, hU⟩
  · rw [a1, bind3_some, if_neg (show ¬ (1 : Int32) = 0 by decide), Ws_K a5, Option.bind_some, a2, bind2_some, if_neg (show ¬ (1 : Int32) = 0 by decide), a4]
    exact ⟨_, _, _, _, rfl, rfl, a6⟩
