/-! THE RUN: jobs begin -/
set_option maxRecDepth 100000
section
variable {w : Nat → Int32} {q : TdP} {u k kh kg r b t : Nat} {kj : Nat → Nat} {S0 S S' : Sp} {d0 m0 e1 e2 f1 f2 : Dt} {op cl : Nat → Nat} {W : Int32} {F0 : Int32 × (Nat → Int32)}
theorem gz_ok {y : Int32} (h : ¬ y = 0) : gz y = some () := if_neg h
theorem RT.up (h : RT S0 d0 m0 w q W F0 u k kh kj kg r b S e1 e2) {kj' : Nat → Nat} {kg' : Nat} (hk : ∀ t, t < q.nt → kj t ≤ kj' t) (hg : kg ≤ kg') : RT S0 d0 m0 w q W F0 u k kh kj' kg' r b S e1 e2 := by
  obtain ⟨g1, g2, g3, g4, g5⟩ := h
  exact ⟨g1, g2, g3, fun t ht => (g4 t ht).mono (hk t ht) hg (Nat.le_refl _), g5⟩
theorem starts_eq {z : Nat} {d : Dt} (hK : isK S 8 (some z) = some z) : ∃ d', Li_starts z S d = some ((), d') ∧ (∀ v, v ≠ z → d'.1 v = d.1 v) ∧ d'.2 = d.2 ∧ d'.1 z 0 = 1 ∧ d'.1 z 2 = d.1 z 9 ∧ d'.1 z 9 = d.1 z 9 + 1 ∧ d'.1 z 3 = 0 ∧ d'.1 z 4 = 0 ∧ ∀ f, f ≠ 0 → f ≠ 2 → f ≠ 9 → f ≠ 3 → f ≠ 4 → d'.1 z f = d.1 z f := by
  unfold Li_starts
  rw [hK]
  refine ⟨_, rfl, fun v hv => ?_, rfl, ?_, ?_, ?_, ?_, ?_, fun f h1 h2 h3 h4 h5 => ?_⟩
  · funext j
    simp [dI, u2, hv]
  all_goals simp_all [dI, u2]
theorem beg_m (d : Dt) (i x9 k : Nat) : ∃ d', d' = (dI (dI (dI (if 51 ≤ x9 then dI d 15 i (nI x9) else dI (dI d 15 i (nI x9)) 33 (51 * i + x9) (nI k)) 16 i (nI (x9 + 1))) 17 i 0) 18 i 0) ∧ d'.2 = d.2 ∧ (∀ v, v ≠ 15 → v ≠ 16 → v ≠ 17 → v ≠ 18 → v ≠ 33 → d'.1 v = d.1 v) ∧ (∀ v t, t ≠ i → v ≠ 33 → d'.1 v t = d.1 v t) ∧ d'.1 15 i = nI x9 ∧ d'.1 16 i = nI (x9 + 1) ∧ d'.1 17 i = 0 ∧ d'.1 18 i = 0 ∧ ∀ j, d'.1 33 j = if x9 < 51 ∧ j = 51 * i + x9 then nI k else d.1 33 j := by
  by_cases h : 51 ≤ x9
  · rw [if_pos h]
    refine ⟨_, rfl, rfl, fun v h1 h2 h3 h4 h5 => ?_, fun v t h1 h2 => ?_, ?_, ?_, ?_, ?_, fun j => ?_⟩
    · funext j
      simp [dI, u2, h1, h2, h3, h4]
    · simp [dI, u2, h1]
    all_goals simp [dI, u2]
    intro h9; omega
  · rw [if_neg h]
    refine ⟨_, rfl, rfl, fun v h1 h2 h3 h4 h5 => ?_, fun v t h1 h2 => ?_, ?_, ?_, ?_, ?_, fun j => ?_⟩
    · funext j
      simp [dI, u2, h1, h2, h3, h4, h5]
    · simp [dI, u2, h1, h2]
    all_goals simp [dI, u2]
    simp [show x9 < 51 by omega]
theorem begin1 (h0 : RE S0 d0 m0 w q op cl) (h : RT S0 d0 m0 w q W F0 u k kh kj kg r b S e1 e2) (hk : k < 200) {i : Nat} (hi : i < q.nt) (hj : kj i = k) : ∃ f1 f2, Ws_begins 0 (nI i) S e1 = some ((), f1) ∧ (∀ G, Mo_begins_h2 0 (nI k) MoS (G + 1) (nI i) e2 = Mo_begins_h2 0 (nI k) MoS G (nI (i + 1)) f2) ∧ RT S0 d0 m0 w q W F0 u k kh (fun t => if t = i then k + 1 else kj t) kg r b S f1 f2 ∧ f2.1 0 58 = e2.1 0 58 ∧ f2.1 36 = e2.1 36 ∧ f1.1 17 = e1.1 17 := by
  have hR := h.re h0
  have hC := hR.C
  have h5 := hC.nt5
  have hno : RT S0 d0 m0 w q W F0 u k kh (fun t => if t = i then k + 1 else kj t) kg r b S e1 e2 := h.up (fun t _ => by split <;> (try (rename_i e9; subst e9)) <;> omega) (Nat.le_refl _)
  obtain ⟨g1, g2, ⟨g3, -⟩, g4, g5, g6, -⟩ := h
  have hl35 := Ws_len h0.C.F
  have hL := g4 i hi
  obtain ⟨l1, l2, ⟨x5, y5, l5, l5'⟩, l4, l6, l7, ⟨x9, y9, l9, l9'⟩, -⟩ := hL
  have l1' : (e1.1 (30 + i) 0 = 0 ∧ e2.1 15 i = -1) ∨ (e1.1 (30 + i) 0 = 1 ∧ ∃ j, e2.1 15 i = nI j ∧ j < 300) := by
    rcases l1 with l1 | ⟨a, j, n, i1, i2, i3, i4, -⟩
    · exact Or.inl l1
    · exact Or.inr ⟨a, j, i4, by omega⟩
  have l9'' : e2.1 16 i = nI x9 := l9'
  have l5'' : e2.1 14 i = nI x5 := l5'
  obtain ⟨hpw, hp4, hp60⟩ := hC.per hi
  have htf := (hC.task hi).2.1 1 (by omega)
  have e9 : ∀ G, Mo_begins_h2 0 (nI k) MoS (G + 1) (nI i) e2 = if nI k < nI x5 then Mo_begins_h2 0 (nI k) MoS G (nI (i + 1)) e2 else if ¬ irm (nI k) (nI (pN w i)) = 0 then Mo_begins_h2 0 (nI k) MoS G (nI (i + 1)) e2 else if e2.1 15 i = -1 then Mo_begins_h2 0 (nI k) MoS G (nI (i + 1)) (dI (dI (dI (if 51 ≤ x9 then dI e2 15 i (nI x9) else dI (dI e2 15 i (nI x9)) 33 (51 * i + x9) (nI k)) 16 i (nI (x9 + 1))) 17 i 0) 18 i 0) else Mo_begins_h2 0 (nI k) MoS G (nI (i + 1)) e2 := by
    intro G
    rw [Mo_begins_h2, Mo_K, Option.bind_some, hR.m4.1, Option.bind_some, hR.m4.2, if_neg (nI_ge hi (by omega)), MoS_R0_28, ma14 (show i < 5 by omega), Option.bind_some, l5'', nI_1]
    by_cases c1 : nI k < nI x5
    · rw [if_pos c1, if_pos c1]
    rw [if_neg c1, if_neg c1, hR.per hi, Option.bind_some, gz_ok (nI_ne0 (by omega) (by omega)), Option.bind_some]
    by_cases c2 : irm (nI k) (nI (pN w i)) = 0
    · rw [if_neg (fun z => z c2), if_neg (fun z => z c2), MoS_R0_29, ma15 (show i < 5 by omega), Option.bind_some]
      by_cases c3 : e2.1 15 i = -1
      · rw [if_pos c3, if_pos c3, MoS_R0_30, ma16 (show i < 5 by omega), Option.bind_some, Option.bind_some, l9'']
        have e3 : (dI e2 15 i (nI x9)).1 16 i = nI x9 := by rw [dI_ne (by omega)]; exact l9''
        have hfin : ∀ d : Dt, d.1 16 i = nI x9 → Mo_begins_b85 0 (nI k) MoS (Mo_begins_h2 0 (nI k) MoS G) (nI i) d = Mo_begins_h2 0 (nI k) MoS G (nI (i + 1)) (dI (dI (dI d 16 i (nI (x9 + 1))) 17 i 0) 18 i 0) := by
          intro d hd
          unfold Mo_begins_b85
          rw [Mo_K, Option.bind_some, MoS_R0_30, ma16 (show i < 5 by omega), Option.bind_some, Option.bind_some, hd, MoS_R0_31, ma17 (show i < 5 by omega), Option.bind_some, Option.bind_some, MoS_R0_32, ma18 (show i < 5 by omega), Option.bind_some, Option.bind_some, nI_1, nI_1]
        rw [e3]
        by_cases c4 : 51 ≤ x9
        · rw [if_pos (show (51 : Int32) ≤ nI x9 from nI_le (a := 51) c4 (by omega)), if_pos c4, hfin _ e3]
        · rw [if_neg (show ¬ (51 : Int32) ≤ nI x9 from nI_ge (b := 51) (by omega) (by omega)), if_neg c4, MoS_R0_47, show (51 : Int32) * nI i + nI x9 = nI (51 * i + x9) from by rw [nlit, nI_mul, nI_add], ma33 (show 51 * i + x9 < 255 by omega), Option.bind_some, Option.bind_some, hfin _ (by rw [dI_ne (by omega)]; exact e3)]
      · rw [if_neg c3, if_neg c3]
    · rw [if_pos c2, if_pos c2]
  unfold Ws_begins
  rw [hC.K, Option.bind_some, cr12 hC.F, ca16 hC.F (show i < 5 by omega), Option.bind_some, Option.bind_some, cl_r hC.F (show i < 5 by omega), cl_K hC.F (show i < 5 by omega), Option.bind_some, hC.taskOf hi, Option.bind_some, hC.tK hi, Option.bind_some, g3, l5, htf, hpw, gz_ok (nI_ne0 (by omega) (by omega)), Option.bind_some]
  rcases l1' with ⟨z1, z2⟩ | ⟨z1, j, z2, z3⟩
  rotate_left
  · rw [z1, if_pos (show ¬ (1 : Int32) = 0 by decide)]
    refine ⟨e1, e2, rfl, fun G => ?_, hno, rfl, rfl, rfl⟩
    rw [e9, z2, if_neg (show ¬ nI j = -1 from m1_pos (by omega))]
    split
    · rfl
    · split <;> rfl
  rw [z1, if_neg (fun z => z rfl)]
  by_cases c1 : nI k < nI x5
  · rw [if_pos c1]
    refine ⟨e1, e2, rfl, fun G => ?_, hno, rfl, rfl, rfl⟩
    rw [e9, if_pos c1]
  rw [if_neg c1]
  by_cases c2 : irm (nI k) (nI (pN w i)) = 0
  rotate_left
  · rw [if_neg c2]
    refine ⟨e1, e2, rfl, fun G => ?_, hno, rfl, rfl, rfl⟩
    rw [e9, if_neg c1, if_pos c2]
  rw [if_pos c2]
  obtain ⟨d, s1, s2, s3, t0, t2, t9, t3, t4, tt⟩ := starts_eq (d := e1) (cl_K hC.F (show i < 5 by omega))
  rw [s1, bind2_some]
  have hCd : CE S d w q := hC.go (fun a ha hr => s2 a (by omega))
  obtain ⟨f1, p1, p2, p3, p4⟩ := set_eq hCd hi
  obtain ⟨f2, j0, j1, j2, j3, j15, j16, j17, j18, j33⟩ := beg_m e2 i x9 k
  refine ⟨f1, f2, p1, fun G => ?_, ?_, ?_, ?_, (p2 17 (by omega)).trans (s2 17 (by omega))⟩
  · rw [e9, if_neg c1, if_neg (fun z => z c2), if_pos z2, j0]
  · have hP : ∀ v, v ≠ 27 → v ≠ 30 + i → f1.1 v = e1.1 v := fun v h1 h2 => (p2 v h1).trans (s2 v h2)
    have hP2 : f1.2 = e1.2 := p3.trans s3
    refine RT.lives hno (KrC.by g2.1 (fun v hv h1 => hP v (by omega) (by omega)) (fun f hf => by rw [hP 0 (by omega) (by omega)])) (KrM.by g2.2 (fun v h1 h2 => j2 v (by omega) (by omega) (by omega) (by omega) (by omega)) (fun f hf => by rw [j2 0 (by omega) (by omega) (by omega) (by omega) (by omega)])) (fun t ht => ?_) ?_ (fun f _ _ => by rw [hP 0 (by omega) (by omega)]) (fun v h1 h2 _ => hP v (by omega) (by omega)) (fun f _ _ _ => by rw [j2 0 (by omega) (by omega) (by omega) (by omega) (by omega)]) (fun v h1 h2 h3 h4 h5 h6 => j2 v (by omega) (by omega) (by omega) (by omega) (by omega))
    · by_cases et : t = i
      · subst et
        rw [if_pos rfl]
        have hLt := g4 t ht
        rw [hj] at hLt
        have p2' : f1.1 (30 + t) = d.1 (30 + t) := p2 (30 + t) (by omega)
        refine hLt.starts (by have := hC.tf ht; omega) (by rw [hP2]) (by rw [hP2]) j1 (by rw [p2']; exact t0) (by rw [p2']; exact t2) (by rw [p2']; exact t9) (by rw [p2']; exact t3) (by rw [p2']; exact t4) (fun f h1 h2 h3 h4 h5 => by rw [p2']; exact tt f h1 h2 h3 h4 h5) (by rw [j15]; exact l9''.symm) (by rw [j16, l9'', nI_1]) j17 j18 (fun p h1 h2 => ?_)
        rw [j2 p (by omega) (by omega) (by omega) (by omega) (by omega)]
      · rw [if_neg et]
        exact (g4 t ht).same (hP (30 + t) (by omega) (by omega)) (by rw [hP2]) (by rw [hP2]) (fun p h1 h2 => j3 p t et (by omega)) (by rw [j1]) (by rw [j1]) (by rw [j1])
    · intro x hx s j n1 n2 n3 n4 n5
      rw [p4 x hx, j33, t2, l9, n2, n4, s2 0 (by omega), g3, s2 27 (by omega)]
      have hst := g6 x hx s j n1 n2 n3 n4 n5
      by_cases c5 : s = i
      · subst c5
        by_cases c6 : j = x9
        · subst c6
          rw [if_pos ⟨n1, rfl, rfl⟩, if_pos ⟨by omega, rfl⟩]
        · rw [if_neg (fun z => c6 ((nI_eq (by omega) (by omega)).mp z.2.2)), if_neg (fun z => c6 (by omega))]
          exact hst
      · rw [if_neg (fun z => c5 ((nI_eq (by omega) (by omega)).mp z.2.1)), if_neg (fun z => c5 (by omega))]
        exact hst
  · rw [j2 0 (by omega) (by omega) (by omega) (by omega) (by omega)]
  · rw [j2 36 (by omega) (by omega) (by omega) (by omega) (by omega)]
theorem begins_eq (h0 : RE S0 d0 m0 w q op cl) (h : RT S0 d0 m0 w q W F0 u k kh (fun _ => k) kg r b S e1 e2) (hk : k < 200) : ∃ f1 f2, Ws_goes_h2 0 FU 0 S e1 = bindE (Ws_works 0 S f1) (fun v9 S9 d9 => Ws_goes_b112 0 (some v9) S9 d9) (fun _ S3 d4 => Ws_goes_h27 0 FU 0 S3 d4) ∧ Mo_begins 0 (nI k) MoS e2 = some ((), f2) ∧ RT S0 d0 m0 w q W F0 u k kh (fun _ => k + 1) kg r b S f1 f2 ∧ f2.1 0 58 = e2.1 0 58 ∧ f2.1 36 = e2.1 36 ∧ f1.1 17 = e1.1 17 := by
  have h5 := h0.C.nt5
  unfold Mo_begins
  refine loop2_FU (X := fun F (x : Int32 × Dt) => Ws_goes_h2 0 F x.1 S x.2) (Y := fun F (x : Int32 × Dt) => Mo_begins_h2 0 (nI k) MoS F x.1 x.2) (Inv := fun i x y => x.1 = nI i ∧ y.1 = nI i ∧ RT S0 d0 m0 w q W F0 u k kh (fun t => if t < i then k + 1 else k) kg r b S x.2 y.2 ∧ y.2.1 0 58 = e2.1 0 58 ∧ y.2.1 36 = e2.1 36 ∧ x.2.1 17 = e1.1 17) (P := fun o p => ∃ f1 f2, o = bindE (Ws_works 0 S f1) (fun v9 S9 d9 => Ws_goes_b112 0 (some v9) S9 d9) (fun _ S3 d4 => Ws_goes_h27 0 FU 0 S3 d4) ∧ p = some ((), f2) ∧ RT S0 d0 m0 w q W F0 u k kh (fun _ => k + 1) kg r b S f1 f2 ∧ f2.1 0 58 = e2.1 0 58 ∧ f2.1 36 = e2.1 36 ∧ f1.1 17 = e1.1 17) (x := (0, e1)) (y := (0, e2)) q.nt (by omega) ⟨rfl, rfl, h.up (fun t _ => by split <;> omega) (Nat.le_refl _), rfl, rfl, rfl⟩ ?_ ?_
  · rintro i hi F G ⟨x, d⟩ ⟨y, m⟩ ⟨hx, hy, g1, g2, g3, g4⟩
    have hx' : x = nI i := hx
    have hy' : y = nI i := hy
    subst hx' hy'
    obtain ⟨f1, f2, n1, n2, n3, n4, n5, n6⟩ := begin1 h0 g1 hk hi (by rw [if_neg (by omega)])
    have hC := (g1.re h0).C
    left
    refine ⟨(nI (i + 1), f1), (nI (i + 1), f2), ?_, n2 G, rfl, rfl, n3.up (fun t _ => by split <;> split <;> (try split) <;> omega) (Nat.le_refl _), n4.trans g2, n5.trans g3, n6.trans g4⟩
    show Ws_goes_h2 0 (F + 1) (nI i) S d = _
    rw [Ws_goes_h2, hC.K, Option.bind_some, hC.tasks, Option.bind_some, if_neg (nI_ge hi (by omega)), n1, bind2_some, nI_1]
  · rintro F G ⟨x, d⟩ ⟨y, m⟩ ⟨hx, hy, g1, g2, g3, g4⟩
    have hx' : x = nI q.nt := hx
    have hy' : y = nI q.nt := hy
    subst hx' hy'
    have hR := g1.re h0
    refine ⟨d, m, ?_, ?_, g1.up (fun t ht => by split <;> omega) (Nat.le_refl _), g2, g3, g4⟩
    · show Ws_goes_h2 0 (F + 1) (nI q.nt) S d = _
      rw [Ws_goes_h2, hR.C.K, Option.bind_some, hR.C.tasks, Option.bind_some, if_pos (nI_le (Nat.le_refl _) (by omega))]
    · show Mo_begins_h2 0 (nI k) MoS (G + 1) (nI q.nt) m = _
      rw [Mo_begins_h2, Mo_K, Option.bind_some, hR.m4.1, Option.bind_some, hR.m4.2, if_pos (nI_le (Nat.le_refl _) (by omega))]
end
