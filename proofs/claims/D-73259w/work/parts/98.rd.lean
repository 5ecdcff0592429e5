/-! READING: watchers, tasks -/
set_option maxRecDepth 100000
/-- a line that is read -/
def LOk (S0 : Sp) (d0 m0 : Dt) (rd sz c ap k9 : Nat) (m : Dt) (o : Option ((Unit ⊕ Nat) × Sp × Dt)) (p : Option (Unit × Dt)) : Prop := ∃ S' d' m' a tk' nw nt ni nd tks ij, 3 * nt + ni = k9 ∧ o = some (.inl (), S', d') ∧ p = some ((), m') ∧ Rs S0 d0 m0 rd sz c a tk' S' d' m' ∧ ap ≤ a ∧ (tk' ≠ 0 → ap < a) ∧ PT S' d' (m'.1 6) rd nw nt ni nd tks ij ∧ (∀ j, j < 3 → m'.1 6 j = m.1 6 j) ∧ m'.1 6 7 = m.1 6 7
section
variable {S0 S S' T : Sp} {d0 m0 d m d' m' d'' m'' x y : Dt} {rd sz ap tk a c z nw nt ni : Nat} {nd tks ij : Nat → Nat} {w w' : Nat → Int32} {lo hi : Int32}
theorem InjW.mono {i nw' nt' : Nat} {nd' : Nat → Nat} (h : InjW w nw nt nd i) (h1 : nw ≤ nw') (h2 : nt ≤ nt') (h3 : ∀ t, t < nt → nd t ≤ nd' t) : InjW w nw' nt' nd' i := by
  rcases h with ⟨v, j, a1, a2, a3, a4, a5, a6, a7⟩ | ⟨k, t, j, tm, a1, a2, a3, a4, a5, a6, a7, a8, a9, a10⟩
  · exact Or.inl ⟨v, j, a1, a2, by omega, a4, a5, a6, a7⟩
  · refine Or.inr ⟨k, t, j, tm, a1, a2, a3, by omega, a5, a6, ?_, a8, a9, a10⟩
    rcases a7 with z | ⟨z1, n, z2, z3⟩
    · exact Or.inl z
    · exact Or.inr ⟨z1, n, by have := h3 t a4; omega, z3⟩
theorem TaskT.cong {t n b : Nat} (h : TaskT S d w t n b) (h1 : ∀ f, f < 7 → w' (11 + 7 * t + f) = w (11 + 7 * t + f)) (h2 : ∀ j, j < 12 → w' (46 + 12 * t + j) = w (46 + 12 * t + j)) : TaskT S d w' t n b := by
  obtain ⟨s1, s2, s3, s4, s5, u, b9, s6, s7, s8, s9, s10, s11⟩ := h
  have hw : ∀ k e, k < 6 → e ≤ 1 → w' (46 + 2 * (6 * t + k) + e) = w (46 + 2 * (6 * t + k) + e) := fun k e hk he => by
    have := h2 (2 * k + e) (by omega)
    rw [show 46 + 12 * t + (2 * k + e) = 46 + 2 * (6 * t + k) + e by omega] at this
    exact this
  refine ⟨s1, fun f hf => by rw [h1 f (by omega)]; exact s2 f hf, s3, by rw [h1 6 (by omega)]; exact s4, s5, u, b9, s6, s7, s8, s9, fun k hk => ?_, fun k hk => ?_⟩
  · rw [show w' (46 + 2 * (6 * t + k)) = _ from hw k 0 (by omega) (by omega)]
    exact s10 k hk
  · rw [folN_cong (w := w) (fun m hm => hw m 1 (by omega) (by omega))]
    exact s11 k hk
theorem InjT.cong {i b : Nat} (h : InjT S d w i b) (h1 : ∀ f, f < 5 → w' (106 + 5 * i + f) = w (106 + 5 * i + f)) : InjT S d w' i b := ⟨h.1, fun f hf => by rw [h1 f hf]; exact h.2 f hf⟩
/-- what stays where a list's rows or the Told's own numbers change -/
theorem PTt.lst (h : PTt S d w rd nt nd tks) (hs : S'.1 = S.1) (hr : ∀ b, rd + 8 ≤ b → S'.2.1 b = S.2.1 b) (hd : ∀ b, rd + 8 ≤ b → S.1[b]? ≠ some (13, 0) → d'.1 b = d.1 b) (h1 : ∀ j, 11 ≤ j → j < 106 → w' j = w j) (h5 : nt ≤ 5) : PTt S' d' w' rd nt nd tks := by
  intro t ht
  obtain ⟨⟨s1, s2, s3, s4, s5, u, b, s6, s7, s8, s9, s10, s11⟩, v1, v2, v3, v4, v5⟩ := h t ht
  have eu : u = tks t + 1 := Option.some.inj (s6.symm.trans v1)
  have eb : b = tks t + 2 := Option.some.inj (s7.symm.trans v2)
  subst eu eb
  have r0 := hr (tks t) v3
  have e0 := hd (tks t) v3 (by rw [s1]; decide)
  have e1 := hd (tks t + 1) (by omega) (by rw [s8]; decide)
  have e2 := hd (tks t + 2) (by omega) (by rw [s9]; decide)
  refine ⟨TaskT.cong (w := w) ⟨by rw [hs]; exact s1, fun f hf => by rw [e0]; exact s2 f hf, by rw [e0]; exact s3, s4, s5, tks t + 1, tks t + 2, by rw [r0]; exact s6, by rw [r0]; exact s7, by rw [hs]; exact s8, by rw [hs]; exact s9, fun n hn => by rw [e1]; exact s10 n hn, fun k hk => by rw [e2]; exact s11 k hk⟩ (fun f hf => h1 _ (by omega) (by omega)) (fun j hj => h1 _ (by omega) (by omega)), by rw [r0]; exact v1, by rw [r0]; exact v2, v3, v4, fun k a9 b9 => by rw [e2]; exact v5 k a9 b9⟩
theorem PTi.lst (h : PTi S d w ni ij) (hs : S'.1 = S.1) (hd : ∀ b, S.1[b]? = some (13, 0) → d'.1 b = d.1 b) (h1 : ∀ j, 106 ≤ j → j < 106 + 5 * ni → w' j = w j) : PTi S' d' w' ni ij := by
  intro i hi
  obtain ⟨s1, s2⟩ := h i hi
  exact ⟨by rw [hs]; exact s1, fun f hf => by rw [hd _ s1, h1 _ (by omega) (by omega)]; exact s2 f hf⟩
theorem PTd.lst (h : PTd S rd) (hs : S'.1 = S.1) (hr : S'.2.1 (rd + 2) = S.2.1 (rd + 2)) : PTd S' rd := by
  obtain ⟨p1, p2, p3, p4, p5⟩ := h
  exact ⟨by rw [hs]; exact p1, by rw [hr]; exact p2, by rw [hr]; exact p3, by rw [hr]; exact p4, by rw [hs]; exact p5⟩
theorem PT.nd13 (h : PT S d w rd nw nt ni nd tks ij) (hr : S.1[rd]? = some (10, 0)) {b : Nat} (hb : S.1[b]? = some (13, 0)) : b ≠ rd ∧ b ≠ rd + 2 ∧ b ≠ rd + 3 ∧ b ≠ rd + 4 ∧ b ≠ rd + 5 ∧ b ≠ rd + 6 ∧ b ≠ rd + 7 := by
  obtain ⟨⟨p1, p2, p3, p4, p5⟩, ⟨l1, l2, l3, -⟩, ⟨k1, k2, k3, -⟩, -⟩ := h
  have no : ∀ (x : Nat) (sh : Nat × Nat), S.1[x]? = some sh → sh.1 ≠ 13 → b ≠ x := fun x sh hx h13 z => by
    rw [z, hx] at hb
    exact h13 (congrArg Prod.fst (Option.some.inj hb))
  exact ⟨no _ _ hr (by decide), no _ _ p1 (by decide), no _ _ l1 (by decide), no _ _ l3 (by decide), no _ _ k1 (by decide), no _ _ k3 (by decide), no _ _ p5 (by decide)⟩
/-- a watcher is noted -/
theorem watch_fin (h : Rs S0 d0 m0 rd sz c ap tk S d m) (hp : PT S d (m.1 6) rd nw nt ni nd tks ij) (hw3 : nw < 3) {r : Int32} (hr : (nw = 0 ∧ r = -1) ∨ ∃ u, u < nw ∧ r = nI u) : ∃ d' m', Re_watcherLine_b81 rd r (nI nw) (S.2.1 (rd + 2) 2) S d = some (.inl (), S, d') ∧ Mo_readWatcher_b46 0 MoS r m = some ((), m') ∧ Rs S0 d0 m0 rd sz c ap tk S d' m' ∧ PT S d' (m'.1 6) rd (nw + 1) nt ni nd tks ij ∧ (∀ j, j < 3 → m'.1 6 j = m.1 6 j) ∧ m'.1 6 7 = m.1 6 7 := by
  have hr0 := h.1.2.2.1
  obtain ⟨z1, l9, k9, hT, hI, ⟨y1, y2, y3, y4, y5, y6, y7⟩, ⟨x1, x2, x3, x4, x5, x6, x7⟩⟩ := hp
  have hp : PT S d (m.1 6) rd nw nt ni nd tks ij := ⟨z1, l9, k9, hT, hI, ⟨y1, y2, y3, y4, y5, y6, y7⟩, ⟨x1, x2, x3, x4, x5, x6, x7⟩⟩
  have e6 : d.1 (rd + 2) 6 = nI nw := y5.trans x1.1
  have m3 : m.1 6 3 = nI nw := x1.1
  have dr : ∀ b, b ≠ rd + 7 → b ≠ rd + 2 → (dI (dI d (rd + 7) nw r) (rd + 2) 6 (nI (nw + 1))).1 b = d.1 b := fun b h1 h2 => by rw [dI_ne h2, dI_ne h1]
  have d2 : ∀ f, f ≠ 6 → (dI (dI d (rd + 7) nw r) (rd + 2) 6 (nI (nw + 1))).1 (rd + 2) f = d.1 (rd + 2) f := fun f hf => by rw [dI_nk (by omega), dI_nk (by omega)]
  have mr : ∀ j, j ≠ 8 + nw → j ≠ 3 → (dI (dI m 6 (8 + nw) r) 6 3 (nI (nw + 1))).1 6 j = m.1 6 j := fun j h1 h2 => by rw [dI_nk (by omega), dI_nk (by omega)]
  refine ⟨dI (dI d (rd + 7) nw r) (rd + 2) 6 (nI (nw + 1)), dI (dI m 6 (8 + nw) r) 6 3 (nI (nw + 1)), ?_, ?_, h.wr (fun b hb => dr b (by omega) (by omega)) (fun b hb => by rw [dI_ne hb, dI_ne hb]), ?_, fun j hj => mr j (by omega) (by omega), mr 7 (by omega) (by omega)⟩
  · unfold Re_watcherLine_b81
    rw [z1.2.2.2.1, aix_nI z1.2.2.2.2 hw3 (by omega), Option.bind_some, Option.bind_some, h.1.K, Option.bind_some, hp.K h.1, Option.bind_some, dI_nk (show ¬ (rd + 2 = rd + 7 ∧ 6 = nw) by omega), e6, nI_1, Option.bind_some]
  · unfold Mo_readWatcher_b46
    rw [Mo_K, Option.bind_some, show aix MoS 50 (MoS.2.1 0 14) 3 = some (6, 3) from Mf 3 (by omega), Option.bind_some, m3, show (8 : Int32) + nI nw = nI (8 + nw) from nI_add 8 nw, Mf (8 + nw) (by omega), Option.bind_some, Option.bind_some, dI_nk (show ¬ ((6 : Nat) = 6 ∧ 3 = 8 + nw) by omega), m3, nI_1, Option.bind_some]
  · refine ⟨z1, ?_, ?_, hT.lst rfl (fun _ _ => rfl) (fun b hb _ => dr b (by omega) (by omega)) (fun j h1 h2 => mr j (by omega) (by omega)) x2.2, hI.lst rfl (fun b hb => ?_) (fun j h1 h2 => mr j (by omega) (by omega)), ⟨fun v hv => ?_, ?_, ?_, ?_, ?_, ?_, ?_⟩, ⟨?_, by omega⟩, ⟨?_, x2.2⟩, ⟨?_, x3.2.1, ?_⟩, fun v hv => ?_, fun t ht => ?_, fun i hi => ?_, fun t h1 h2 => ?_⟩
    · obtain ⟨l1, l2, l3, l4, l5, l6, l7⟩ := l9
      exact ⟨l1, l2, l3, by rw [dr _ (by omega) (by omega)]; exact l4, l5, l6, l7⟩
    · obtain ⟨l1, l2, l3, l4, l5, l6, l7⟩ := k9
      exact ⟨l1, l2, l3, by rw [dr _ (by omega) (by omega)]; exact l4, l5, l6, l7⟩
    · obtain ⟨b1, b2, b3, b4, b5, b6, b7⟩ := hp.nd13 hr0 hb
      exact dr b b7 b2
    · rw [dI_ne (show rd + 7 ≠ rd + 2 by omega), dI_nk (show ¬ ((6 : Nat) = 6 ∧ 8 + v = 3) by omega)]
      by_cases e : v = nw
      · subst e
        rw [dI_at, dI_at]
      · rw [dI_nk (by omega), dI_nk (by omega)]
        exact y1 v (by omega)
    · rw [d2 3 (by omega), mr 0 (by omega) (by omega)]; exact y2
    · rw [d2 4 (by omega), mr 1 (by omega) (by omega)]; exact y3
    · rw [d2 5 (by omega), mr 2 (by omega) (by omega)]; exact y4
    · rw [dI_at, dI_at]
    · rw [d2 7 (by omega), mr 5 (by omega) (by omega)]; exact y6
    · rw [d2 8 (by omega), mr 7 (by omega) (by omega)]; exact y7
    · exact dI_at
    · rw [mr 4 (by omega) (by omega)]; exact x2.1
    · rw [mr 5 (by omega) (by omega)]; exact x3.1
    · rw [mr 6 (by omega) (by omega)]; exact x3.2.2
    · by_cases e : v = nw
      · subst e
        rcases hr with ⟨h1, h2⟩ | ⟨u, h1, h2⟩
        · left
          subst h1
          refine ⟨rfl, ?_⟩
          rw [dI_nk (by omega), dI_at]
          exact h2
        · right
          refine ⟨u, h1, ?_⟩
          rw [dI_nk (by omega), dI_at]
          exact h2
      · rcases x4 v (by omega) with ⟨h1, h2⟩ | ⟨u, h1, h2⟩
        · left
          refine ⟨h1, ?_⟩
          rw [mr 8 (by omega) (by omega)]
          exact h2
        · right
          refine ⟨u, h1, ?_⟩
          rw [mr _ (by omega) (by omega)]
          exact h2
    · obtain ⟨g1, ⟨a, p, o, c9, le, mo, g2, g3, g4⟩, g5⟩ := x5 t ht
      refine ⟨⟨g1.1, by rw [mr _ (by omega) (by omega)]; exact g1.2⟩, ⟨a, p, o, c9, le, mo, by rw [mr _ (by omega) (by omega)]; exact g2, by omega, ?_⟩, fun n hn => ?_⟩
      · rw [mr (11 + 7 * t + 1) (by omega) (by omega), mr (11 + 7 * t + 2) (by omega) (by omega), mr (11 + 7 * t + 3) (by omega) (by omega), mr (11 + 7 * t + 4) (by omega) (by omega), mr (11 + 7 * t + 5) (by omega) (by omega)]
        exact g4
      · rw [mr (46 + 2 * (6 * t + n)) (by omega) (by omega), mr (46 + 2 * (6 * t + n) + 1) (by omega) (by omega)]
        exact g5 n hn
    · exact ((x6 i hi).mono (Nat.le_succ _) (Nat.le_refl _) (fun _ _ => Nat.le_refl _)).cong (fun f hf => mr _ (by omega) (by omega))
    · rw [mr _ (by omega) (by omega)]; exact x7 t h1 h2
theorem watcher_eq (h : Rs S0 d0 m0 rd sz c ap tk S d m) (hp : PT S d (m.1 6) rd nw nt ni nd tks ij) : OF S0 d0 m0 (c + 1) () (Re_watcherLine rd S d) (Mo_readWatcher 0 MoS m) ∨ LOk S0 d0 m0 rd sz c ap (3 * nt + ni) m (Re_watcherLine rd S d) (Mo_readWatcher 0 MoS m) := by
  have hr := h.1.2.2.1
  have hx := hp.wp
  have hm3 : m.1 6 3 = nI nw := hx.1.1
  have hw3 := hx.1.2
  have e6 : d.1 (rd + 2) 6 = nI nw := hp.pf.2.2.2.2.1.trans hm3
  obtain ⟨o, ho⟩ : ∃ o, o = Re_watcherLine rd S d := ⟨_, rfl⟩
  obtain ⟨p, hq⟩ : ∃ p, p = Mo_readWatcher 0 MoS m := ⟨_, rfl⟩
  rw [← ho, ← hq]
  have f3 : aix MoS 50 (MoS.2.1 0 14) 3 = some (6, 3) := Mf 3 (by omega)
  unfold Re_watcherLine at ho
  rw [h.1.K, Option.bind_some, hp.K h.1, Option.bind_some, e6] at ho
  unfold Mo_readWatcher at hq
  rw [Mo_K, Option.bind_some] at hq
  by_cases c3 : nw = 3
  · subst c3
    obtain ⟨z, S', d', m', g1, g2, g3⟩ := can_full (γ := Unit) h (k := 3) (M := 3) (by omega) hm3
    rw [if_neg (show ¬ ¬ nI 3 = 3 from fun z => z rfl), g1] at ho
    rw [show (3 : Int32) = nI 3 from rfl, show (nI 3 : Int32) = 3 from rfl, show Mo_canTake 0 3 3 MoS m = _ from g2, bind2_some, if_neg (show ¬ ¬ (0 : Int32) = 0 from fun z => z rfl)] at hq
    exact Or.inl ⟨z, S', d', m', ho, hq, g3⟩
  have c3' : ¬ nI nw = 3 := fun z => c3 ((nI_eq (b := 3) (by omega) (by omega)).mp z)
  obtain ⟨d1, m1, a1, t1, n1, n2, n3, n4, n5, n6⟩ := next_rs h
  have p1 := hp.nx hr n6
  have hc := can_go h.2.2.1 (k := 3) (M := 3) (by omega) (by rw [hm3]; exact c3') n2 n3.2.2.1
  rw [if_pos c3', n1, bind2_some] at ho
  have e61 : d1.1 (rd + 2) 6 = nI nw := (congrFun (n6.1 (rd + 2) (by omega)) 6).trans e6
  have m31 : m1.1 6 3 = nI nw := (congrFun (n6.2.2.1 6 (by omega)) 3).trans hm3
  rw [show Mo_canTake 0 3 3 MoS m = _ from hc, bind2_some, if_pos (show ¬ (1 : Int32) = 0 by decide), f3, Option.bind_some, m31] at hq
  rw [e61] at ho
  have hb46 : ∀ (mm : Dt) (r : Int32), mm.1 6 3 = nI nw → Safe mm (Mo_readWatcher_b46 0 MoS r mm) := by
    intro mm r h3 _
    unfold Mo_readWatcher_b46
    rw [Mo_K, Option.bind_some, f3, Option.bind_some, h3, show (8 : Int32) + nI nw = nI (8 + nw) from nI_add 8 nw, Mf (8 + nw) (by omega), Option.bind_some, Option.bind_some, Option.bind_some]
    exact ⟨_, rfl, fun a ha => by rw [dI_ne ha, dI_ne ha]⟩
  by_cases c0 : nw = 0
  · have c0' : ¬ ¬ nI nw = 0 := fun z => z (by rw [c0]; rfl)
    rw [if_neg c0'] at ho hq
    rcases needs_eq n3 (i := 11) (by omega) with ⟨z, S', d', m', g1, g2, g3, g4⟩ | ⟨d2, m2, a2, t2, q1, q2, q3, q4, q5, q6⟩
    · rw [g1, bindE_r] at ho
      rw [g2, bind2_some] at hq
      refine Or.inl (OF.of ho g3 ?_)
      rw [hq]
      exact hb46 m' _ ((congrFun g4 3).trans m31)
    · have p2 := p1.nx hr q6
      have e62 : d2.1 (rd + 2) 6 = nI nw := (congrFun (q6.1 (rd + 2) (by omega)) 6).trans e61
      rw [q1, bindE_l] at ho
      unfold Re_watcherLine_b37 at ho
      rw [h.1.K, Option.bind_some, p2.K q3.1, Option.bind_some, e62, if_neg c0'] at ho
      rw [q2, bind2_some] at hq
      obtain ⟨d3, m3, r1, r2, r3, r4, r5, r6⟩ := watch_fin q3 p2 (by omega) (r := -1) (Or.inl ⟨c0, rfl⟩)
      rw [r1] at ho
      rw [r2] at hq
      exact Or.inr ⟨S, d3, m3, a2, t2, nw + 1, nt, ni, nd, tks, ij, rfl, ho, hq, r3, by omega, fun z => by have := q5 z; omega, r4, fun j hj => by rw [r5 j hj, q6.2.2.1 6 (by omega), n6.2.2.1 6 (by omega)], by rw [r6, q6.2.2.1 6 (by omega), n6.2.2.1 6 (by omega)]⟩
  · have c0' : ¬ nI nw = 0 := nI_ne0 (by omega) (by omega)
    rw [if_pos c0'] at ho hq
    unfold Re_watcherLine_b37 at ho
    rw [h.1.K, Option.bind_some, p1.K n3.1, Option.bind_some, e61, if_pos c0'] at ho
    rcases num_eq n3 (i := 12) (lo := 0) (hi := nI nw - 1) (by omega) with ⟨z, S', d', m', g1, g2, g3, g4⟩ | ⟨v, d2, m2, a2, t2, q1, q2, q3, q4, q5, q6, q7, q8⟩
    · rw [g1, bindE_r] at ho
      rw [g2, bind2_some] at hq
      refine Or.inl (OF.of ho g3 ?_)
      rw [hq]
      exact hb46 m' _ ((congrFun g4 3).trans m31)
    · have p2 := p1.nx hr q8
      rw [q1, bindE_l] at ho
      rw [q2, bind2_some] at hq
      have hv : v < nw := by
        rcases inI_nI (x := nI v) (n := nw) (by omega) with ⟨z, -⟩ | ⟨t, z1, z2, -⟩
        · rw [z] at q4
          exact absurd q4 (by decide)
        · have := (nI_eq (by omega) (by omega)).mp z2
          omega
      obtain ⟨d3, m3, r1, r2, r3, r4, r5, r6⟩ := watch_fin q5 p2 (by omega) (r := nI v) (Or.inr ⟨v, hv, rfl⟩)
      rw [r1] at ho
      rw [r2] at hq
      exact Or.inr ⟨S, d3, m3, a2, t2, nw + 1, nt, ni, nd, tks, ij, rfl, ho, hq, r3, by omega, fun z => by have := q7 z; omega, r4, fun j hj => by rw [r5 j hj, q8.2.2.1 6 (by omega), n6.2.2.1 6 (by omega)], by rw [r6, q8.2.2.1 6 (by omega), n6.2.2.1 6 (by omega)]⟩
end
