/-! READING: nodes -/
set_option maxRecDepth 100000
theorem set_or : ∀ n, n < 6 → ∀ zz, zz < 2 ^ n → ∀ r, r < n → nI zz ||| (1 <<< (nI r &&& 31)) = nI (zz ||| 2 ^ r) ∧ zz ||| 2 ^ r < 2 ^ n ∧ 0 < zz ||| 2 ^ r := by decide +kernel
section
variable {S0 S S' T : Sp} {d0 m0 d m d' m' d'' m'' x y : Dt} {rd sz ap tk a c z nw nt ni n t0 : Nat} {nd tks ij : Nat → Nat} {w w' : Nat → Int32} {lo hi u9 x9 : Int32}
theorem isOn_eq {k : Nat} (hk : k < 32) : Ws_isOn x9 (nI k) S d = some (if bitI x9 k then 1 else 0) := by
  unfold Ws_isOn
  rw [and31 hk]
  by_cases h : bitI x9 k
  · rw [if_neg (fun z => z h), if_pos h]
  · rw [if_pos h, if_neg h]
/-- a node is added to a Task -/
theorem adds_eq (hz : S.1[z]? = some (12, 0)) (h6 : S.2.1 z 6 = some (z + 1)) (h7 : S.2.1 z 7 = some (z + 2)) (hu : S.1[z + 1]? = some (50, 6)) (hb : S.1[z + 2]? = some (50, 6)) (h8 : d.1 z 8 = nI n) (hn : n < 6) : ∃ d', Ta_adds z u9 x9 S d = some ((), d') ∧ d'.1 (z + 1) n = u9 ∧ (∀ j, j ≠ n → d'.1 (z + 1) j = d.1 (z + 1) j) ∧ d'.1 z 8 = nI (n + 1) ∧ (∀ f, f ≠ 8 → d'.1 z f = d.1 z f) ∧ (∀ k, d'.1 (z + 2) k = if k < n ∧ bitI x9 k then d.1 (z + 2) k ||| (1 <<< nI n) else d.1 (z + 2) k) ∧ ∀ b, b ≠ z → b ≠ z + 1 → b ≠ z + 2 → d'.1 b = d.1 b := by
  unfold Ta_adds
  rw [isK_of hz, Option.bind_some, h6, h8, aix_nI hu hn (by omega), Option.bind_some, Option.bind_some]
  refine loop_FU (X := fun F (x : Int32 × Dt) => Ta_adds_h12 z u9 x9 S F x.1 x.2) (Inv := fun i y => y.1 = nI i ∧ y.2.1 (z + 1) n = u9 ∧ (∀ j, j ≠ n → y.2.1 (z + 1) j = d.1 (z + 1) j) ∧ (∀ f, y.2.1 z f = d.1 z f) ∧ (∀ k, y.2.1 (z + 2) k = if k < i ∧ bitI x9 k then d.1 (z + 2) k ||| (1 <<< nI n) else d.1 (z + 2) k) ∧ ∀ b, b ≠ z → b ≠ z + 1 → b ≠ z + 2 → y.2.1 b = d.1 b) (P := fun o => ∃ d', o = some ((), d') ∧ d'.1 (z + 1) n = u9 ∧ (∀ j, j ≠ n → d'.1 (z + 1) j = d.1 (z + 1) j) ∧ d'.1 z 8 = nI (n + 1) ∧ (∀ f, f ≠ 8 → d'.1 z f = d.1 z f) ∧ (∀ k, d'.1 (z + 2) k = if k < n ∧ bitI x9 k then d.1 (z + 2) k ||| (1 <<< nI n) else d.1 (z + 2) k) ∧ ∀ b, b ≠ z → b ≠ z + 1 → b ≠ z + 2 → d'.1 b = d.1 b) (x := (0, dI d (z + 1) n u9)) n (by omega) ⟨rfl, dI_at, fun j hj => dI_nk (by omega), fun f => congrFun (dI_ne (by omega)) f, fun k => ?_, fun b h1 h2 h3 => dI_ne h2⟩ ?_ ?_
  · rw [if_neg (by omega)]
    exact congrFun (dI_ne (by omega)) k
  · rintro i hi F ⟨v, y⟩ ⟨hv, g1, g2, g3, g4, g5⟩
    have hv' : v = nI i := hv
    subst hv'
    have y8 : y.1 z 8 = nI n := (g3 8).trans h8
    have g4' : ∀ k, y.1 (z + 2) k = if k < i ∧ bitI x9 k then d.1 (z + 2) k ||| (1 <<< nI n) else d.1 (z + 2) k := g4
    by_cases hbt : bitI x9 i
    · refine ⟨(nI (i + 1), dI y (z + 2) i (y.1 (z + 2) i ||| (1 <<< nI n))), ?_, rfl, (congrFun (dI_ne (by omega)) n).trans g1, fun j hj => (congrFun (dI_ne (by omega)) j).trans (g2 j hj), fun f => (congrFun (dI_ne (by omega)) f).trans (g3 f), fun k => ?_, fun b h1 h2 h3 => (dI_ne h3).trans (g5 b h1 h2 h3)⟩
      · show Ta_adds_h12 z u9 x9 S (F + 1) (nI i) y = _
        rw [Ta_adds_h12, isK_of hz, Option.bind_some, y8, if_neg (nI_ge hi (by omega)), isOn_eq (by omega), Option.bind_some, if_pos hbt, if_neg (show ¬ (1 : Int32) = 0 by decide), h7, aix_nI hb (show i < 6 by omega) (by omega), Option.bind_some, Option.bind_some, and31 (show n < 32 by omega), nI_1]
      · show (dI y (z + 2) i (y.1 (z + 2) i ||| (1 <<< nI n))).1 (z + 2) k = _
        by_cases e : k = i
        · subst e
          rw [dI_at, g4', if_neg (by omega), if_pos ⟨by omega, hbt⟩]
        · rw [dI_nk (by omega), g4']
          by_cases e2 : k < i ∧ bitI x9 k
          · rw [if_pos e2, if_pos ⟨by omega, e2.2⟩]
          · rw [if_neg e2, if_neg (fun q => e2 ⟨by omega, q.2⟩)]
    · refine ⟨(nI (i + 1), y), ?_, rfl, g1, g2, g3, fun k => ?_, g5⟩
      · show Ta_adds_h12 z u9 x9 S (F + 1) (nI i) y = _
        rw [Ta_adds_h12, isK_of hz, Option.bind_some, y8, if_neg (nI_ge hi (by omega)), isOn_eq (by omega), Option.bind_some, if_neg hbt, if_pos rfl, nI_1]
      · show y.1 (z + 2) k = _
        rw [g4']
        by_cases e : k = i
        · subst e
          rw [if_neg (by omega), if_neg (fun q => hbt q.2)]
        · by_cases e2 : k < i ∧ bitI x9 k
          · rw [if_pos e2, if_pos ⟨by omega, e2.2⟩]
          · rw [if_neg e2, if_neg (fun q => e2 ⟨by omega, q.2⟩)]
  · rintro F ⟨v, y⟩ ⟨hv, g1, g2, g3, g4, g5⟩
    have hv' : v = nI n := hv
    subst hv'
    have y8 : y.1 z 8 = nI n := (g3 8).trans h8
    refine ⟨dI y z 8 (nI (n + 1)), ?_, (congrFun (dI_ne (by omega)) n).trans g1, fun j hj => (congrFun (dI_ne (by omega)) j).trans (g2 j hj), dI_at, fun f hf => (dI_nk (by omega)).trans (g3 f), fun k => (congrFun (dI_ne (by omega)) k).trans (g4 k), fun b h1 h2 h3 => (dI_ne h1).trans (g5 b h1 h2 h3)⟩
    show Ta_adds_h12 z u9 x9 S (F + 1) (nI n) y = _
    rw [Ta_adds_h12, isK_of hz, Option.bind_some, y8, if_pos (nI_le (Nat.le_refl _) (by omega)), nI_1, Option.bind_some]
/-- the model's end of a node's line runs behind a fault, too -/
theorem node_bad {r : Int32} (h1 : t0 < 5) (h2 : n < 6) : Safe m (Mo_readNode_b131 0 MoS (nI t0) (nI n) r x9 m) := by
  have e1 : (46 : Int32) + 2 * (6 * nI t0 + nI n) = nI (46 + 2 * (6 * t0 + n)) := by rw [nlit, nlit, nlit, nI_mul, nI_add, nI_mul, nI_add]
  have e2 : (11 : Int32) + 7 * nI t0 + 6 = nI (11 + 7 * t0 + 6) := by rw [nlit, nlit, nlit, nI_mul, nI_add, nI_add]
  intro _
  unfold Mo_readNode_b131
  rw [Mo_K, Option.bind_some, e1, Mf _ (by omega), Option.bind_some, Option.bind_some, nI_1, Mf _ (by omega), Option.bind_some, Option.bind_some, e2, Mf _ (by omega), Option.bind_some, Option.bind_some]
  exact ⟨_, rfl, fun a ha => by rw [dI_ne ha, dI_ne ha, dI_ne ha]⟩
/-- one node ahead -/
theorem node_step (hz : S.1[z]? = some (12, 0)) (ht0 : t0 < 5) (hn0 : 0 < n) (hn : n < 6) {zz F G : Nat} (h : Rs S0 d0 m0 rd sz c ap tk S d m) (hd8 : d.1 z 8 = nI n) (hzr : z ≠ rd) (hzz : zz < 2 ^ n) : OF S0 d0 m0 (c + 1) () (Re_nodeLine_h87 rd (F + 1) (some z) u9 (nI zz) S d) (Mo_readNode_h96 0 MoS (G + 1) (nI t0) (nI n) u9 (nI zz) m) ∨ ∃ d' m' a tk' zz', Re_nodeLine_h87 rd (F + 1) (some z) u9 (nI zz) S d = (if tk' = 2 then Re_nodeLine_h87 rd F (some z) u9 (nI zz') S d' else Re_nodeLine_b155 rd (some z) u9 (nI zz') S d') ∧ Mo_readNode_h96 0 MoS (G + 1) (nI t0) (nI n) u9 (nI zz) m = (if tk' = 2 then Mo_readNode_h96 0 MoS G (nI t0) (nI n) u9 (nI zz') m' else Mo_readNode_b131 0 MoS (nI t0) (nI n) u9 (nI zz') m') ∧ Rs S0 d0 m0 rd sz c a tk' S d' m' ∧ ap ≤ a ∧ (tk' ≠ 0 → ap < a) ∧ Nx rd d m d' m' ∧ zz' < 2 ^ n ∧ 0 < zz' := by
  have hg := h.2.2.1
  obtain ⟨-, -, t1, t2, t3, t4⟩ := h.2.1
  have hk12 : isK S 12 (some z) = some z := isK_of hz
  have hnp : nI n - 1 = nI (n - 1) := by rw [show (1 : Int32) = nI 1 from rfl, nI_sub (by omega)]
  -- the lane of a number
  have lane : ∀ o p, o = Re_nodeLine_b131 rd (Re_nodeLine_h87 rd F) (some z) u9 (nI zz) S d → p = (bind2 (Mo_takesNew_b40 0 (nI zz) (nI n - 1) MoS m) fun r29 d30 => (some (nI zz ||| (1 <<< (r29 &&& 31)))).bind fun x31 => (Mo_good 0 MoS d30).bind fun r32 => if r32 = 0 then Mo_readNode_b131 0 MoS (nI t0) (nI n) u9 x31 d30 else if (d30.1 0 10) = 2 then Mo_readNode_h96 0 MoS G (nI t0) (nI n) u9 x31 d30 else Mo_readNode_b131 0 MoS (nI t0) (nI n) u9 x31 d30) → OF S0 d0 m0 (c + 1) () o p ∨ ∃ d' m' a tk' zz', o = (if tk' = 2 then Re_nodeLine_h87 rd F (some z) u9 (nI zz') S d' else Re_nodeLine_b155 rd (some z) u9 (nI zz') S d') ∧ p = (if tk' = 2 then Mo_readNode_h96 0 MoS G (nI t0) (nI n) u9 (nI zz') m' else Mo_readNode_b131 0 MoS (nI t0) (nI n) u9 (nI zz') m') ∧ Rs S0 d0 m0 rd sz c a tk' S d' m' ∧ ap ≤ a ∧ (tk' ≠ 0 → ap < a) ∧ Nx rd d m d' m' ∧ zz' < 2 ^ n ∧ 0 < zz' := by
    intro o p ho hq
    unfold Re_nodeLine_b131 at ho
    rw [hk12, Option.bind_some, h.1.K, Option.bind_some, hd8] at ho
    unfold Mo_takesNew_b40 at hq
    rw [Mo_K, Option.bind_some] at hq
    rcases num2_eq h (lo := 0) (hi := nI n - 1) with ⟨y, S', d', m', g1, g2, g3, g4⟩ | ⟨v, d', m', a, tk', q1, q2, q3, q4, q5, q6, q7, q8, -⟩
    · rw [g1, bindE_r] at ho
      rw [g2, bind2_some, bind2_some, Option.bind_some, good_0 g3.2.2.2.2.2, Option.bind_some, if_pos rfl] at hq
      refine Or.inl (OF.of ho g3 ?_)
      rw [hq]
      exact node_bad ht0 hn
    · have hv : v < n := by
        rcases inI_nI (x := nI v) (n := n) (by omega) with ⟨y, -⟩ | ⟨t, y1, y2, -⟩
        · rw [y] at q4
          exact absurd q4 (by decide)
        · have := (nI_eq (by omega) (by omega)).mp y2
          omega
      obtain ⟨s1, s2, s3⟩ := set_or n hn zz hzz v hv
      obtain ⟨-, -, u1, u2', u3, -⟩ := q5.2.1
      rw [q1, bindE_l, s1, Option.bind_some, h.1.K, Option.bind_some, u2'] at ho
      rw [q2, bind2_some, bind2_some, s1, Option.bind_some, good_1 q5.2.2.1, Option.bind_some, if_neg (show ¬ (1 : Int32) = 0 by decide), u3] at hq
      refine Or.inr ⟨d', m', a, tk', zz ||| 2 ^ v, ?_, ?_, q5, q6, q7, q8, s2, s3⟩
      · rw [ho]
        by_cases e : tk' = 2
        · rw [if_pos e, if_pos (by rw [e]; rfl)]
        · rw [if_neg e, if_neg (show ¬ nI tk' = 2 from fun y => e ((nI_eq (b := 2) (by omega) (by omega)).mp y))]
      · rw [hq]
        by_cases e : tk' = 2
        · rw [if_pos e, if_pos (by rw [e]; rfl)]
        · rw [if_neg e, if_neg (show ¬ nI tk' = 2 from fun y => e ((nI_eq (b := 2) (by omega) (by omega)).mp y))]
  by_cases c2 : tk = 2
  rotate_left
  · have c2' : ¬ nI tk = 2 := fun y => c2 ((nI_eq (b := 2) (by omega) (by omega)).mp y)
    refine lane _ _ ?_ ?_
    · rw [Re_nodeLine_h87, h.1.K, Option.bind_some, t2, if_pos c2']
    · rw [Mo_readNode_h96, Mo_K, Option.bind_some]
      unfold Mo_takesNew
      rw [Mo_K, Option.bind_some, good_1 hg, Option.bind_some, if_neg (show ¬ (1 : Int32) = 0 by decide), t3, if_pos c2']
  subst c2
  obtain ⟨v, v1, v2, v3⟩ := t4 rfl
  have hY0 : Mo_takesNew 0 (nI zz) (nI n - 1) MoS m = if nI n - 1 < nI v then Mo_takesNew_b40 0 (nI zz) (nI n - 1) MoS m else if ¬ ((nI zz >>> (nI v &&& 31)) &&& 1) = 1 then Mo_takesNew_b40 0 (nI zz) (nI n - 1) MoS m else bind2 (Mo_errs 0 2 MoS m) fun _ d3 => Mo_takesNew_b40 0 (nI zz) (nI n - 1) MoS d3 := by
    unfold Mo_takesNew
    rw [Mo_K, Option.bind_some, good_1 hg, Option.bind_some, if_neg (show ¬ (1 : Int32) = 0 by decide), t3, if_neg (show ¬ ¬ nI 2 = 2 from fun y => y rfl), v3]
  have hX0 : Re_nodeLine_h87 rd (F + 1) (some z) u9 (nI zz) S d = (if inI (nI v) 0 (nI n - 1) = 0 then Re_nodeLine_b131 rd (Re_nodeLine_h87 rd F) (some z) u9 (nI zz) S d else (Ws_isOn (nI zz) (nI v) S d).bind fun r32 => if r32 = 0 then Re_nodeLine_b131 rd (Re_nodeLine_h87 rd F) (some z) u9 (nI zz) S d else bind3 (Re_fault rd 2 S d) fun r33 S34 d35 => (isK S34 11 r33).bind fun z36 => some (.inr z36, S34, d35)) := by
    rw [Re_nodeLine_h87, h.1.K, Option.bind_some, t2, if_neg (show ¬ ¬ nI 2 = 2 from fun y => y rfl), hk12, Option.bind_some, v2, hd8, Ws_in0, Option.bind_some]
  by_cases hvn : v < n
  rotate_left
  · have e0 : inI (nI v) 0 (nI n - 1) = 0 := by
      rcases inI_nI (x := nI v) (n := n) (by omega) with ⟨y, -⟩ | ⟨t, y1, y2, -⟩
      · exact y
      · have := (nI_eq (by omega) (by omega)).mp y2
        omega
    refine lane _ _ ?_ ?_
    · rw [hX0, if_pos e0]
    · rw [Mo_readNode_h96, Mo_K, Option.bind_some, hY0, if_pos (by rw [hnp]; exact nI_lt (by omega) (by omega))]
  have e1 : inI (nI v) 0 (nI n - 1) = 1 := by
    rcases inI_nI (x := nI v) (n := n) (by omega) with ⟨-, y⟩ | ⟨t, y1, y2, y3⟩
    · exact absurd rfl (y v hvn)
    · exact y3
  have hv32 : v < 32 := by omega
  by_cases hbt : bitI (nI zz) v
  rotate_left
  · refine lane _ _ ?_ ?_
    · rw [hX0, if_neg (by rw [e1]; decide), isOn_eq hv32, Option.bind_some, if_neg hbt, if_pos rfl]
    · rw [Mo_readNode_h96, Mo_K, Option.bind_some, hY0, if_neg (by rw [hnp]; exact nI_nlt (by omega) (by omega)), and31 hv32, if_pos hbt]
  · left
    obtain ⟨y, S', d', m', g1, g2, g3, g4⟩ := fault_eq (γ := Unit) h (k := 2) (by omega) (by omega)
    refine OF.of (z := y) (S' := S') (d' := d') (m' := m') ?_ g3 ?_
    · rw [hX0, if_neg (by rw [e1]; decide), isOn_eq hv32, Option.bind_some, if_pos hbt, if_neg (show ¬ (1 : Int32) = 0 by decide)]
      exact g1
    · have hb := g3.2.2.2.2.2
      have e40 : Mo_takesNew_b40 0 (nI zz) (nI n - 1) MoS m' = some (0, m') := by
        unfold Mo_takesNew_b40
        rw [Mo_K, Option.bind_some, takes_0 hb, bind2_some]
      rw [Mo_readNode_h96, Mo_K, Option.bind_some, hY0, if_neg (by rw [hnp]; exact nI_nlt (by omega) (by omega)), and31 hv32, if_neg (fun q => q hbt), show (2 : Int32) = nI 2 from rfl, g2, bind2_some, e40, bind2_some, Option.bind_some, good_0 hb, Option.bind_some, if_pos rfl]
      exact node_bad ht0 hn
/-- the nodes ahead of one -/
theorem node_loop (hz : S.1[z]? = some (12, 0)) (hzr : z ≠ rd) (ht0 : t0 < 5) (hn0 : 0 < n) (hn : n < 6) : ∀ N ap tk d m zz F G, sz - ap ≤ N → N < F → N < G → Rs S0 d0 m0 rd sz c ap tk S d m → d.1 z 8 = nI n → zz < 2 ^ n → OF S0 d0 m0 (c + 1) () (Re_nodeLine_h87 rd F (some z) u9 (nI zz) S d) (Mo_readNode_h96 0 MoS G (nI t0) (nI n) u9 (nI zz) m) ∨ ∃ d' m' a tk' zz', Re_nodeLine_h87 rd F (some z) u9 (nI zz) S d = Re_nodeLine_b155 rd (some z) u9 (nI zz') S d' ∧ Mo_readNode_h96 0 MoS G (nI t0) (nI n) u9 (nI zz) m = Mo_readNode_b131 0 MoS (nI t0) (nI n) u9 (nI zz') m' ∧ Rs S0 d0 m0 rd sz c a tk' S d' m' ∧ ap ≤ a ∧ (tk' ≠ 0 → ap < a) ∧ Nx rd d m d' m' ∧ zz' < 2 ^ n ∧ 0 < zz' := by
  intro N
  induction N with
  | zero =>
    intro ap tk d m zz F G hN hF hG h hd8 hzz
    obtain ⟨F', rfl⟩ : ∃ F', F = F' + 1 := ⟨F - 1, by omega⟩
    obtain ⟨G', rfl⟩ : ∃ G', G = G' + 1 := ⟨G - 1, by omega⟩
    rcases node_step (u9 := u9) (F := F') (G := G') hz ht0 hn0 hn h hd8 hzr hzz with g | ⟨d', m', a, tk', zz', g1, g2, g3, g4, g5, g6, g7, g8⟩
    · exact Or.inl g
    · have hne : ¬ tk' = 2 := fun e => by
        have h1 := g5 (by omega)
        have h2 := g3.2.1.1.2.1
        omega
      rw [if_neg hne] at g1 g2
      exact Or.inr ⟨d', m', a, tk', zz', g1, g2, g3, g4, g5, g6, g7, g8⟩
  | succ N ih =>
    intro ap tk d m zz F G hN hF hG h hd8 hzz
    obtain ⟨F', rfl⟩ : ∃ F', F = F' + 1 := ⟨F - 1, by omega⟩
    obtain ⟨G', rfl⟩ : ∃ G', G = G' + 1 := ⟨G - 1, by omega⟩
    rcases node_step (u9 := u9) (F := F') (G := G') hz ht0 hn0 hn h hd8 hzr hzz with g | ⟨d', m', a, tk', zz', g1, g2, g3, g4, g5, g6, g7, g8⟩
    · exact Or.inl g
    · by_cases hne : tk' = 2
      · rw [if_pos hne] at g1 g2
        have h1 := g5 (by omega)
        rcases ih a tk' d' m' zz' F' G' (by omega) (by omega) (by omega) g3 ((congrFun (g6.1 z hzr) 8).trans hd8) g7 with q | ⟨d2, m2, a2, tk2, z2', q1, q2, q3, q4, q5, q6, q7, q8⟩
        · rw [g1, g2]
          exact Or.inl q
        · exact Or.inr ⟨d2, m2, a2, tk2, z2', g1.trans q1, g2.trans q2, q3, by omega, fun y => by omega, g6.tr q6, q7, q8⟩
      · rw [if_neg hne] at g1 g2
        exact Or.inr ⟨d', m', a, tk', zz', g1, g2, g3, g4, g5, g6, g7, g8⟩
/-- a node is noted -/
theorem node_fin (h : Rs S0 d0 m0 rd sz c ap tk S d m) (hp : PT S d (m.1 6) rd nw (t0 + 1) ni nd tks ij) (hn : nd t0 < 6) {un zz : Nat} (hun : 1 ≤ un ∧ un ≤ 9) (hzz : zz < 2 ^ nd t0) (hz0 : 0 < nd t0 → 0 < zz) : ∃ d' m', Re_nodeLine_b155 rd (some (tks t0)) (nI un) (nI zz) S d = some (.inl (), S, d') ∧ Mo_readNode_b131 0 MoS (nI t0) (nI (nd t0)) (nI un) (nI zz) m = some ((), m') ∧ Rs S0 d0 m0 rd sz c ap tk S d' m' ∧ PT S d' (m'.1 6) rd nw (t0 + 1) ni (fun t => if t = t0 then nd t0 + 1 else nd t) tks ij ∧ (∀ j, j < 3 → m'.1 6 j = m.1 6 j) ∧ m'.1 6 7 = m.1 6 7 := by
  have hr := h.1.2.2.1
  obtain ⟨z1, l9, k9, hT, hI, hf9, ⟨x1, x2, x3, x4, x5, x6, x7⟩⟩ := hp
  have hp : PT S d (m.1 6) rd nw (t0 + 1) ni nd tks ij := ⟨z1, l9, k9, hT, hI, hf9, ⟨x1, x2, x3, x4, x5, x6, x7⟩⟩
  have ht5 : t0 + 1 ≤ 5 := x2.2
  have hw3 := x1.2
  obtain ⟨⟨s1, s2, s3, s4, s5, u, b, s6, s7, s8, s9, s10, s11⟩, v1, v2, v3, v4, v5⟩ := hT t0 (Nat.lt_succ_self _)
  have eu : u = tks t0 + 1 := Option.some.inj (s6.symm.trans v1)
  have eb : b = tks t0 + 2 := Option.some.inj (s7.symm.trans v2)
  subst eu eb
  obtain ⟨d', a1, a2, a3, a4, a5, a6, a7⟩ := adds_eq (u9 := nI un) (x9 := nI zz) s1 s6 s7 s8 s9 s3 hn
  have e1 : (46 : Int32) + 2 * (6 * nI t0 + nI (nd t0)) = nI (46 + 2 * (6 * t0 + nd t0)) := by rw [nlit, nlit, nlit, nI_mul, nI_add, nI_mul, nI_add]
  have e2 : (11 : Int32) + 7 * nI t0 + 6 = nI (11 + 7 * t0 + 6) := by rw [nlit, nlit, nlit, nI_mul, nI_add, nI_add]
  obtain ⟨A, hA⟩ : ∃ A, A = 46 + 2 * (6 * t0 + nd t0) := ⟨_, rfl⟩
  obtain ⟨B, hB⟩ : ∃ B, B = 11 + 7 * t0 + 6 := ⟨_, rfl⟩
  obtain ⟨m', hm'⟩ : ∃ m', m' = dI (dI (dI m 6 A (nI un)) 6 (A + 1) (nI zz)) 6 B (nI (nd t0 + 1)) := ⟨_, rfl⟩
  have W : ∀ j, j ≠ A → j ≠ A + 1 → j ≠ B → m'.1 6 j = m.1 6 j := fun j j1 j2 j3 => by rw [hm', dI_nk (by omega), dI_nk (by omega), dI_nk (by omega)]
  have WA : m'.1 6 A = nI un := by rw [hm', dI_nk (by omega), dI_nk (by omega), dI_at]
  have WA1 : m'.1 6 (A + 1) = nI zz := by rw [hm', dI_nk (by omega), dI_at]
  have WB : m'.1 6 B = nI (nd t0 + 1) := by rw [hm', dI_at]
  refine ⟨d', m', ?_, ?_, h.wr (fun b hb => a7 b (by omega) (by omega) (by omega)) (fun b hb => by rw [hm', dI_ne hb, dI_ne hb, dI_ne hb]), ⟨z1, ?_, ?_, fun t ht => ?_, hI.lst rfl (fun b hb => ?_) (fun j h1 h2 => W j (by omega) (by omega) (by omega)), ?_, ⟨?_, x1.2⟩, ⟨?_, x2.2⟩, ⟨?_, x3.2.1, ?_⟩, fun v hv => ?_, fun t ht => ?_, fun i hi => ?_, fun t h1 h2 => ?_⟩, fun j hj => W j (by omega) (by omega) (by omega), W 7 (by omega) (by omega) (by omega)⟩
  · unfold Re_nodeLine_b155
    rw [isK_of s1, Option.bind_some, a1, bind2_some]
  · unfold Mo_readNode_b131
    rw [Mo_K, Option.bind_some, e1, ← hA, Mf A (by omega), Option.bind_some, Option.bind_some, nI_1, Mf (A + 1) (by omega), Option.bind_some, Option.bind_some, e2, ← hB, Mf B (by omega), Option.bind_some, dI_nk (show ¬ ((6 : Nat) = 6 ∧ B = A + 1) by omega), dI_nk (show ¬ ((6 : Nat) = 6 ∧ B = A) by omega), hB, s4, nI_1, ← hB, Option.bind_some, hm']
  · obtain ⟨l1, l2, l3, l4, l5, l6, l7⟩ := l9
    exact ⟨l1, l2, l3, by rw [a7 _ (by omega) (by omega) (by omega)]; exact l4, l5, l6, l7⟩
  · obtain ⟨l1, l2, l3, l4, l5, l6, l7⟩ := k9
    exact ⟨l1, l2, l3, by rw [a7 _ (by omega) (by omega) (by omega)]; exact l4, l5, l6, l7⟩
  · by_cases e : t = t0
    · subst e
      dsimp only
      rw [if_pos rfl]
      refine ⟨⟨s1, fun f hf => ?_, a4, ?_, by omega, tks t + 1, tks t + 2, s6, s7, s8, s9, fun n9 h9 => ?_, fun k hk => ?_⟩, v1, v2, v3, v4, fun k h1 h2 => ?_⟩
      · rw [a5 f (by omega), W _ (by omega) (by omega) (by omega)]
        exact s2 f hf
      · rw [← hB]; exact WB
      · by_cases e9 : n9 = nd t
        · subst e9
          rw [a2, ← hA, WA]
        · rw [a3 n9 e9, W _ (by omega) (by omega) (by omega)]
          exact s10 n9 (by omega)
      · rw [a6, folN_s, ← hA, WA1, folN_cong (w := m.1 6) (fun q hq => W _ (by omega) (by omega) (by omega))]
        have hbk : d.1 (tks t + 2) k = folN (m.1 6) t k (nd t) := by
          by_cases e9 : k = nd t
          · subst e9
            rw [v5 _ (Nat.le_refl _) (by omega), folN_lo (by omega)]
          · exact s11 k (by omega)
        rw [hbk]
      · rw [a6, if_neg (by omega)]
        exact v5 k (by omega) h2
    · dsimp only
      rw [if_neg e]
      have ht' : t < t0 := by omega
      obtain ⟨⟨o1, o2, o3, o4, o5, u, b, o6, o7, o8, o9, o10, o11⟩, q1, q2, q3, q4, q5⟩ := hT t ht
      have eu : u = tks t + 1 := Option.some.inj (o6.symm.trans q1)
      have eb : b = tks t + 2 := Option.some.inj (o7.symm.trans q2)
      subst eu eb
      have hlt := q4 t0 ht' (Nat.lt_succ_self _)
      have r0 := a7 (tks t) (by omega) (by omega) (by omega)
      have r1 := a7 (tks t + 1) (by omega) (by omega) (by omega)
      have r2 := a7 (tks t + 2) (by omega) (by omega) (by omega)
      exact ⟨TaskT.cong (w := m.1 6) ⟨o1, fun f hf => by rw [r0]; exact o2 f hf, by rw [r0]; exact o3, o4, o5, tks t + 1, tks t + 2, o6, o7, o8, o9, fun n hn => by rw [r1]; exact o10 n hn, fun k hk => by rw [r2]; exact o11 k hk⟩ (fun f hf => W _ (by omega) (by omega) (by omega)) (fun j hj => W _ (by omega) (by omega) (by omega)), q1, q2, q3, q4, fun k h1 h2 => by rw [r2]; exact q5 k h1 h2⟩
  · have hc := hp.nd13 hr hb
    refine a7 b (fun e => ?_) (fun e => ?_) (fun e => ?_)
    · rw [e, s1] at hb
      exact absurd (congrArg Prod.fst (Option.some.inj hb)) (show ¬ (12 : Nat) = 13 by decide)
    · rw [e, s8] at hb
      exact absurd (congrArg Prod.fst (Option.some.inj hb)) (show ¬ (50 : Nat) = 13 by decide)
    · rw [e, s9] at hb
      exact absurd (congrArg Prod.fst (Option.some.inj hb)) (show ¬ (50 : Nat) = 13 by decide)
  · obtain ⟨y1, y2, y3, y4, y5, y6, y7⟩ := hf9
    have r2 := a7 (rd + 2) (by omega) (by omega) (by omega)
    have r7 := a7 (rd + 7) (by omega) (by omega) (by omega)
    exact ⟨fun v hv => by rw [r7, W _ (by omega) (by omega) (by omega)]; exact y1 v hv, by rw [r2, W 0 (by omega) (by omega) (by omega)]; exact y2, by rw [r2, W 1 (by omega) (by omega) (by omega)]; exact y3, by rw [r2, W 2 (by omega) (by omega) (by omega)]; exact y4, by rw [r2, W 3 (by omega) (by omega) (by omega)]; exact y5, by rw [r2, W 5 (by omega) (by omega) (by omega)]; exact y6, by rw [r2, W 7 (by omega) (by omega) (by omega)]; exact y7⟩
  · rw [W 3 (by omega) (by omega) (by omega)]; exact x1.1
  · rw [W 4 (by omega) (by omega) (by omega)]; exact x2.1
  · rw [W 5 (by omega) (by omega) (by omega)]; exact x3.1
  · rw [W 6 (by omega) (by omega) (by omega)]; exact x3.2.2
  · rw [W 8 (by omega) (by omega) (by omega), W (8 + v) (by omega) (by omega) (by omega)]
    exact x4 v hv
  · obtain ⟨g1, ⟨a, p, o, c9, le, mo, g2, g3, g4⟩, g5⟩ := x5 t ht
    have g1' := g1.1
    by_cases e : t = t0
    · subst e
      dsimp only
      rw [if_pos rfl]
      refine ⟨⟨by omega, by rw [← hB]; exact WB⟩, ⟨a, p, o, c9, le, mo, by rw [W _ (by omega) (by omega) (by omega)]; exact g2, g3, ?_⟩, fun n9 h9 => ?_⟩
      · rw [W (11 + 7 * t + 1) (by omega) (by omega) (by omega), W (11 + 7 * t + 2) (by omega) (by omega) (by omega), W (11 + 7 * t + 3) (by omega) (by omega) (by omega), W (11 + 7 * t + 4) (by omega) (by omega) (by omega), W (11 + 7 * t + 5) (by omega) (by omega) (by omega)]
        exact g4
      · by_cases e9 : n9 = nd t
        · subst e9
          rw [← hA]
          exact ⟨un, zz, WA, hun.1, hun.2, WA1, hzz, hz0⟩
        · rw [W (46 + 2 * (6 * t + n9)) (by omega) (by omega) (by omega), W (46 + 2 * (6 * t + n9) + 1) (by omega) (by omega) (by omega)]
          exact g5 n9 (by omega)
    · dsimp only
      rw [if_neg e]
      refine ⟨⟨g1.1, by rw [W _ (by omega) (by omega) (by omega)]; exact g1.2⟩, ⟨a, p, o, c9, le, mo, by rw [W _ (by omega) (by omega) (by omega)]; exact g2, g3, ?_⟩, fun n9 h9 => ?_⟩
      · rw [W (11 + 7 * t + 1) (by omega) (by omega) (by omega), W (11 + 7 * t + 2) (by omega) (by omega) (by omega), W (11 + 7 * t + 3) (by omega) (by omega) (by omega), W (11 + 7 * t + 4) (by omega) (by omega) (by omega), W (11 + 7 * t + 5) (by omega) (by omega) (by omega)]
        exact g4
      · rw [W (46 + 2 * (6 * t + n9)) (by omega) (by omega) (by omega), W (46 + 2 * (6 * t + n9) + 1) (by omega) (by omega) (by omega)]
        exact g5 n9 h9
  · refine ((x6 i hi).mono (Nat.le_refl _) (Nat.le_refl _) (fun t ht => ?_)).cong (fun f hf => W _ (by omega) (by omega) (by omega))
    by_cases e : t = t0
    · rw [if_pos e, e]; omega
    · rw [if_neg e]; exact Nat.le_refl _
  · rw [W _ (by omega) (by omega) (by omega)]
    exact x7 t h1 h2
theorem node_eq (h : Rs S0 d0 m0 rd sz c ap tk S d m) (hp : PT S d (m.1 6) rd nw nt ni nd tks ij) : OF S0 d0 m0 (c + 1) () (Re_nodeLine rd S d) (Mo_readNode 0 MoS m) ∨ LOk S0 d0 m0 rd sz c ap (3 * nt + ni) m (Re_nodeLine rd S d) (Mo_readNode 0 MoS m) := by
  have hr := h.1.2.2.1
  have hx := hp.wp
  have hm4 : m.1 6 4 = nI nt := hx.2.1.1
  have ht5 := hx.2.1.2
  obtain ⟨o, ho⟩ : ∃ o, o = Re_nodeLine rd S d := ⟨_, rfl⟩
  obtain ⟨p, hq⟩ : ∃ p, p = Mo_readNode 0 MoS m := ⟨_, rfl⟩
  rw [← ho, ← hq]
  have f4 : aix MoS 50 (MoS.2.1 0 14) 4 = some (6, 4) := Mf 4 (by omega)
  unfold Re_nodeLine at ho
  rw [h.1.K, Option.bind_some, hp.K h.1, Option.bind_some, hp.kT, Option.bind_some] at ho
  have hie : Jl_isEmpty (rd + 3) S d = some (if nt = 0 then 1 else 0) := by
    unfold Jl_isEmpty
    rw [isK_of hp.2.1.1, Option.bind_some, hp.2.1.2.2.2.1]
    by_cases e : nt = 0
    · rw [if_pos e, if_neg (fun q => q (by rw [e]; rfl))]
    · rw [if_neg e, if_pos (nI_ne0 (by omega) (by omega))]
  rw [hie, Option.bind_some] at ho
  unfold Mo_readNode at hq
  rw [Mo_K, Option.bind_some, good_1 h.2.2.1, Option.bind_some, if_neg (show ¬ (1 : Int32) = 0 by decide), f4, Option.bind_some, hm4] at hq
  by_cases c0 : nt = 0
  · subst c0
    obtain ⟨z, S', d', m', g1, g2, g3, g4⟩ := fault_eq (γ := Unit) h (k := 1) (by omega) (by omega)
    rw [if_pos rfl, if_neg (show ¬ (1 : Int32) = 0 by decide), show (1 : Int32) = nI 1 from rfl, g1] at ho
    rw [if_neg (show ¬ ¬ nI 0 = 0 from fun q => q rfl), show (1 : Int32) = nI 1 from rfl, g2, bind2_some] at hq
    unfold Mo_readNode_b21 at hq
    rw [Mo_K, Option.bind_some, good_0 g3.2.2.2.2.2, Option.bind_some, if_neg (show ¬ ¬ (0 : Int32) = 0 from fun q => q rfl)] at hq
    exact Or.inl ⟨z, S', d', m', ho, hq, g3⟩
  obtain ⟨t0, rfl⟩ : ∃ t0, nt = t0 + 1 := ⟨nt - 1, by omega⟩
  obtain ⟨⟨s1, s2, s3, s4, s5, -⟩, -, -, v3, -⟩ := hp.2.2.2.1 t0 (Nat.lt_succ_self _)
  have e2 : (11 : Int32) + 7 * nI t0 + 6 = nI (11 + 7 * t0 + 6) := by rw [nlit, nlit, nlit, nI_mul, nI_add, nI_add]
  have hk12 : isK S 12 (some (tks t0)) = some (tks t0) := isK_of s1
  rw [if_neg c0, if_pos rfl, list_sz hp.2.1, Option.bind_some, nI_pred, list_get hp.2.1 (Nat.lt_succ_self _) (by omega), Option.bind_some, hk12, Option.bind_some, s3] at ho
  rw [if_pos (nI_ne0 (by omega) (by omega))] at hq
  unfold Mo_readNode_b21 at hq
  rw [Mo_K, Option.bind_some, good_1 h.2.2.1, Option.bind_some, if_pos (show ¬ (1 : Int32) = 0 by decide), f4, Option.bind_some, hm4, nI_pred, Option.bind_some, e2] at hq
  by_cases c6 : nd t0 = 6
  · obtain ⟨z, S', d', m', g1, g2, g3⟩ := can_full (γ := Unit) h (k := 11 + 7 * t0 + 6) (M := 6) (by omega) (by rw [s4, c6]; rfl)
    rw [c6, if_neg (show ¬ ¬ nI 6 = 6 from fun q => q rfl), g1] at ho
    rw [g2, bind2_some, if_neg (show ¬ ¬ (0 : Int32) = 0 from fun q => q rfl)] at hq
    exact Or.inl ⟨z, S', d', m', ho, hq, g3⟩
  have c6' : ¬ nI (nd t0) = 6 := fun q => c6 ((nI_eq (b := 6) (by omega) (by omega)).mp q)
  obtain ⟨d1, m1, a1, t1, n1, n2, n3, n4, n5, n6⟩ := next_rs h
  have hc := can_go h.2.2.1 (k := 11 + 7 * t0 + 6) (M := 6) (by omega) (by rw [s4]; exact c6') n2 n3.2.2.1
  have m1B : m1.1 6 (11 + 7 * t0 + 6) = nI (nd t0) := (congrFun (n6.2.2.1 6 (by omega)) _).trans s4
  rw [if_pos c6', n1, bind2_some] at ho
  rw [hc, bind2_some, if_pos (show ¬ (1 : Int32) = 0 by decide), Mf _ (by omega), Option.bind_some, m1B, Option.bind_some] at hq
  rcases num2_eq n3 (lo := 1) (hi := 9) with ⟨z, S', d', m', g1, g2, g3, g4⟩ | ⟨un, d2, m2, a2, t2, q1, q2, q3, q4, q5, q6, q7, q8, -⟩
  · rw [g1, bindE_r] at ho
    rw [g2, bind2_some] at hq
    refine Or.inl (OF.of ho g3 ?_)
    rw [hq]
    by_cases cn : nI (nd t0) ≤ 0
    · rw [if_pos cn]
      exact node_bad (by omega) (by omega)
    · rw [if_neg cn]
      refine bs_exp (by omega) ?_
      intro hb
      have e40 : Mo_takesNew_b40 0 0 (nI (nd t0) - 1) MoS m' = some (0, m') := by
        unfold Mo_takesNew_b40
        rw [Mo_K, Option.bind_some, takes_0 hb, bind2_some]
      have eN : Mo_takesNew 0 0 (nI (nd t0) - 1) MoS m' = some (0, m') := by
        unfold Mo_takesNew
        rw [Mo_K, Option.bind_some, good_0 hb, Option.bind_some, if_pos rfl, e40]
      rw [show FU = 9999 + 1 from rfl, Mo_readNode_h96, Mo_K, Option.bind_some, eN, bind2_some, Option.bind_some, good_0 hb, Option.bind_some, if_pos rfl]
      exact node_bad (by omega) (by omega) hb
  have bu := inI_b (a := 1) (b := 9) q3 (by omega) (by omega) q4
  have hn2 : Nx rd d m d2 m2 := n6.tr q8
  have hp2 := hp.nx hr hn2
  have d28 : d2.1 (tks t0) 8 = nI (nd t0) := (congrFun (hn2.1 (tks t0) (by omega)) 8).trans s3
  rw [q1, bindE_l, hk12, Option.bind_some, d28] at ho
  rw [q2, bind2_some] at hq
  by_cases cn : nd t0 = 0
  · have cn' : nI (nd t0) ≤ 0 := by rw [cn]; decide
    rw [if_pos cn'] at ho hq
    obtain ⟨d3, m3, r1, r2, r3, r4, r5, r6⟩ := node_fin (un := un) (zz := 0) q5 hp2 (by omega) bu (by rw [cn]; decide) (fun q => by omega)
    rw [show (0 : Int32) = nI 0 from rfl, r1] at ho
    rw [show (0 : Int32) = nI 0 from rfl, r2] at hq
    exact Or.inr ⟨S, d3, m3, a2, t2, nw, t0 + 1, ni, _, tks, ij, rfl, ho, hq, r3, by omega, fun q => by have := q7 q; omega, r4, fun j hj => by rw [r5 j hj, hn2.2.2.1 6 (by omega)], by rw [r6, hn2.2.2.1 6 (by omega)]⟩
  · have cn' : ¬ nI (nd t0) ≤ 0 := nI_ge (a := 0) (by omega) (by omega)
    rw [if_neg cn', h.1.K, Option.bind_some] at ho
    rw [if_neg cn'] at hq
    rcases needs_eq q5 (i := 20) (by omega) with ⟨z, S', d', m', g1, g2, g3, g4⟩ | ⟨d3, m3, a3, t3, y1, y2, y3, y4, y5, y6⟩
    · rw [g1, bindE_r] at ho
      rw [g2, bind2_some] at hq
      refine Or.inl (OF.of ho g3 ?_)
      rw [hq]
      intro hb
      have e40 : Mo_takesNew_b40 0 0 (nI (nd t0) - 1) MoS m' = some (0, m') := by
        unfold Mo_takesNew_b40
        rw [Mo_K, Option.bind_some, takes_0 hb, bind2_some]
      have eN : Mo_takesNew 0 0 (nI (nd t0) - 1) MoS m' = some (0, m') := by
        unfold Mo_takesNew
        rw [Mo_K, Option.bind_some, good_0 hb, Option.bind_some, if_pos rfl, e40]
      rw [show FU = 9999 + 1 from rfl, Mo_readNode_h96, Mo_K, Option.bind_some, eN, bind2_some, Option.bind_some, good_0 hb, Option.bind_some, if_pos rfl]
      exact node_bad (by omega) (by omega) hb
    have hn3 : Nx rd d m d3 m3 := hn2.tr y6
    have d38 : d3.1 (tks t0) 8 = nI (nd t0) := (congrFun (hn3.1 (tks t0) (by omega)) 8).trans s3
    rw [y1, bindE_l, show (0 : Int32) = nI 0 from rfl] at ho
    rw [y2, bind2_some, show (0 : Int32) = nI 0 from rfl] at hq
    have hsz : sz ≤ 1000 := h.2.1.1.1
    rcases node_loop (u9 := nI un) (n := nd t0) (t0 := t0) (z := tks t0) (c := c) s1 (by omega) (by omega) (by omega) (by omega) 1000 a3 t3 d3 m3 0 FU FU (by omega) (by show _ < 10000; omega) (by show _ < 10000; omega) y3 d38 (Nat.two_pow_pos _) with g | ⟨d4, m4, a4, t4, zz, g1, g2, g3, g4, g5, g6, g7, g8⟩
    · rw [ho, hq]
      exact Or.inl g
    · have hn4 : Nx rd d m d4 m4 := hn3.tr g6
      have hp4 := hp.nx hr hn4
      obtain ⟨d5, m5, r1, r2, r3, r4, r5, r6⟩ := node_fin (un := un) (zz := zz) g3 hp4 (by omega) bu g7 (fun _ => g8)
      have ho' := ho.trans (g1.trans r1)
      have hq' := hq.trans (g2.trans r2)
      exact Or.inr ⟨S, d5, m5, a4, t4, nw, t0 + 1, ni, _, tks, ij, rfl, ho', hq', r3, by omega, fun q => by have := g5 q; omega, r4, fun j hj => by rw [r5 j hj, hn4.2.2.1 6 (by omega)], by rw [r6, hn4.2.2.1 6 (by omega)]⟩
end
