/-! READING: the board so far; its first line; watchers -/
set_option maxRecDepth 100000
/-- the numbers of a board so far -/
def WP (w : Nat → Int32) (nw nt ni : Nat) (nd : Nat → Nat) : Prop := (w 3 = nI nw ∧ nw ≤ 3) ∧ (w 4 = nI nt ∧ nt ≤ 5) ∧ (w 5 = nI ni ∧ ni ≤ 8 ∧ w 6 = 0) ∧
  (∀ v, v < nw → (v = 0 ∧ w 8 = -1) ∨ ∃ u, u < v ∧ w (8 + v) = nI u) ∧
  (∀ t, t < nt → (nd t ≤ 6 ∧ w (11 + 7 * t + 6) = nI (nd t)) ∧ (∃ a p o c le mo, w (11 + 7 * t) = nI a ∧ a < nw ∧ w (11 + 7 * t + 1) = nI p ∧ 4 ≤ p ∧ p ≤ 60 ∧ w (11 + 7 * t + 2) = nI o ∧ o ≤ 99 ∧ w (11 + 7 * t + 3) = nI c ∧ o < c ∧ c ≤ 120 ∧ w (11 + 7 * t + 4) = nI le ∧ le ≤ 20 ∧ w (11 + 7 * t + 5) = nI mo ∧ le ≤ mo ∧ mo ≤ 40) ∧
    ∀ n, n < nd t → ∃ u z, w (46 + 2 * (6 * t + n)) = nI u ∧ 1 ≤ u ∧ u ≤ 9 ∧ w (46 + 2 * (6 * t + n) + 1) = nI z ∧ z < 2 ^ n ∧ (0 < n → 0 < z)) ∧
  (∀ i, i < ni → InjW w nw nt nd i) ∧ ∀ t, nt ≤ t → t < 5 → w (11 + 7 * t + 6) = 0
def PTd (S : Sp) (rd : Nat) : Prop := S.1[rd + 2]? = some (1, 0) ∧ S.2.1 (rd + 2) 0 = some (rd + 3) ∧ S.2.1 (rd + 2) 1 = some (rd + 5) ∧ S.2.1 (rd + 2) 2 = some (rd + 7) ∧ S.1[rd + 7]? = some (50, 3)
def PTt (S : Sp) (d : Dt) (w : Nat → Int32) (rd nt : Nat) (nd tk : Nat → Nat) : Prop := ∀ t, t < nt → TaskT S d w t (nd t) (tk t) ∧ S.2.1 (tk t) 6 = some (tk t + 1) ∧ S.2.1 (tk t) 7 = some (tk t + 2) ∧ rd + 8 ≤ tk t ∧ (∀ s, t < s → s < nt → tk t + 3 ≤ tk s) ∧ ∀ k, nd t ≤ k → k < 6 → d.1 (tk t + 2) k = 0
def PTi (S : Sp) (d : Dt) (w : Nat → Int32) (ni : Nat) (ij : Nat → Nat) : Prop := ∀ i, i < ni → InjT S d w i (ij i)
def PTf (d : Dt) (w : Nat → Int32) (rd nw : Nat) : Prop := (∀ v, v < nw → d.1 (rd + 7) v = w (8 + v)) ∧ d.1 (rd + 2) 3 = w 0 ∧ d.1 (rd + 2) 4 = w 1 ∧ d.1 (rd + 2) 5 = w 2 ∧ d.1 (rd + 2) 6 = w 3 ∧ d.1 (rd + 2) 7 = w 5 ∧ d.1 (rd + 2) 8 = w 7
/-- a Told that is being read, against the row fresh -/
def PT (S : Sp) (d : Dt) (w : Nat → Int32) (rd nw nt ni : Nat) (nd tk ij : Nat → Nat) : Prop := PTd S rd ∧ ListT S d (rd + 3) (rd + 4) 5 nt tk ∧ ListT S d (rd + 5) (rd + 6) 18 ni ij ∧ PTt S d w rd nt nd tk ∧ PTi S d w ni ij ∧ PTf d w rd nw ∧ WP w nw nt ni nd
/-- what the model does behind a fault -/
def Safe (m : Dt) (o : Option (Unit × Dt)) : Prop := ¬ m.1 0 12 = 0 → ∃ m', o = some ((), m') ∧ ∀ a, a ≠ 6 → m'.1 a = m.1 a
section
variable {S0 S S' T : Sp} {d0 m0 d m d' m' d'' m'' x y : Dt} {rd sz ap tk a c z nw nt ni : Nat} {nd tks ij : Nat → Nat} {w w' : Nat → Int32} {lo hi : Int32}
theorem bs_end : Safe m (some ((), m)) := fun _ => ⟨m, rfl, fun _ _ => rfl⟩
theorem bs_set {ix v : Int32} {j : Nat} {K : Nat × Nat → Dt → Option (Unit × Dt)} (hi : aix MoS 50 (MoS.2.1 0 14) ix = some (6, j)) (h : Safe (dI m 6 j v) (K (6, j) (dI m 6 j v))) : Safe m ((aix MoS 50 (MoS.2.1 0 14) ix).bind fun q => (some (dI m q.1 q.2 v)).bind fun e => K q e) := by
  intro hb
  obtain ⟨m', h1, h2⟩ := h (by rw [dI_ne (by omega)]; exact hb)
  refine ⟨m', ?_, fun a ha => (h2 a ha).trans (dI_ne ha)⟩
  rw [hi, Option.bind_some, Option.bind_some]
  exact h1
theorem bs_ix {ix : Int32} {j : Nat} {K : Nat × Nat → Option (Unit × Dt)} (hi : aix MoS 50 (MoS.2.1 0 14) ix = some (6, j)) (h : Safe m (K (6, j))) : Safe m ((aix MoS 50 (MoS.2.1 0 14) ix).bind K) := by
  rw [hi, Option.bind_some]
  exact h
theorem bs_some {v : Int32} {j : Nat} {K : Dt → Option (Unit × Dt)} (h : Safe (dI m 6 j v) (K (dI m 6 j v))) : Safe m ((some (dI m 6 j v)).bind K) := by
  intro hb
  obtain ⟨m', h1, h2⟩ := h (by rw [dI_ne (by omega)]; exact hb)
  exact ⟨m', h1, fun a ha => (h2 a ha).trans (dI_ne ha)⟩
theorem bs_told {i : Nat} {K : Int32 → Dt → Option (Unit × Dt)} (hi' : i < 24) (h : Safe m (K 0 m)) : Safe m (bind2 (Mo_toldBy 0 (some (OPQ + i)) lo hi MoS m) K) := by
  intro hb
  rw [toldBy_0 hi' hb, bind2_some]
  exact h hb
theorem bs_exp {i : Nat} {K : Unit → Dt → Option (Unit × Dt)} (hi' : i < 24) (h : Safe m (K () m)) : Safe m (bind2 (Mo_expects 0 (some (OPQ + i)) MoS m) K) := by
  intro hb
  rw [expects_0 hi' hb, bind2_some]
  exact h hb
theorem bs_takes {K : Int32 → Dt → Option (Unit × Dt)} (h : Safe m (K 0 m)) : Safe m (bind2 (Mo_takes 0 lo hi MoS m) K) := by
  intro hb
  rw [takes_0 hb, bind2_some]
  exact h hb
theorem bs_K {K : Nat → Option (Unit × Dt)} (h : Safe m (K 0)) : Safe m ((isK MoS 9 (some 0)).bind K) := by
  rw [Mo_K, Option.bind_some]
  exact h
theorem OF.of {γ : Type} {o : Option ((γ ⊕ Nat) × Sp × Dt)} {p : Option (Unit × Dt)} (f1 : o = some (.inr z, S', d')) (f3 : Flt S0 d0 m0 c z S' d' m') (hs : Safe m' p) : OF S0 d0 m0 c () o p := by
  obtain ⟨m2, h1, h2⟩ := hs f3.2.2.2.2.2
  exact ⟨z, S', d', m2, f1, h1, f3.m6 h2⟩
theorem OF.mono {γ β : Type} {y0 : β} {c' : Nat} {o : Option ((γ ⊕ Nat) × Sp × Dt)} {p : Option (β × Dt)} (h : OF S0 d0 m0 c y0 o p) (hc : c ≤ c') : OF S0 d0 m0 c' y0 o p := by
  obtain ⟨z, S', d', m', f1, f2, f3⟩ := h
  exact ⟨z, S', d', m', f1, f2, f3.mono hc⟩
theorem Mf (i : Nat) (hi : i < 201) : aix MoS 50 (MoS.2.1 0 14) (nI i) = some (6, i) := by rw [MoS_R0_14]; exact ma6 hi
/-- writes to what is being read -/
theorem Rs.wr (h : Rs S0 d0 m0 rd sz c ap tk S d m) (hd : ∀ b, b ≤ rd → d'.1 b = d.1 b) (hm : ∀ b, b ≠ 6 → m'.1 b = m.1 b) : Rs S0 d0 m0 rd sz c ap tk S d' m' := by
  obtain ⟨h1, ⟨⟨x1, x2, x3, x4, x5, x6, x7⟩, ⟨bg, g1, g2, g3⟩, t1, t2, t3, t4⟩, h3, h4, ⟨b1, b2, b3, b4, b5⟩, h6⟩ := h
  have hrd := h1.2.1
  have e1 := hd rd (Nat.le_refl _)
  have e8 := hd 8 (by omega)
  have e0 := hm 0 (by omega)
  have e4 := hm 4 (by omega)
  refine ⟨h1, ⟨⟨x1, x2, by rw [e1]; exact x3, by rw [e0]; exact x4, by rw [e1]; exact x5, by rw [e0]; exact x6, fun i hi => by rw [e8, e4]; exact x7 i hi⟩, ⟨bg, g1, by rw [e1]; exact g2, by rw [e0]; exact g3⟩, t1, by rw [e1]; exact t2, by rw [e0]; exact t3, fun z => by rw [e1, e0]; exact t4 z⟩, by rw [e0]; exact h3, by rw [e0]; exact h4, ⟨b1, b2, fun a ha => (hd a (by omega)).trans (b3 a ha), fun a y z => (hm a z).trans (b4 a y z), fun k hk => by rw [e0]; exact b5 k hk⟩, h6⟩
/-- new cells -/
theorem Rs.ext {j : Nat} (h : Rs S0 d0 m0 rd sz c ap tk S d m) (he : Ext S T) (hc : T.2.2.1 ≤ S.2.2.1 + j ∧ T.2.2.2 ≤ S.2.2.2 + 32 * j ∧ T.1.length + S.2.2.1 ≤ T.2.2.1 + S.1.length) (hd : ∀ b, b ≤ rd → d'.1 b = d.1 b) : Rs S0 d0 m0 rd sz (c + j) ap tk T d' m := by
  obtain ⟨h1, h2, h3, h4, ⟨b1, b2, b3, b4, b5⟩, h6⟩ := h.wr hd (fun _ _ => rfl)
  exact ⟨h1.ext he, h2, h3, h4, ⟨b1.tr he, by omega, b3, b4, b5⟩, h6⟩
theorem PT.go (h : PT S d w rd nw nt ni nd tks ij) (hr : S.1[rd]? = some (10, 0)) (he : Ext S T) (hd : ∀ b, b < S.1.length → b ≠ rd → d'.1 b = d.1 b) : PT T d' w rd nw nt ni nd tks ij := by
  obtain ⟨⟨p1, p2, p3, p4, p5⟩, ⟨l1, l2, l3, l4, l5, l6, l7⟩, ⟨k1, k2, k3, k4, k5, k6, k7⟩, hT, hI, ⟨f1, f2, f3, f4, f5, f6, f7⟩, hW⟩ := h
  have q1 := (List.getElem?_eq_some_iff.mp p1).1
  have q5 := (List.getElem?_eq_some_iff.mp p5).1
  have e2 := hd (rd + 2) (by omega) (by omega)
  have e3 := hd (rd + 3) (by omega) (by omega)
  have e5 := hd (rd + 5) (by omega) (by omega)
  have e7 := hd (rd + 7) (by omega) (by omega)
  have r2 := he.2.1 (rd + 2) (by omega)
  have r3 := he.2.1 (rd + 3) (by omega)
  have r4 := he.2.1 (rd + 4) (by omega)
  have r5 := he.2.1 (rd + 5) (by omega)
  have r6 := he.2.1 (rd + 6) (by omega)
  refine ⟨⟨(he.1 _ q1).trans p1, by rw [r2]; exact p2, by rw [r2]; exact p3, by rw [r2]; exact p4, (he.1 _ q5).trans p5⟩, ⟨(he.1 _ (by omega)).trans l1, by rw [r3]; exact l2, (he.1 _ (by omega)).trans l3, by rw [e3]; exact l4, l5, fun i hi => by rw [r4]; exact l6 i hi, fun i hi hj => by rw [r4]; exact l7 i hi hj⟩, ⟨(he.1 _ (by omega)).trans k1, by rw [r5]; exact k2, (he.1 _ (by omega)).trans k3, by rw [e5]; exact k4, k5, fun i hi => by rw [r6]; exact k6 i hi, fun i hi hj => by rw [r6]; exact k7 i hi hj⟩, fun t ht => ?_, fun i hi => ?_, ⟨fun v hv => by rw [e7]; exact f1 v hv, by rw [e2]; exact f2, by rw [e2]; exact f3, by rw [e2]; exact f4, by rw [e2]; exact f5, by rw [e2]; exact f6, by rw [e2]; exact f7⟩, hW⟩
  · obtain ⟨⟨s1, s2, s3, s4, s5, u, b, s6, s7, s8, s9, s10, s11⟩, v1, v2, v3, v4, v5⟩ := hT t ht
    have eu : u = tks t + 1 := Option.some.inj (s6.symm.trans v1)
    have eb : b = tks t + 2 := Option.some.inj (s7.symm.trans v2)
    subst eu eb
    have z1 := (List.getElem?_eq_some_iff.mp s9).1
    have ra := he.2.1 (tks t) (by omega)
    have da := hd (tks t) (by omega) (by omega)
    have du := hd (tks t + 1) (by omega) (by omega)
    have db := hd (tks t + 2) (by omega) (by omega)
    exact ⟨⟨(he.1 _ (by omega)).trans s1, fun f hf => by rw [da]; exact s2 f hf, by rw [da]; exact s3, s4, s5, tks t + 1, tks t + 2, by rw [ra]; exact s6, by rw [ra]; exact s7, (he.1 _ (by omega)).trans s8, (he.1 _ (by omega)).trans s9, fun n hn => by rw [du]; exact s10 n hn, fun k hk => by rw [db]; exact s11 k hk⟩, by rw [ra]; exact v1, by rw [ra]; exact v2, v3, v4, fun k h1 h2 => by rw [db]; exact v5 k h1 h2⟩
  · obtain ⟨s1, s2⟩ := hI i hi
    have z1 := (List.getElem?_eq_some_iff.mp s1).1
    have zr : ij i ≠ rd := fun z => by
      rw [z, hr] at s1
      exact absurd (congrArg Prod.fst (Option.some.inj s1)) (show ¬ (10 : Nat) = 13 by decide)
    exact ⟨(he.1 _ z1).trans s1, fun f hf => by rw [hd _ z1 zr]; exact s2 f hf⟩
theorem PT.nx (h : PT S d (m.1 6) rd nw nt ni nd tks ij) (hr : S.1[rd]? = some (10, 0)) (hn : Nx rd d m d' m') : PT S d' (m'.1 6) rd nw nt ni nd tks ij := by
  rw [hn.2.2.1 6 (by omega)]
  exact h.go hr Ext.rf (fun b _ hb => hn.1 b hb)
theorem list_sz {l e cap n : Nat} {el : Nat → Nat} (h : ListT S d l e cap n el) : Jl_size l S d = some (nI n) := by
  unfold Jl_size
  rw [isK_of h.1, Option.bind_some, h.2.2.2.1]
theorem PT.K (h : PT S d w rd nw nt ni nd tks ij) (hS : RdS S rd) : isK S 1 (S.2.1 rd 3) = some (rd + 2) := by
  rw [hS.2.2.2.2.2.1]
  exact isK_of h.1.1
theorem PT.kT (h : PT S d w rd nw nt ni nd tks ij) : isK S 16 (S.2.1 (rd + 2) 0) = some (rd + 3) := by
  rw [h.1.2.1]
  exact isK_of h.2.1.1
theorem PT.kI (h : PT S d w rd nw nt ni nd tks ij) : isK S 16 (S.2.1 (rd + 2) 1) = some (rd + 5) := by
  rw [h.1.2.2.1]
  exact isK_of h.2.2.1.1
theorem PT.wp (h : PT S d w rd nw nt ni nd tks ij) : WP w nw nt ni nd := h.2.2.2.2.2.2
theorem PT.pf (h : PT S d w rd nw nt ni nd tks ij) : PTf d w rd nw := h.2.2.2.2.2.1
/-- the model may take one more, or not -/
theorem can_full (h : Rs S0 d0 m0 rd sz c ap tk S d m) {k : Nat} (hk : k < 201) {M : Int32} (hx : m.1 6 k = M) {γ : Type} : ∃ z S' d' m', ((bind3 (Re_fault rd 3 S d) fun r4 S5 d6 => (isK S5 11 r4).bind fun z7 => some ((.inr z7 : γ ⊕ Nat), S5, d6)) = some (.inr z, S', d')) ∧ Mo_canTake 0 (nI k) M MoS m = some (0, m') ∧ Flt S0 d0 m0 (c + 1) z S' d' m' := by
  obtain ⟨z, S', d', m', f1, f2, f3, -⟩ := fault_eq (γ := γ) h (k := 3) (by omega) (by omega)
  refine ⟨z, S', d', m', f1, ?_, f3⟩
  unfold Mo_canTake
  rw [Mo_K, Option.bind_some, good_1 h.2.2.1, Option.bind_some, if_neg (show ¬ (1 : Int32) = 0 by decide), Mf k hk, Option.bind_some, if_neg (fun z => z hx), show (3 : Int32) = nI 3 from rfl, f2, bind2_some]
  unfold Mo_canTake_b22
  rw [Mo_K, Option.bind_some, good_0 f3.2.2.2.2.2, Option.bind_some, if_pos rfl]
  unfold Mo_canTake_b33
  rw [Mo_K, Option.bind_some, good_0 f3.2.2.2.2.2, Option.bind_some, show gb 0 = some 0 from rfl, Option.bind_some]
theorem can_go (hg : m.1 0 12 = 0) {k : Nat} (hk : k < 201) {M : Int32} (hx : ¬ m.1 6 k = M) (hn : Mo_advance 0 MoS m = some ((), m')) (hg' : m'.1 0 12 = 0) : Mo_canTake 0 (nI k) M MoS m = some (1, m') := by
  unfold Mo_canTake
  rw [Mo_K, Option.bind_some, good_1 hg, Option.bind_some, if_neg (show ¬ (1 : Int32) = 0 by decide), Mf k hk, Option.bind_some, if_pos hx]
  unfold Mo_canTake_b22
  rw [Mo_K, Option.bind_some, good_1 hg, Option.bind_some, if_neg (show ¬ (1 : Int32) = 0 by decide), hn, bind2_some]
  unfold Mo_canTake_b33
  rw [Mo_K, Option.bind_some, good_1 hg', Option.bind_some, show gb 1 = some 1 from rfl, Option.bind_some]
theorem inI_b {v a b : Nat} (hv : v ≤ 99999) (ha : a ≤ 99999) (hb : b ≤ 99999) (h : inI (nI v) (nI a) (nI b) = 1) : a ≤ v ∧ v ≤ b := by
  unfold inI at h
  split at h
  · rename_i hc
    refine ⟨?_, ?_⟩
    · by_cases z : a ≤ v
      · exact z
      · exact absurd hc.1 (nI_ge (by omega) (by omega))
    · by_cases z : v ≤ b
      · exact z
      · exact absurd hc.2 (nI_ge (by omega) (by omega))
  · exact absurd h (by decide)
/-- the board's line -/
theorem board_eq (h : Rs S0 d0 m0 rd sz c ap tk S d m) (hp : PT S d (m.1 6) rd 0 0 0 nd tks ij) : OF S0 d0 m0 (c + 1) () (Re_boardLine rd S d) (Mo_readBoard 0 MoS m) ∨ ∃ d' m' a tk', Re_boardLine rd S d = some (.inl (), S, d') ∧ Mo_readBoard 0 MoS m = some ((), m') ∧ Rs S0 d0 m0 rd sz c a tk' S d' m' ∧ ap ≤ a ∧ (tk' ≠ 0 → ap < a) ∧ PT S d' (m'.1 6) rd 0 0 0 nd tks ij ∧ (∃ h9 cy lo9, m'.1 6 0 = nI h9 ∧ 20 ≤ h9 ∧ h9 ≤ 200 ∧ m'.1 6 1 = nI cy ∧ 5 ≤ cy ∧ cy ≤ 50 ∧ m'.1 6 2 = nI lo9 ∧ lo9 ≤ 9) ∧ m'.1 6 7 = m.1 6 7 := by
  obtain ⟨o, ho⟩ : ∃ o, o = Re_boardLine rd S d := ⟨_, rfl⟩
  obtain ⟨p, hq⟩ : ∃ p, p = Mo_readBoard 0 MoS m := ⟨_, rfl⟩
  rw [← ho, ← hq]
  have hr := h.1.2.2.1
  have f0 : aix MoS 50 (MoS.2.1 0 14) 0 = some (6, 0) := Mf 0 (by omega)
  have f1 : aix MoS 50 (MoS.2.1 0 14) 1 = some (6, 1) := Mf 1 (by omega)
  have f2 : aix MoS 50 (MoS.2.1 0 14) 2 = some (6, 2) := Mf 2 (by omega)
  unfold Re_boardLine at ho
  rw [h.1.K, Option.bind_some] at ho
  unfold Mo_readBoard at hq
  rw [Mo_K, Option.bind_some] at hq
  rcases needs_eq h (i := 6) (by omega) with ⟨z, S', d', m', g1, g2, g3, g4⟩ | ⟨d1, m1, a1, t1, n1, n2, n3, n4, n5, n6⟩
  · rw [g1, bindE_r] at ho
    rw [g2, bind2_some] at hq
    refine Or.inl (OF.of ho g3 ?_)
    rw [hq]
    exact bs_told (by omega) (bs_set f0 (bs_told (by omega) (bs_set f1 (bs_told (by omega) (bs_set f2 bs_end)))))
  rw [n1, bindE_l, h.1.K, Option.bind_some] at ho
  rw [n2, bind2_some] at hq
  have p1 := hp.nx hr n6
  rcases num_eq n3 (i := 7) (lo := 20) (hi := 200) (by omega) with ⟨z, S', d', m', g1, g2, g3, g4⟩ | ⟨v1, d2, m2, a2, t2, q1, q2, q3, q4, q5, q6, q7, q8⟩
  · rw [g1, bindE_r] at ho
    rw [g2, bind2_some] at hq
    refine Or.inl (OF.of ho g3 ?_)
    rw [hq]
    exact bs_set f0 (bs_told (by omega) (bs_set f1 (bs_told (by omega) (bs_set f2 bs_end))))
  have p2 := p1.nx hr q8
  rw [q1, bindE_l, p2.K q5.1, Option.bind_some, Option.bind_some, h.1.K, Option.bind_some] at ho
  rw [q2, bind2_some, f0, Option.bind_some, Option.bind_some] at hq
  have hw2 : Rs S0 d0 m0 rd sz c a2 t2 S (dI d2 (rd + 2) 3 (nI v1)) (dI m2 6 0 (nI v1)) := q5.wr (fun b hb => dI_ne (by omega)) (fun b hb => dI_ne hb)
  rcases num_eq hw2 (i := 8) (lo := 5) (hi := 50) (by omega) with ⟨z, S', d', m', g1, g2, g3, g4⟩ | ⟨v2, d3, m3, a3, t3, r1, r2, r3, r4, r5, r6, r7, r8⟩
  · rw [g1, bindE_r] at ho
    rw [g2, bind2_some] at hq
    refine Or.inl (OF.of ho g3 ?_)
    rw [hq]
    exact bs_set f1 (bs_told (by omega) (bs_set f2 bs_end))
  rw [r1, bindE_l, p2.K q5.1, Option.bind_some, Option.bind_some, h.1.K, Option.bind_some] at ho
  rw [r2, bind2_some, f1, Option.bind_some, Option.bind_some] at hq
  have hw3 : Rs S0 d0 m0 rd sz c a3 t3 S (dI d3 (rd + 2) 4 (nI v2)) (dI m3 6 1 (nI v2)) := r5.wr (fun b hb => dI_ne (by omega)) (fun b hb => dI_ne hb)
  rcases num_eq hw3 (i := 9) (lo := 0) (hi := 9) (by omega) with ⟨z, S', d', m', g1, g2, g3, g4⟩ | ⟨v3, d4, m4, a4, t4, s1, s2, s3, s4, s5, s6, s7, s8⟩
  · rw [g1, bindE_r] at ho
    rw [g2, bind2_some] at hq
    refine Or.inl (OF.of ho g3 ?_)
    rw [hq]
    exact bs_set f2 bs_end
  rw [s1, bindE_l, p2.K q5.1, Option.bind_some, Option.bind_some] at ho
  rw [s2, bind2_some, f2, Option.bind_some, Option.bind_some] at hq
  have c1 := inI_b (a := 20) (b := 200) q3 (by omega) (by omega) q4
  have c2' := inI_b (a := 5) (b := 50) r3 (by omega) (by omega) r4
  have c3 := inI_b (a := 0) (b := 9) s3 (by omega) (by omega) s4
  have w4 : ∀ j, j ≠ 0 → j ≠ 1 → m4.1 6 j = m.1 6 j := fun j j0 j1 => by
    rw [s8.2.2.1 6 (by omega), dI_nk (by omega), r8.2.2.1 6 (by omega), dI_nk (by omega), q8.2.2.1 6 (by omega), n6.2.2.1 6 (by omega)]
  have w40 : m4.1 6 0 = nI v1 := by rw [s8.2.2.1 6 (by omega), dI_nk (by omega), r8.2.2.1 6 (by omega), dI_at]
  have w41 : m4.1 6 1 = nI v2 := by rw [s8.2.2.1 6 (by omega), dI_at]
  have dd : ∀ b, b ≠ rd → b ≠ rd + 2 → d4.1 b = d.1 b := fun b h1 h2 => by rw [s8.1 b h1, dI_ne h2, r8.1 b h1, dI_ne h2, q8.1 b h1, n6.1 b h1]
  have d2f : ∀ f, f ≠ 3 → f ≠ 4 → d4.1 (rd + 2) f = d.1 (rd + 2) f := fun f h1 h2 => by rw [s8.1 (rd + 2) (by omega), dI_nk (by omega), r8.1 (rd + 2) (by omega), dI_nk (by omega), q8.1 (rd + 2) (by omega), n6.1 (rd + 2) (by omega)]
  have d23 : d4.1 (rd + 2) 3 = nI v1 := by rw [s8.1 (rd + 2) (by omega), dI_nk (by omega), r8.1 (rd + 2) (by omega), dI_at]
  have d24 : d4.1 (rd + 2) 4 = nI v2 := by rw [s8.1 (rd + 2) (by omega), dI_at]
  refine Or.inr ⟨dI d4 (rd + 2) 5 (nI v3), dI m4 6 2 (nI v3), a4, t4, ho, hq, s5.wr (fun b hb => dI_ne (by omega)) (fun b hb => dI_ne hb), by omega, fun z => by have := s7 z; omega, ?_, ⟨v1, v2, v3, (dI_nk (by omega)).trans w40, c1.1, c1.2, (dI_nk (by omega)).trans w41, c2'.1, c2'.2, dI_at, c3.2⟩, (dI_nk (by omega)).trans (w4 7 (by omega) (by omega))⟩
  obtain ⟨z1, ⟨l1, l2, l3, l4, l5, l6, l7⟩, ⟨k1, k2, k3, k4, k5, k6, k7⟩, -, -, ⟨y1, y2, y3, y4, y5, y6, y7⟩, ⟨x1, x2, x3, x4, x5, x6, x7⟩⟩ := hp
  have wj : ∀ j, 3 ≤ j → (dI m4 6 2 (nI v3)).1 6 j = m.1 6 j := fun j hj => (dI_nk (by omega)).trans (w4 j (by omega) (by omega))
  have dj : ∀ f, 6 ≤ f → (dI d4 (rd + 2) 5 (nI v3)).1 (rd + 2) f = d.1 (rd + 2) f := fun f hf => (dI_nk (by omega)).trans (d2f f (by omega) (by omega))
  refine ⟨z1, ⟨l1, l2, l3, ?_, l5, l6, l7⟩, ⟨k1, k2, k3, ?_, k5, k6, k7⟩, fun t ht => absurd ht (by omega), fun i hi => absurd hi (by omega), ⟨fun v hv => absurd hv (by omega), ?_, ?_, ?_, ?_, ?_, ?_⟩, ⟨?_, by omega⟩, ⟨?_, by omega⟩, ⟨?_, by omega, ?_⟩, fun v hv => absurd hv (by omega), fun v hv => absurd hv (by omega), fun v hv => absurd hv (by omega), fun t h1 h2 => ?_⟩
  · rw [dI_ne (by omega), dd _ (by omega) (by omega)]; exact l4
  · rw [dI_ne (by omega), dd _ (by omega) (by omega)]; exact k4
  · rw [dI_nk (by omega), dI_nk (by omega), d23, w40]
  · rw [dI_nk (by omega), dI_nk (by omega), d24, w41]
  · rw [dI_at, dI_at]
  · rw [dj 6 (by omega), wj 3 (by omega)]; exact y5
  · rw [dj 7 (by omega), wj 5 (by omega)]; exact y6
  · rw [dj 8 (by omega), wj 7 (by omega)]; exact y7
  · rw [wj 3 (by omega)]; exact x1.1
  · rw [wj 4 (by omega)]; exact x2.1
  · rw [wj 5 (by omega)]; exact x3.1
  · rw [wj 6 (by omega)]; exact x3.2.2
  · rw [wj _ (by omega)]; exact x7 t h1 h2
end
