/-! THE PLAIN LAW: feed -/
set_option maxRecDepth 100000
theorem gn_ok {n : Nat} (hn : n ≤ 65536) : gn (nI n) = some n := by
  unfold gn
  rw [if_pos ⟨nI_pos (by omega), by rw [nI_clamp (by omega)]; exact hn⟩, nI_clamp (by omega)]
theorem RelN.tape {S : Sp} {d1 d1' d2 d2' : Dt} {q : TdP} (h : RelN S d1 d2 q) (hF : WsFix S) (k1 : ∀ a, a ≠ 8 → a ≠ 0 → d1'.1 a = d1.1 a) (k0 : ∀ k, k ≠ 3 → d1'.1 0 k = d1.1 0 k) (m1 : ∀ a, a ≠ 4 → a ≠ 5 → a ≠ 0 → d2'.1 a = d2.1 a) (m0 : ∀ k, k ≠ 5 → d2'.1 0 k = d2.1 0 k) {tp : Nat} (htp : tp ≤ 1000) (e1 : d1'.1 0 3 = nI tp) (e2 : d2'.1 0 5 = nI tp) (et : ∀ i, i < 1000 → d1'.1 8 i = d2'.1 4 i ∧ ByteR (d2'.1 4 i)) : RelN S d1' d2' q := by
  obtain ⟨a1, a2, a3, a4, -, -, a7, a8, a9, a10⟩ := h
  have w1 : mw d2' = mw d2 := m1 1 (by omega) (by omega) (by omega)
  have kp : Kp S d1 d1' := fun a _ hr => k1 a (by omega) (by omega)
  refine ⟨a1, by rw [w1]; exact a2.go hF Ext.rf kp, a3, fun k hk => ?_, ⟨tp, htp, e1, e2⟩, et, by rw [k0 4 (by omega), m0 12 (by omega)]; exact a7, by rw [k0 5 (by omega), m0 13 (by omega)]; exact a8, by rw [k0 6 (by omega)]; exact a9, fun t ht => ?_⟩
  · rw [m1 3 (by omega) (by omega) (by omega), m1 2 (by omega) (by omega) (by omega)]
    rcases a4 k hk with z | ⟨z1, r, z2, z3, z4⟩
    · exact Or.inl z
    · exact Or.inr ⟨z1, r, z2, z3.go hF Ext.rf kp, z4⟩
  · rw [w1, k1 25 (by omega) (by omega), k1 26 (by omega) (by omega)]
    exact a10 t ht
section
variable {S : Sp} {d1 d2 : Dt} {q : TdP}
/-- the five numbers, in either memory -/
def fivA (S : Sp) (d1 : Dt) (p1 p2 p3 p4 p5 : Int32) : Dt := dI (dI (dI (dI (dI (mmNewD S d1) S.1.length 0 p1) S.1.length 1 p2) S.1.length 2 p3) S.1.length 3 p4) S.1.length 4 p5
def fivB (d2 : Dt) (p1 p2 p3 p4 p5 : Int32) : Dt := dI (dI (dI (dI (dI d2 5 0 p1) 5 1 p2) 5 2 p3) 5 3 p4) 5 4 p5
theorem fivA_ne {p1 p2 p3 p4 p5 : Int32} {a : Nat} (ha : a ≠ S.1.length) : (fivA S d1 p1 p2 p3 p4 p5).1 a = d1.1 a := by
  unfold fivA
  rw [dI_ne ha, dI_ne ha, dI_ne ha, dI_ne ha, dI_ne ha]
  exact z2_row ha
theorem fivB_ne {p1 p2 p3 p4 p5 : Int32} {a : Nat} (ha : a ≠ 5) : (fivB d2 p1 p2 p3 p4 p5).1 a = d2.1 a := by
  unfold fivB
  rw [dI_ne ha, dI_ne ha, dI_ne ha, dI_ne ha, dI_ne ha]
theorem feed_five (hF : WsFix S) (p1 p2 p3 p4 p5 : Int32) : ∀ k, k < 5 → (fivA S d1 p1 p2 p3 p4 p5).1 S.1.length k = (fivB d2 p1 p2 p3 p4 p5).1 5 k := by
  intro k hk
  unfold fivA fivB
  generalize S.1.length = m
  obtain rfl | rfl | rfl | rfl | rfl : k = 0 ∨ k = 1 ∨ k = 2 ∨ k = 3 ∨ k = 4 := by omega
  all_goals simp [u2_ap]
theorem feed_pre (hF : WsFix S) (hN : RelN S d1 d2 q) (p1 p2 p3 p4 p5 : Int32) : RelN (mmNew S (50 + 0, 5) 5) (fivA S d1 p1 p2 p3 p4 p5) (fivB d2 p1 p2 p3 p4 p5) q := by
  have hl := Ws_len hF
  obtain ⟨x1, x2⟩ := RelN_iff.mp hN
  exact RelN_iff.mpr ⟨x1.go hF Ext.new (fun a ha _ => fivA_ne (by omega)) ⟨fivA_ne (by omega), fun k _ _ => by rw [fivA_ne (by omega)]⟩ ⟨fun a _ _ => fivB_ne (by omega), by rw [fivB_ne (by omega)], by rw [fivB_ne (by omega)], by rw [fivB_ne (by omega)]⟩, x2.go (fivA_ne (by omega)) (fivA_ne (by omega)) (fivB_ne (by omega))⟩
theorem feed_3 (hF : WsFix S) {tp : Nat} (h : d1.1 0 3 = nI tp) (p1 p2 p3 p4 p5 : Int32) : (fivA S d1 p1 p2 p3 p4 p5).1 0 3 = nI tp := by
  have hl := Ws_len hF
  rw [fivA_ne (by omega)]
  exact h
theorem feed_t (hF : WsFix S) (h : ∀ i, i < 1000 → d1.1 8 i = d2.1 4 i ∧ ByteR (d2.1 4 i)) (p1 p2 p3 p4 p5 : Int32) : ∀ i, i < 1000 → (fivA S d1 p1 p2 p3 p4 p5).1 8 i = (fivB d2 p1 p2 p3 p4 p5).1 4 i ∧ ByteR ((fivB d2 p1 p2 p3 p4 p5).1 4 i) := by
  have hl := Ws_len hF
  intro i hi
  rw [fivA_ne (by omega), fivB_ne (by omega)]
  exact h i hi
end
theorem feed_run {T : Sp} {A B : Dt} {q : TdP} {m tp : Nat} {p1 p2 p3 p4 p5 : Int32} (hFT : WsFix T) (hNT : RelN T A B q) (hm : 35 ≤ m) (ai : ∀ k, k < 5 → aix T 50 (some m) (nI k) = some (m, k)) (hAB : ∀ k, k < 5 → A.1 m k = B.1 5 k) (hA3 : A.1 0 3 = nI tp) (hB5 : B.1 0 5 = nI tp) (hta : ∀ k, k < 1000 → A.1 8 k = B.1 4 k ∧ ByteR (B.1 4 k)) (hb : tp + 20 ≤ 1000) : ∃ b1 b2, Ws_feed_h45 0 p1 p2 p3 p4 p5 FU (some m) 0 T A = some (nI (tp + 20), T, b1) ∧ Mo_feed_h55 0 p1 p2 p3 p4 p5 MoS FU 0 B = some (nI (tp + 20), b2) ∧ RelN T b1 b2 q := by
  have hKT := Ws_K hFT
  refine loop2_FU (X := fun F (x : Int32 × Dt) => Ws_feed_h45 0 p1 p2 p3 p4 p5 F (some m) x.1 T x.2) (Y := fun F (x : Int32 × Dt) => Mo_feed_h55 0 p1 p2 p3 p4 p5 MoS F x.1 x.2) (Inv := fun i x y => x.1 = nI i ∧ y.1 = nI i ∧ Ks 8 A x.2 ∧ Ks 4 B y.2 ∧ ∀ k, k < 1000 → x.2.1 8 k = y.2.1 4 k ∧ ByteR (y.2.1 4 k)) (P := fun o p => ∃ b1 b2, o = some (nI (tp + 20), T, b1) ∧ p = some (nI (tp + 20), b2) ∧ RelN T b1 b2 q) (x := (0, A)) (y := (0, B)) 20 (by omega) ⟨rfl, rfl, Ks.rf, Ks.rf, hta⟩ ?_ ?_
  · rintro i hi F G ⟨x1, x2⟩ ⟨y1, y2⟩ ⟨rfl, rfl, k1, k2, k3⟩
    left
    have e1 : x2.1 0 3 = nI tp := by rw [k1.1 0 (by omega)]; exact hA3
    have e2 : y2.1 0 5 = nI tp := by rw [k2.1 0 (by omega)]; exact hB5
    have e3 : x2.1 m (i / 4) = y2.1 5 (i / 4) := by rw [k1.1 m (by omega), k2.1 5 (by omega)]; exact hAB _ (by omega)
    show ∃ x' y' : Int32 × Dt, Ws_feed_h45 0 p1 p2 p3 p4 p5 (F + 1) (some m) (nI i) T x2 = _ ∧ Mo_feed_h55 0 p1 p2 p3 p4 p5 MoS (G + 1) (nI i) y2 = _ ∧ _
    simp only [Ws_feed_h45, Mo_feed_h55, hKT, Mo_K, Option.bind_some]
    rw [if_neg (show ¬ (20 : Int32) ≤ nI i from nI_ge (b := 20) (by omega) (by omega)), if_neg (show ¬ (20 : Int32) ≤ nI i from nI_ge (b := 20) (by omega) (by omega)), show nI i / 4 = nI (i / 4) from pk_div (d := 4) (by omega) (by omega) (by omega), ai _ (by omega), e1, e2, nI_add, cr2 hFT, ca8 hFT (show tp + i < 1000 by omega), MoS_R0_6, ma5 (show i / 4 < 5 by omega), MoS_R0_4, ma4 (show tp + i < 1000 by omega)]
    simp only [Option.bind_some]
    rw [e3, nI_1]
    refine ⟨(nI (i + 1), _), (nI (i + 1), _), rfl, rfl, rfl, rfl, Ks.dI k1, Ks.dI k2, fun k hk => ?_⟩
    by_cases e9 : k = tp + i
    · subst e9
      exact ⟨dI_at.trans dI_at.symm, (congrArg ByteR dI_at).mpr (byteR_nar _)⟩
    · exact ⟨(dI_nk (fun z => e9 z.2)).trans ((k3 k hk).1.trans (dI_nk (fun z => e9 z.2)).symm), (congrArg ByteR (dI_nk (fun z => e9 z.2))).mpr (k3 k hk).2⟩
  · rintro F G ⟨x1, x2⟩ ⟨y1, y2⟩ ⟨rfl, rfl, k1, k2, k3⟩
    have e1 : x2.1 0 3 = nI tp := by rw [k1.1 0 (by omega)]; exact hA3
    have e2 : y2.1 0 5 = nI tp := by rw [k2.1 0 (by omega)]; exact hB5
    show ∃ b1 b2, Ws_feed_h45 0 p1 p2 p3 p4 p5 (F + 1) (some m) (nI 20) T x2 = some (nI (tp + 20), T, b1) ∧ Mo_feed_h55 0 p1 p2 p3 p4 p5 MoS (G + 1) (nI 20) y2 = some (nI (tp + 20), b2) ∧ _
    simp only [Ws_feed_h45, Mo_feed_h55, hKT, Mo_K, Option.bind_some]
    rw [if_pos (show (20 : Int32) ≤ nI 20 by decide), if_pos (show (20 : Int32) ≤ nI 20 by decide), e1, e2, show nI tp + 20 = nI (tp + 20) from nI_add tp 20, u2_at, u2_at]
    refine ⟨_, _, rfl, rfl, hNT.tape hFT (tp := tp + 20) (fun a x y => (dI_ne y).trans (k1.1 a x)) (fun k hk => (dI_nk (fun z => hk z.2)).trans (by rw [k1.1 0 (by omega)])) (fun a x y z => (dI_ne z).trans (k2.1 a x)) (fun k hk => (dI_nk (fun z => hk z.2)).trans (by rw [k2.1 0 (by omega)])) hb dI_at dI_at (fun k hk => ?_)⟩
    rw [dI_ne (show (8 : Nat) ≠ 0 by omega), dI_ne (show (4 : Nat) ≠ 0 by omega)]
    exact k3 k hk
theorem feed_t1 : (1000 : Int32) = nI 1000 := rfl
theorem feed_if {tp : Nat} (hb : tp + 20 ≤ 1000) : (nI tp + 20 : Int32) ≤ 1000 := by
  rw [feed_t1, show (nI tp + 20 : Int32) = nI (tp + 20) from nI_add tp 20]
  exact nI_le hb (by omega)
theorem feed_nif {tp : Nat} (h0 : tp ≤ 1000) (hb : ¬ tp + 20 ≤ 1000) : ¬ (nI tp + 20 : Int32) ≤ 1000 := by
  rw [feed_t1, show (nI tp + 20 : Int32) = nI (tp + 20) from nI_add tp 20]
  exact nI_ge (by omega) (by omega)
theorem Ws_feed_eq {S : Sp} {d : Dt} {tp : Nat} (hF : WsFix S) (h3 : d.1 0 3 = nI tp) (hb : tp + 20 ≤ 1000) (p1 p2 p3 p4 p5 : Int32) : Ws_feed 0 p1 p2 p3 p4 p5 S d = Ws_feed_h45 0 p1 p2 p3 p4 p5 FU (some S.1.length) 0 (mmNew S (50 + 0, 5) 5) (fivA S d p1 p2 p3 p4 p5) := by
  have hat : (mmNew S (50 + 0, 5) 5).1[S.1.length]? = some (50, 5) := mmNew_at
  have ai : ∀ k, k < 5 → aix (mmNew S (50 + 0, 5) 5) 50 (some S.1.length) (nI k) = some (S.1.length, k) := fun k hk => aix_nI hat hk (by omega)
  have a0 : aix (mmNew S (50 + 0, 5) 5) 50 (some S.1.length) 0 = some (S.1.length, 0) := ai 0 (by omega)
  have a1 : aix (mmNew S (50 + 0, 5) 5) 50 (some S.1.length) 1 = some (S.1.length, 1) := ai 1 (by omega)
  have a2 : aix (mmNew S (50 + 0, 5) 5) 50 (some S.1.length) 2 = some (S.1.length, 2) := ai 2 (by omega)
  have a3 : aix (mmNew S (50 + 0, 5) 5) 50 (some S.1.length) 3 = some (S.1.length, 3) := ai 3 (by omega)
  have a4 : aix (mmNew S (50 + 0, 5) 5) 50 (some S.1.length) 4 = some (S.1.length, 4) := ai 4 (by omega)
  have g5 : gn 5 = some 5 := gn_ok (n := 5) (by omega)
  unfold Ws_feed fivA
  rw [Ws_K hF, Option.bind_some, h3, if_pos (feed_if hb), g5, Option.bind_some, bind2_some, a0, Option.bind_some, Option.bind_some, a1, Option.bind_some, Option.bind_some, a2, Option.bind_some, Option.bind_some, a3, Option.bind_some, Option.bind_some, a4, Option.bind_some, Option.bind_some]
theorem Mo_feed_eq {d : Dt} {tp : Nat} (h3 : d.1 0 5 = nI tp) (hb : tp + 20 ≤ 1000) (p1 p2 p3 p4 p5 : Int32) : Mo_feed 0 p1 p2 p3 p4 p5 MoS d = Mo_feed_h55 0 p1 p2 p3 p4 p5 MoS FU 0 (fivB d p1 p2 p3 p4 p5) := by
  have a0 : aix MoS 50 (some 5) 0 = some (5, 0) := ma5 (i := 0) (by omega)
  have a1 : aix MoS 50 (some 5) 1 = some (5, 1) := ma5 (i := 1) (by omega)
  have a2 : aix MoS 50 (some 5) 2 = some (5, 2) := ma5 (i := 2) (by omega)
  have a3 : aix MoS 50 (some 5) 3 = some (5, 3) := ma5 (i := 3) (by omega)
  have a4 : aix MoS 50 (some 5) 4 = some (5, 4) := ma5 (i := 4) (by omega)
  unfold Mo_feed fivB
  rw [Mo_K, Option.bind_some, h3, if_pos (feed_if hb), MoS_R0_6, a0, Option.bind_some, Option.bind_some, a1, Option.bind_some, Option.bind_some, a2, Option.bind_some, Option.bind_some, a3, Option.bind_some, Option.bind_some, a4, Option.bind_some, Option.bind_some]
theorem feed_no {S : Sp} {d d2 : Dt} {tp : Nat} (hF : WsFix S) (h3 : d.1 0 3 = nI tp) (h5 : d2.1 0 5 = nI tp) (h0 : tp ≤ 1000) (hb : ¬ tp + 20 ≤ 1000) (p1 p2 p3 p4 p5 : Int32) : Ws_feed 0 p1 p2 p3 p4 p5 S d = some (-1, S, d) ∧ Mo_feed 0 p1 p2 p3 p4 p5 MoS d2 = some (-1, d2) := by
  constructor
  · unfold Ws_feed
    rw [Ws_K hF, Option.bind_some, h3, if_neg (feed_nif h0 hb)]
  · unfold Mo_feed
    rw [Mo_K, Option.bind_some, h5, if_neg (feed_nif h0 hb)]
theorem PL_0_Rel : PL_0 Rel := by
  intro n S1 d1 S2 d2 p1 p2 p3 p4 p5 hn hR
  have hU := hR.up
  have hR0 := hR
  obtain ⟨rfl, q, hF, hN, hC⟩ := rel_at hR
  obtain ⟨-, -, ⟨c1, c2, c3⟩, -⟩ := hR0
  have hN0 := hN
  obtain ⟨-, -, -, -, ⟨tp, htp0, htp1, htp2⟩, hta, -⟩ := hN0
  have hl := Ws_len hF
  by_cases hb : tp + 20 ≤ 1000
  · have hFT : WsFix (mmNew S1 (50 + 0, 5) 5) := hF.ext Ext.new
    have ai : ∀ k, k < 5 → aix (mmNew S1 (50 + 0, 5) 5) 50 (some S1.1.length) (nI k) = some (S1.1.length, k) := fun k hk => aix_nI mmNew_at hk (by omega)
    obtain ⟨b1, b2, y1, y2, y3⟩ := feed_run (p1 := p1) (p2 := p2) (p3 := p3) (p4 := p4) (p5 := p5) hFT (feed_pre hF hN p1 p2 p3 p4 p5) hl ai (feed_five hF p1 p2 p3 p4 p5) (feed_3 hF htp1 p1 p2 p3 p4 p5) (by rw [fivB_ne (by omega)]; exact htp2) (feed_t hF hta p1 p2 p3 p4 p5) hb
    refine ⟨_, _, _, _, (Ws_feed_eq hF htp1 hb p1 p2 p3 p4 p5).trans y1, (Mo_feed_eq htp2 hb p1 p2 p3 p4 p5).trans y2, rfl, hFT, ⟨?_, ?_, ?_⟩, q, y3⟩
    · show S1.2.2.1 + 1 ≤ _
      omega
    · show S1.2.2.2 + 5 ≤ _
      omega
    · show (S1.1 ++ [(50 + 0, 5)]).length ≤ S1.2.2.1 + 1
      rw [List.length_append, List.length_singleton]
      omega
  · obtain ⟨z1, z2⟩ := feed_no hF htp1 htp2 htp0 hb p1 p2 p3 p4 p5
    exact ⟨_, _, _, _, z1, z2, hU⟩
