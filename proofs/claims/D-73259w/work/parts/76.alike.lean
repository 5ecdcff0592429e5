/-! THE PLAIN LAW: alike -/
set_option maxRecDepth 100000
/-- the answers' rows of both -/
def AnR (d1 d2 e1 e2 : Dt) : Prop := Ks 9 d1 e1 ∧ Ks 13 d2 e2 ∧ (∀ k, k < 64 → e1.1 9 k = e2.1 13 k)
theorem AnR.set {d1 d2 e1 e2 : Dt} (h : AnR d1 d2 e1 e2) {k : Nat} {x : Int32} : AnR d1 d2 (dI e1 9 k x) (dI e2 13 k x) := by
  refine ⟨h.1.dI, h.2.1.dI, fun j hj => ?_⟩
  by_cases e : j = k
  · subst e
    rw [dI_at, dI_at]
  · rw [dI_nk (fun z => e z.2), dI_nk (fun z => e z.2)]
    exact h.2.2 j hj
theorem irm64 {x : Nat} (hx : x < 2 ^ 31) : irm (nI x) 64 = nI (x % 64) := irm_nI (b := 64) hx (by omega) (by omega)
theorem fol64 {a n : Nat} (ha : a < 64) (hn : n < 6) : irm (((5 * nI a) + nI n) + 1) 64 = nI ((5 * a + n + 1) % 64) := by
  rw [show (5 : Int32) * nI a = nI (5 * a) from nI_mul 5 a, nI_add, nI_1]
  exact irm64 (by omega)
theorem from_eq {S : Sp} {d1 d2 : Dt} {q : TdP} {t : Nat} (h : CE S d1 (mw d2) q) (ht : t < q.nt) : ∀ f n a e1 e2, n < q.nd t → q.nd t - n ≤ f → a < 64 → AnR d1 d2 e1 e2 → ∃ e1' e2', Ws_answersFrom f 0 (some (q.tk t)) (nI n) (nI a) S e1 = some ((), e1') ∧ Mo_goesWays f 0 (nI t) (nI n) (nI a) MoS e2 = some ((), e2') ∧ AnR d1 d2 e1' e2' := by
  obtain ⟨f1, f2, f3, f4⟩ := h.tf ht
  have h5 := h.nt5
  intro f
  induction f with
  | zero => intro n a e1 e2 h1 h2; omega
  | succ f ih =>
    intro n a e1 e2 hn h2 ha hA
    have hC : CE S e1 (mw d2) q := h.go (hA.1.kp (by omega) (by omega))
    have ew : mw e2 = mw d2 := hA.2.1.1 1 (by omega)
    obtain ⟨s1, s2, s3, s4, hnd, u, b, s6, s7, s8, s9, s10, s11⟩ := hC.task ht
    have hg : gc (gp (mw d2) t n) (q.nd t) ≤ q.nd t := gc_le _ _
    -- the two loops over the followers
    have hl : ∀ c g1 g2, c < 64 → AnR d1 d2 g1 g2 → ∃ e1' e2', Ws_answersFrom_b27 0 (some (q.tk t)) (nI n) (nI a) (Ws_answersFrom f) S (nI c) g1 = some ((), e1') ∧ Mo_goesWays_b27 0 (nI t) (nI n) (nI a) (Mo_goesWays f) MoS (nI c) g2 = some ((), e2') ∧ AnR d1 d2 e1' e2' := by
      intro c g1 g2 hc hG
      unfold Ws_answersFrom_b27 Mo_goesWays_b27
      rw [Option.bind_some, Option.bind_some, nI_1]
      refine loop2_FU (X := fun F (x : Int32 × Dt) => Ws_answersFrom_h32 0 (some (q.tk t)) (nI n) (nI a) (Ws_answersFrom f) S F (nI c) x.1 x.2) (Y := fun F (x : Int32 × Dt) => Mo_goesWays_h32 0 (nI t) (nI n) (nI a) (Mo_goesWays f) MoS F (nI c) x.1 x.2) (Inv := fun i x y => x.1 = nI (n + 1 + i) ∧ y.1 = nI (n + 1 + i) ∧ AnR d1 d2 x.2 y.2) (P := fun o p => ∃ e1' e2', o = some ((), e1') ∧ p = some ((), e2') ∧ AnR d1 d2 e1' e2') (x := (nI (n + 1), g1)) (y := (nI (n + 1), g2)) (q.nd t - (n + 1)) (by omega) ⟨rfl, rfl, hG⟩ ?_ ?_
      · rintro i hi F G ⟨x1, x2⟩ ⟨y1, y2⟩ ⟨rfl, rfl, hI⟩
        left
        have hI' : AnR d1 d2 x2 y2 := hI
        have hD : CE S x2 (mw d2) q := h.go (hI'.1.kp (by omega) (by omega))
        have ey : mw y2 = mw d2 := hI'.2.1.1 1 (by omega)
        obtain ⟨r1, r2, r3, r4, -, u', b', r6, r7, r8, r9, r10, r11⟩ := hD.task ht
        have hw' : mw y2 (11 + 7 * t + 6) = nI (q.nd t) := by rw [ey]; exact f3
        show ∃ x' y' : Int32 × Dt, Ws_answersFrom_h32 0 (some (q.tk t)) (nI n) (nI a) (Ws_answersFrom f) S (F + 1) (nI c) (nI (n + 1 + i)) x2 = _ ∧ Mo_goesWays_h32 0 (nI t) (nI n) (nI a) (Mo_goesWays f) MoS (G + 1) (nI c) (nI (n + 1 + i)) y2 = _ ∧ _
        simp only [Ws_answersFrom_h32, Mo_goesWays_h32, hD.tK ht, hD.K, Mo_K, Option.bind_some]
        rw [r3, if_neg (nI_ge (by omega) (by omega)), r7, aix_nI r9 (by omega) (by omega), Mo_nodesOf_eq (by omega), hw']
        simp only [Option.bind_some]
        rw [if_neg (nI_ge (by omega) (by omega)), r11 n hn, isOn_fol hnd (by omega), Mo_isBehind_gp (by omega) (by omega) (by omega) (by omega), ey]
        simp only [Option.bind_some]
        rw [nI_1]
        by_cases hp : gp (mw d2) t n (n + 1 + i) = true
        · obtain ⟨k1, k2, z1, z2, z3⟩ := ih (n + 1 + i) c x2 y2 (by omega) (by omega) hc hI'
          rw [if_pos (show n + 1 + i < q.nd t ∧ gp (mw d2) t n (n + 1 + i) = true from ⟨by omega, hp⟩), if_pos hp, if_neg (by decide), if_neg (by decide), z1, z2, bind2_some, bind2_some]
          exact ⟨(nI (n + 1 + i + 1), k1), (nI (n + 1 + i + 1), k2), rfl, rfl, rfl, rfl, z3⟩
        · rw [if_neg (show ¬ (n + 1 + i < q.nd t ∧ gp (mw d2) t n (n + 1 + i) = true) from fun z => hp z.2), if_neg hp, if_pos rfl, if_pos rfl]
          exact ⟨(nI (n + 1 + i + 1), x2), (nI (n + 1 + i + 1), y2), rfl, rfl, rfl, rfl, hI'⟩
      · rintro F G ⟨x1, x2⟩ ⟨y1, y2⟩ ⟨rfl, rfl, hI⟩
        have hI' : AnR d1 d2 x2 y2 := hI
        have hD : CE S x2 (mw d2) q := h.go (hI'.1.kp (by omega) (by omega))
        have ey : mw y2 = mw d2 := hI'.2.1.1 1 (by omega)
        obtain ⟨r1, r2, r3, r4, -⟩ := hD.task ht
        have hw' : mw y2 (11 + 7 * t + 6) = nI (q.nd t) := by rw [ey]; exact f3
        show ∃ e1' e2', Ws_answersFrom_h32 0 (some (q.tk t)) (nI n) (nI a) (Ws_answersFrom f) S (F + 1) (nI c) (nI (n + 1 + (q.nd t - (n + 1)))) x2 = _ ∧ Mo_goesWays_h32 0 (nI t) (nI n) (nI a) (Mo_goesWays f) MoS (G + 1) (nI c) (nI (n + 1 + (q.nd t - (n + 1)))) y2 = _ ∧ _
        rw [show n + 1 + (q.nd t - (n + 1)) = q.nd t from by omega]
        simp only [Ws_answersFrom_h32, Mo_goesWays_h32, hD.tK ht, Mo_K, Option.bind_some]
        rw [r3, if_pos (nI_le (Nat.le_refl _) (by omega)), Mo_nodesOf_eq (by omega), hw']
        simp only [Option.bind_some]
        rw [if_pos (nI_le (Nat.le_refl _) (by omega))]
        exact ⟨x2, y2, rfl, rfl, hI'⟩
    unfold Ws_answersFrom Mo_goesWays Ws_follows Mo_answered
    simp only [Option.bind_some, hC.tK ht, Mo_K]
    rw [fol64 ha (by omega), s7, aix_nI s9 (by omega) (by omega), Mo_followers_eq (by omega) hn f2 (by rw [ew]; exact f3), ew]
    simp only [Option.bind_some]
    rw [s11 n hn]
    have hc : (5 * a + n + 1) % 64 < 64 := Nat.mod_lt _ (by omega)
    by_cases h0 : gc (gp (mw d2) t n) (q.nd t) = 0
    · rw [if_neg (fun z => z ((folN_0 hnd).mpr h0)), h0, if_neg (show ¬ ¬ nI 0 = 0 from fun z => z rfl), hC.K, Option.bind_some, cr8 hC.F, ca9 hC.F hc, MoS_R0_22, ma13 hc]
      simp only [Option.bind_some]
      rw [hA.2.2 _ hc]
      exact hl _ _ _ hc hA.set
    · rw [if_pos (fun z => h0 ((folN_0 hnd).mp z)), if_pos (nI_ne0 (by omega) (by omega))]
      exact hl _ _ _ hc hA
theorem PL_17_Rel : PL_17 Rel := by
  intro n S1 d1 S2 d2 p1 p2 hn hR
  have hU := hR.up
  obtain ⟨rfl, q, hF, hN, hC⟩ := rel_at hR
  have h5 := hC.nt5
  unfold Ws_alike Mo_alike
  rw [hC.K, Mo_K]
  simp only [Option.bind_some]
  rw [hC.isTask, Mo_isTask_eq, hC.wf.2.1.1]
  simp only [Option.bind_some]
  rcases inI_nI (x := p1) (n := q.nt) (by omega) with ⟨e, -⟩ | ⟨t, ht, rfl, e⟩
  · simp only [e, i10, eq_self, not_true_eq_false, not_false_eq_true, ↓reduceIte, Option.bind_some]
    exact ⟨_, _, _, rfl, rfl, hU⟩
  simp only [e, i10, eq_self, not_true_eq_false, not_false_eq_true, ↓reduceIte, Option.bind_some]
  rw [show (63 : Int64) = (nI 63).toInt64 from by decide, Ws_in0, Mo_in0]
  simp only [Option.bind_some]
  rcases inI_lit (x := p2) (n := 63) (by omega) with ⟨e1, -⟩ | ⟨a, ha, rfl, e1⟩
  · simp only [e1, i10, eq_self, not_true_eq_false, not_false_eq_true, ↓reduceIte, Option.bind_some]
    exact ⟨_, _, _, rfl, rfl, hU⟩
  simp only [e1, i10, eq_self, not_true_eq_false, not_false_eq_true, ↓reduceIte, Option.bind_some]
  obtain ⟨f1, f2, f3, f4⟩ := hC.tf ht
  have hend : ∀ e1 e2, Ks 9 d1 e1 → Ks 13 d2 e2 → Rel (n + 1) S1 e1 MoS e2 := fun e1 e2 k1 k2 => hR.go Ext.rf ⟨by omega, by omega, by omega⟩ (k1.kp (by omega) (by omega)) (k1.kc (by omega) (by omega)) (k2.km (by omega)) (k1.1 25 (by omega)) (k1.1 26 (by omega))
  have hsum : ∀ e1 e2, AnR d1 d2 e1 e2 → ∃ r b1 b2, Ws_alike_h60 0 (nI t) (nI a) S1 FU 0 0 e1 = some (r, b1) ∧ Mo_alike_h56 0 (nI t) (nI a) MoS FU 0 0 e2 = some (r, b2) ∧ Rel (n + 1) S1 b1 MoS b2 := by
    intro e1 e2 hA
    have hD : CE S1 e1 (mw d2) q := hC.go (hA.1.kp (by omega) (by omega))
    refine loop2_FU (X := fun F (x : Int32 × Int32) => Ws_alike_h60 0 (nI t) (nI a) S1 F x.1 x.2 e1) (Y := fun F (x : Int32 × Int32) => Mo_alike_h56 0 (nI t) (nI a) MoS F x.1 x.2 e2) (Inv := fun i x y => x = y ∧ x.2 = nI i) (P := fun o p => ∃ r b1 b2, o = some (r, b1) ∧ p = some (r, b2) ∧ Rel (n + 1) S1 b1 MoS b2) (x := (0, 0)) (y := (0, 0)) 64 (by omega) ⟨rfl, rfl⟩ ?_ ?_
    · rintro i hi F G ⟨x1, x2⟩ ⟨y1, y2⟩ ⟨hxy, hx⟩
      cases hxy
      have hx' : x2 = nI i := hx
      subst hx'
      left
      show ∃ x' y' : Int32 × Int32, Ws_alike_h60 0 (nI t) (nI a) S1 (F + 1) x1 (nI i) e1 = _ ∧ Mo_alike_h56 0 (nI t) (nI a) MoS (G + 1) x1 (nI i) e2 = _ ∧ _
      simp only [Ws_alike_h60, Mo_alike_h56, hD.K, Mo_K, Option.bind_some]
      rw [if_neg (show ¬ (64 : Int32) ≤ nI i from nI_ge (b := 64) (by omega) (by omega)), if_neg (show ¬ (64 : Int32) ≤ nI i from nI_ge (b := 64) (by omega) (by omega)), cr8 hD.F, ca9 hD.F hi, MoS_R0_22, ma13 hi]
      simp only [Option.bind_some]
      rw [hA.2.2 i hi, nI_1]
      exact ⟨(_, nI (i + 1)), (_, nI (i + 1)), rfl, rfl, rfl, rfl⟩
    · rintro F G ⟨x1, x2⟩ ⟨y1, y2⟩ ⟨hxy, hx⟩
      cases hxy
      have hx' : x2 = nI 64 := hx
      subst hx'
      show ∃ r b1 b2, Ws_alike_h60 0 (nI t) (nI a) S1 (F + 1) x1 (nI 64) e1 = some (r, b1) ∧ Mo_alike_h56 0 (nI t) (nI a) MoS (G + 1) x1 (nI 64) e2 = some (r, b2) ∧ _
      simp only [Ws_alike_h60, Mo_alike_h56]
      rw [if_pos (show (64 : Int32) ≤ nI 64 by decide), if_pos (show (64 : Int32) ≤ nI 64 by decide)]
      exact ⟨_, _, _, rfl, rfl, hend e1 e2 hA.1 hA.2.1⟩
  refine loop2_FU (X := fun F (x : Int32 × Dt) => Ws_alike_h25 0 (nI t) (nI a) S1 F x.1 x.2) (Y := fun F (x : Int32 × Dt) => Mo_alike_h25 0 (nI t) (nI a) MoS F x.1 x.2) (Inv := fun i x y => x.1 = nI i ∧ y.1 = nI i ∧ Ks 9 d1 x.2 ∧ Ks 13 d2 y.2 ∧ ∀ k, k < i → x.2.1 9 k = y.2.1 13 k) (P := fun o p => ∃ r b1 b2, o = some (r, b1) ∧ p = some (r, b2) ∧ Rel (n + 1) S1 b1 MoS b2) (x := (0, d1)) (y := (0, d2)) 64 (by omega) ⟨rfl, rfl, Ks.rf, Ks.rf, fun k hk => absurd hk (Nat.not_lt_zero k)⟩ ?_ ?_
  · rintro i hi F G ⟨x1, x2⟩ ⟨y1, y2⟩ ⟨rfl, rfl, k1, k2, k3⟩
    left
    have hD : CE S1 x2 (mw d2) q := hC.go (Ks.kp k1 (by omega) (by omega))
    show ∃ x' y' : Int32 × Dt, Ws_alike_h25 0 (nI t) (nI a) S1 (F + 1) (nI i) x2 = _ ∧ Mo_alike_h25 0 (nI t) (nI a) MoS (G + 1) (nI i) y2 = _ ∧ _
    simp only [Ws_alike_h25, Mo_alike_h25, hD.K, Mo_K, Option.bind_some]
    rw [if_neg (show ¬ (64 : Int32) ≤ nI i from nI_ge (b := 64) (by omega) (by omega)), if_neg (show ¬ (64 : Int32) ≤ nI i from nI_ge (b := 64) (by omega) (by omega)), cr8 hD.F, ca9 hD.F hi, MoS_R0_22, ma13 hi]
    simp only [Option.bind_some]
    rw [nI_1]
    refine ⟨(nI (i + 1), dI x2 9 i 0), (nI (i + 1), dI y2 13 i 0), rfl, rfl, rfl, rfl, Ks.dI k1, Ks.dI k2, fun k hk => ?_⟩
    show (dI x2 9 i 0).1 9 k = (dI y2 13 i 0).1 13 k
    by_cases e9 : k = i
    · subst e9
      rw [dI_at, dI_at]
    · rw [dI_nk (fun z => e9 z.2), dI_nk (fun z => e9 z.2)]
      exact k3 k (by omega)
  · rintro F G ⟨x1, x2⟩ ⟨y1, y2⟩ ⟨rfl, rfl, k1, k2, k3⟩
    have hD : CE S1 x2 (mw d2) q := hC.go (Ks.kp k1 (by omega) (by omega))
    show ∃ r b1 b2, Ws_alike_h25 0 (nI t) (nI a) S1 (F + 1) (nI 64) x2 = some (r, b1) ∧ Mo_alike_h25 0 (nI t) (nI a) MoS (G + 1) (nI 64) y2 = some (r, b2) ∧ _
    simp only [Ws_alike_h25, Mo_alike_h25, hD.K, Mo_K, Option.bind_some]
    rw [if_pos (show (64 : Int32) ≤ nI 64 by decide), if_pos (show (64 : Int32) ≤ nI 64 by decide), hD.taskOf ht]
    simp only [Option.bind_some]
    obtain ⟨e1', e2', z1, z2, z3⟩ := from_eq hC ht 8 0 a x2 y2 f1 (by omega) (by omega) ⟨k1, k2, k3⟩
    rw [show Ws_answersFrom 8 0 (some (q.tk t)) 0 (nI a) S1 x2 = _ from z1, show Mo_goesWays 8 0 (nI t) 0 (nI a) MoS y2 = _ from z2, bind2_some, bind2_some]
    exact hsum e1' e2' z3
