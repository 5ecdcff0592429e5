/-! THE PLAIN LAW: orders, both searches -/
set_option maxRecDepth 100000
/-- the first order is kept alike; m have been found -/
def OrR (nt k : Nat) (e1 e2 : Dt) (m : Nat) : Prop := e2.1 0 21 = nI m ∧ ((e1.1 0 10 = 0 ∧ m = 0 ∧ ∀ j, j < k → e1.1 10 j = e2.1 11 j) ∨ (e1.1 0 10 = 1 ∧ 0 < m ∧ ∀ j, j < nt → e1.1 10 j = e2.1 12 j))
section
variable {S : Sp} {d d2 : Dt} {q : TdP}
/-- the order at hand is copied, one more is counted -/
theorem ord_copy {k : Nat} (hk : k ≤ 5) {e : Dt} {p2 : Int32} {rec : Nat → Int32 → Int32 → Sp → Dt → Option (Unit × Dt)} (he : KoM d2 e) : ∃ e', Mo_goesOrders_h37 0 (nI k) p2 rec MoS FU 0 e = some ((), e') ∧ KoM d2 e' ∧ e'.1 0 21 = e.1 0 21 + 1 ∧ e'.1 10 = e.1 10 ∧ e'.1 11 = e.1 11 ∧ ∀ j, j < k → e'.1 12 j = e.1 11 j := by
  refine loop_FU (X := fun F (x : Int32 × Dt) => Mo_goesOrders_h37 0 (nI k) p2 rec MoS F x.1 x.2) (Inv := fun i x => x.1 = nI i ∧ KoM d2 x.2 ∧ x.2.1 0 = e.1 0 ∧ x.2.1 10 = e.1 10 ∧ x.2.1 11 = e.1 11 ∧ ∀ j, j < i → x.2.1 12 j = e.1 11 j) (P := fun o => ∃ e', o = some ((), e') ∧ KoM d2 e' ∧ e'.1 0 21 = e.1 0 21 + 1 ∧ e'.1 10 = e.1 10 ∧ e'.1 11 = e.1 11 ∧ ∀ j, j < k → e'.1 12 j = e.1 11 j) (x := (0, e)) k (by omega) ⟨rfl, he, rfl, rfl, rfl, fun j hj => absurd hj (Nat.not_lt_zero j)⟩ ?_ ?_
  · rintro i hi F ⟨x1, g⟩ ⟨rfl, g1, g2, g3, g4, g5⟩
    have g1' : KoM d2 g := g1
    refine ⟨(nI (i + 1), dI g 12 i (g.1 11 i)), ?_, rfl, g1'.dI (Or.inl ⟨by omega, by omega⟩), (dI_ne (by omega)).trans g2, (dI_ne (by omega)).trans g3, (dI_ne (by omega)).trans g4, fun j hj => ?_⟩
    · show Mo_goesOrders_h37 0 (nI k) p2 rec MoS (F + 1) (nI i) g = Mo_goesOrders_h37 0 (nI k) p2 rec MoS F (nI (i + 1)) (dI g 12 i (g.1 11 i))
      rw [Mo_goesOrders_h37, if_neg (nI_ge hi (by omega)), Mo_K, Option.bind_some, MoS_R0_19, ma11 (show i < 5 by omega), Option.bind_some, MoS_R0_20, ma12 (show i < 5 by omega), Option.bind_some, Option.bind_some, nI_1]
    · show (dI g 12 i (g.1 11 i)).1 12 j = _
      by_cases e9 : j = i
      · subst e9
        rw [dI_at]
        exact congrFun g4 j
      · rw [dI_nk (fun z => e9 z.2)]
        exact g5 j (by omega)
  · rintro F ⟨x1, g⟩ ⟨rfl, g1, g2, g3, g4, g5⟩
    have g1' : KoM d2 g := g1
    refine ⟨dI g 0 21 (g.1 0 21 + 1), ?_, g1'.dI (Or.inr ⟨rfl, rfl⟩), ?_, (dI_ne (by omega)).trans g3, (dI_ne (by omega)).trans g4, fun j hj => (congrFun (dI_ne (by omega)) j).trans (g5 j hj)⟩
    · show Mo_goesOrders_h37 0 (nI k) p2 rec MoS (F + 1) (nI k) g = _
      rw [Mo_goesOrders_h37, if_pos (nI_le (Nat.le_refl _) (by omega))]
      unfold Mo_goesOrders_b60
      rw [Mo_K, Option.bind_some, Option.bind_some]
    · rw [dI_at]
      exact congrArg (· + 1) (congrFun g2 21)
theorem ord_good {B : Nat → Nat → Bool} (h : CE S d (mw d2) q) (hBC : ∀ e, KoC d e → ∀ i, i < q.nt → ∀ U, U < 32 → Ws_isLawful 0 (nI i) (nI U) S e = some (if B i U then 1 else 0)) (hB : ∀ e A, KoM d2 e → AhM q.nt e A → ∀ i, i < q.nt → Mo_isLawful 0 (nI i) MoS e = some (if B i (A i) then 1 else 0)) : ∀ f k U e1 e2 A m, k ≤ q.nt → q.nt - k < f → U < 32 → gc U.testBit q.nt = k → KoC d e1 → KoM d2 e2 → AhM q.nt e2 A → (∀ t, t < q.nt → U.testBit t = true → B t (A t) = true) → m + 6 ^ (q.nt - k) ≤ 10000 → OrR q.nt k e1 e2 m → ∃ c e1' e2' A', Ws_ordersFrom f 0 (nI U) (nI k) S e1 = some (nI c, e1') ∧ Mo_goesOrders f 0 (nI k) (nI U) MoS e2 = some ((), e2') ∧ KoC d e1' ∧ KoM d2 e2' ∧ c ≤ 6 ^ (q.nt - k) ∧ OrR q.nt k e1' e2' (m + c) ∧ AhM q.nt e2' A' ∧ (∀ t, U.testBit t = true → A' t = A t) ∧ ∀ j, j < k → e2'.1 11 j = e2.1 11 j := by
  have h5 := h.nt5
  intro f
  induction f with
  | zero => intro k U e1 e2 A m h1 h2; omega
  | succ f ih =>
    intro k U e1 e2 A m hk hf hU hc hK1 hK2 hA hgood hm hO
    have hw4 : ∀ e, KoM d2 e → e.1 1 4 = nI q.nt := fun e he => by rw [he.1 1 (by omega) (by omega)]; exact h.wf.2.1.1
    have hCE : ∀ e, KoC d e → CE S e (mw d2) q := fun e he => h.go he.kp
    rw [Mo_goesOrders, Mo_K, Option.bind_some, show aix MoS 50 (MoS.2.1 0 1) 4 = some (1, 4) from Mw 4 (by omega), Option.bind_some, hw4 e2 hK2, Ws_ordersFrom, (hCE e1 hK1).K, Option.bind_some, (hCE e1 hK1).tasks, Option.bind_some]
    by_cases hkn : k = q.nt
    · have hfull := gc_full (hc.trans hkn)
      have hgm : gm (fun i => B i (A i)) q.nt = 2 ^ q.nt - 1 := gm_full.mpr (fun t ht => hgood t ht (hfull t ht))
      rw [if_neg (fun z => z (by rw [hkn])), if_neg (fun z => z (by rw [hkn])), lawNow_gm h hK2 (hB e2 A hK2 hA), Option.bind_some, full_pow h5, hgm, Option.bind_some, if_pos rfl]
      obtain ⟨hm0, hO2⟩ := hO
      have hX : 1 ≤ 6 ^ (q.nt - k) := Nat.pow_pos (by omega)
      rcases hO2 with ⟨o1, o2, o3⟩ | ⟨o1, o2, o3⟩
      · subst o2
        rw [hm0, if_neg (fun z => z rfl)]
        obtain ⟨e', y1, y2, y3, y4, y5, y6⟩ := ord_copy (d2 := d2) (k := k) (by omega) (p2 := nI U) (rec := Mo_goesOrders f) hK2
        rw [y1]
        refine ⟨1, dI e1 0 10 1, e', A, rfl, rfl, hK1.dI (Or.inr ⟨rfl, rfl⟩), y2, hX, ⟨?_, Or.inr ⟨dI_at, by omega, fun j hj => ?_⟩⟩, fun t ht => by rw [y4]; exact hA t ht, fun _ _ => rfl, fun j _ => by rw [y5]⟩
        · rw [y3, hm0]
          rfl
        · rw [dI_ne (by omega), o3 j (by omega), y6 j (by omega)]
      · rw [hm0, if_pos (nI_ne0 o2 (by omega))]
        unfold Mo_goesOrders_b60
        rw [Mo_K, Option.bind_some, Option.bind_some]
        refine ⟨1, dI e1 0 10 1, dI e2 0 21 (e2.1 0 21 + 1), A, rfl, rfl, hK1.dI (Or.inr ⟨rfl, rfl⟩), hK2.dI (Or.inr ⟨rfl, rfl⟩), hX, ⟨?_, Or.inr ⟨dI_at, by omega, fun j hj => ?_⟩⟩, fun t ht => by rw [dI_ne (by omega)]; exact hA t ht, fun _ _ => rfl, fun j _ => by rw [dI_ne (by omega)]⟩
        · rw [dI_at, hm0, nI_1]
        · rw [dI_ne (by omega), dI_ne (by omega)]
          exact o3 j hj
    · rw [if_pos (fun z => hkn ((nI_eq (by omega) (by omega)).mp z)), if_pos (fun z => hkn ((nI_eq (by omega) (by omega)).mp z))]
      obtain ⟨X, hXe⟩ : ∃ X, X = 6 ^ (q.nt - (k + 1)) := ⟨_, rfl⟩
      have hX6 : 6 ^ (q.nt - k) = 6 * X := by
        rw [hXe, show q.nt - k = (q.nt - (k + 1)) + 1 from by omega, Nat.pow_succ, Nat.mul_comm]
      rw [hX6] at hm ⊢
      refine loop2_FU (X := fun F (x : Int32 × Int32 × Dt) => Ws_ordersFrom_h20 0 (nI U) (nI k) (Ws_ordersFrom f) S F x.1 x.2.1 x.2.2) (Y := fun F (x : Int32 × Dt) => Mo_goesOrders_h73 0 (nI k) (nI U) (Mo_goesOrders f) MoS F x.1 x.2) (Inv := fun i x y => x.2.1 = nI i ∧ y.1 = nI i ∧ KoC d x.2.2 ∧ KoM d2 y.2 ∧ (∃ c, x.1 = nI c ∧ c ≤ i * X ∧ OrR q.nt k x.2.2 y.2 (m + c)) ∧ (∃ A', AhM q.nt y.2 A' ∧ ∀ t, U.testBit t = true → A' t = A t) ∧ ∀ j, j < k → y.2.1 11 j = e2.1 11 j) (P := fun o p => ∃ c e1' e2' A', o = some (nI c, e1') ∧ p = some ((), e2') ∧ KoC d e1' ∧ KoM d2 e2' ∧ c ≤ 6 * X ∧ OrR q.nt k e1' e2' (m + c) ∧ AhM q.nt e2' A' ∧ (∀ t, U.testBit t = true → A' t = A t) ∧ ∀ j, j < k → e2'.1 11 j = e2.1 11 j) (x := (0, 0, e1)) (y := (0, e2)) q.nt (by omega) ⟨rfl, rfl, hK1, hK2, ⟨0, rfl, Nat.zero_le _, hO⟩, ⟨A, hA, fun _ _ => rfl⟩, fun _ _ => rfl⟩ ?_ ?_
      · rintro i hi F G ⟨x1, x2, g1⟩ ⟨y1, g2⟩ ⟨rfl, rfl, k1, k2, ⟨c, hxc, hcX, hO'⟩, ⟨A', hA', hAA⟩, hpre⟩
        left
        have hxc' : x1 = nI c := hxc
        subst hxc'
        have k1' : KoC d g1 := k1
        have k2' : KoM d2 g2 := k2
        have hO'' : OrR q.nt k g1 g2 (m + c) := hO'
        have hA'' : AhM q.nt g2 A' := hA'
        have hpre' : ∀ j, j < k → g2.1 11 j = e2.1 11 j := hpre
        have hD := hCE g1 k1'
        have hbit := bit_on hU (show i < 5 by omega)
        have hi6 : (i + 1) * X ≤ 5 * X := Nat.mul_le_mul_right X (by omega)
        have hi7 : (i + 1) * X = i * X + X := Nat.succ_mul i X
        show ∃ (x' : Int32 × Int32 × Dt) (y' : Int32 × Dt), Ws_ordersFrom_h20 0 (nI U) (nI k) (Ws_ordersFrom f) S (F + 1) (nI c) (nI i) g1 = _ ∧ Mo_goesOrders_h73 0 (nI k) (nI U) (Mo_goesOrders f) MoS (G + 1) (nI i) g2 = _ ∧ _
        rw [Ws_ordersFrom_h20, Mo_goesOrders_h73, hD.K, Option.bind_some, hD.tasks, Option.bind_some, if_neg (nI_ge hi (by omega)), Ws_isOn_eq hU (by omega), Option.bind_some, Mo_K, Option.bind_some, show aix MoS 50 (MoS.2.1 0 1) 4 = some (1, 4) from Mw 4 (by omega), Option.bind_some, hw4 g2 k2', if_neg (nI_ge hi (by omega))]
        by_cases hb : U.testBit i = true
        · rw [if_pos hb, if_pos (show ¬ (1 : Int32) = 0 by decide), if_neg (fun z => z (hbit.mpr hb)), nI_1]
          exact ⟨(nI c, nI (i + 1), g1), (nI (i + 1), g2), rfl, rfl, rfl, rfl, k1', k2', ⟨c, rfl, by omega, hO''⟩, ⟨A', hA'', hAA⟩, hpre'⟩
        have hb' : U.testBit i = false := by cases hh : U.testBit i with
          | true => exact absurd hh hb
          | false => rfl
        rw [if_neg hb, if_neg (show ¬ ¬ (0 : Int32) = 0 from fun z => z rfl), hBC g1 k1' i hi U hU, Option.bind_some, if_pos (fun z => hb (hbit.mp z)), MoS_R0_19, ma11 (show k < 5 by omega), Option.bind_some, Option.bind_some, MoS_R0_18, ma10 (show i < 5 by omega), Option.bind_some, Option.bind_some]
        generalize hE : dI (dI g2 11 k (nI i)) 10 i (nI U) = g0
        have k0 : KoM d2 g0 := by rw [← hE]; exact (k2'.dI (Or.inl ⟨by omega, by omega⟩)).dI (Or.inl ⟨by omega, by omega⟩)
        have a0 : AhM q.nt g0 (fun t => if t = i then U else A' t) := by
          intro t ht
          show _ = nI (if t = i then U else A' t) ∧ (if t = i then U else A' t) < 32
          rw [← hE]
          by_cases et : t = i
          · subst et
            rw [if_pos rfl]
            exact ⟨dI_at, hU⟩
          · rw [if_neg et, dI_nk (fun z => et z.2), dI_ne (by omega)]
            exact hA'' t ht
        have hU' : U ||| 2 ^ i < 32 := Nat.or_lt_two_pow (n := 5) hU (Nat.pow_lt_pow_right (by omega) (by omega))
        have hc' : gc (U ||| 2 ^ i).testBit q.nt = k + 1 := by
          rw [gc_cong (q := fun j => U.testBit j || decide (i = j)) (fun j _ => or_bit), gc_set, hc, if_pos ⟨hi, hb'⟩]
        have f21 : g0.1 0 = g2.1 0 := by rw [← hE, dI_ne (by omega), dI_ne (by omega)]
        have f12 : g0.1 12 = g2.1 12 := by rw [← hE, dI_ne (by omega), dI_ne (by omega)]
        have f11 : ∀ j, j < k → g0.1 11 j = g2.1 11 j := fun j hj => by rw [← hE, dI_ne (by omega), dI_nk (by omega)]
        have f11k : g0.1 11 k = nI i := by rw [← hE, dI_ne (by omega), dI_at]
        have eU : (nI U ||| (1 <<< (nI i &&& 31)) : Int32) = nI (U ||| 2 ^ i) := by rw [and31 (by omega), shl1 (by omega), nI_or]
        have hAU : ∀ t, U.testBit t = true → (if t = i then U else A' t) = A t := fun t ht => by
          rw [if_neg (fun z => by rw [z] at ht; exact hb ht)]
          exact hAA t ht
        rw [eU, nI_1 k, nI_1 i]
        cases hBi : B i U with
        | false =>
          rw [if_neg (show ¬ false = true by decide), if_neg (show ¬ ¬ (0 : Int32) = 0 from fun z => z rfl)]
          obtain ⟨e', A'', z1, z2, z3, z4, z5, z6, z7⟩ := ord_bad h hB f (k + 1) (U ||| 2 ^ i) g0 _ (by omega) (by omega) hU' hc' k0 a0 ⟨i, hi, by rw [or_bit, decide_eq_true rfl, Bool.or_true], by show B i (if i = i then U else A' i) = false; rw [if_pos rfl]; exact hBi⟩
          rw [z1, bind2_some]
          refine ⟨(nI c, nI (i + 1), g1), (nI (i + 1), e'), rfl, rfl, rfl, rfl, k1', z2, ⟨c, rfl, by omega, ?_⟩, ⟨A'', z6, fun t ht => ?_⟩, fun j hj => ?_⟩
          · obtain ⟨o0, o1⟩ := hO''
            refine ⟨by show e'.1 0 21 = _; rw [z4, f21]; exact o0, ?_⟩
            rcases o1 with ⟨o1, o2, o3⟩ | ⟨o1, o2, o3⟩
            · exact Or.inl ⟨o1, o2, fun j hj => by show _ = e'.1 11 j; rw [z5 j (by omega), f11 j hj]; exact o3 j hj⟩
            · exact Or.inr ⟨o1, o2, fun j hj => by show _ = e'.1 12 j; rw [z3, f12]; exact o3 j hj⟩
          · rw [z7 t (by rw [or_bit, ht]; rfl)]
            exact hAU t ht
          · show e'.1 11 j = _
            rw [z5 j (by omega), f11 j hj]
            exact hpre' j hj
        | true =>
          rw [if_pos rfl, if_pos (show ¬ (1 : Int32) = 0 by decide)]
          have hgood' : ∀ t, t < q.nt → (U ||| 2 ^ i).testBit t = true → B t ((fun t => if t = i then U else A' t) t) = true := by
            intro t ht hbt
            show B t (if t = i then U else A' t) = true
            by_cases et : t = i
            · subst et
              rw [if_pos rfl]
              exact hBi
            · rw [or_bit, decide_eq_false (fun z => et z.symm), Bool.or_false] at hbt
              rw [if_neg et, hAA t hbt]
              exact hgood t ht hbt
          -- the component's memory behind the choice
          have hrec : ∀ gg, KoC d gg → OrR q.nt (k + 1) gg g0 (m + c) → ∃ (x' : Int32 × Int32 × Dt) (y' : Int32 × Dt), Ws_ordersFrom_b66 0 (nI U) (nI k) (Ws_ordersFrom f) S (Ws_ordersFrom_h20 0 (nI U) (nI k) (Ws_ordersFrom f) S F) (nI c) (nI i) gg = Ws_ordersFrom_h20 0 (nI U) (nI k) (Ws_ordersFrom f) S F x'.1 x'.2.1 x'.2.2 ∧ (bind2 (Mo_goesOrders f 0 (nI (k + 1)) (nI (U ||| 2 ^ i)) MoS g0) fun _ d13 => Mo_goesOrders_h73 0 (nI k) (nI U) (Mo_goesOrders f) MoS G (nI (i + 1)) d13) = Mo_goesOrders_h73 0 (nI k) (nI U) (Mo_goesOrders f) MoS G y'.1 y'.2 ∧ x'.2.1 = nI (i + 1) ∧ y'.1 = nI (i + 1) ∧ KoC d x'.2.2 ∧ KoM d2 y'.2 ∧ (∃ c, x'.1 = nI c ∧ c ≤ (i + 1) * X ∧ OrR q.nt k x'.2.2 y'.2 (m + c)) ∧ (∃ A', AhM q.nt y'.2 A' ∧ ∀ t, U.testBit t = true → A' t = A t) ∧ ∀ j, j < k → y'.2.1 11 j = e2.1 11 j := by
            intro gg hgg hOg
            obtain ⟨cc, e1', e2', A'', z1, z2, z3, z4, z5, z6, z7, z8, z9⟩ := ih (k + 1) (U ||| 2 ^ i) gg g0 _ (m + c) (by omega) (by omega) hU' hc' hgg k0 a0 hgood' (by rw [← hXe]; omega) hOg
            rw [← hXe] at z5
            unfold Ws_ordersFrom_b66
            rw [(hCE gg hgg).K, Option.bind_some, eU, nI_1, z1, bind2_some, Option.bind_some, z2, bind2_some, nI_1, nI_add]
            refine ⟨(nI (c + cc), nI (i + 1), e1'), (nI (i + 1), e2'), rfl, rfl, rfl, rfl, z3, z4, ⟨c + cc, rfl, by omega, ?_⟩, ⟨A'', z7, fun t ht => ?_⟩, fun j hj => ?_⟩
            · obtain ⟨o0, o1⟩ := z6
              refine ⟨by show e2'.1 0 21 = _; rw [o0, Nat.add_assoc], ?_⟩
              rcases o1 with ⟨o1, o2, o3⟩ | ⟨o1, o2, o3⟩
              · exact Or.inl ⟨o1, by omega, fun j hj => o3 j (by omega)⟩
              · exact Or.inr ⟨o1, by omega, o3⟩
            · rw [z8 t (by rw [or_bit, ht]; rfl)]
              exact hAU t ht
            · show e2'.1 11 j = _
              rw [z9 j (by omega), f11 j hj]
              exact hpre' j hj
          obtain ⟨o0, o1⟩ := hO''
          rcases o1 with ⟨o1, o2, o3⟩ | ⟨o1, o2, o3⟩
          · rw [o1, if_neg (show ¬ ¬ (0 : Int32) = 0 from fun z => z rfl), cr9 h.F, ca10 h.F (show k < 5 by omega), Option.bind_some, Option.bind_some]
            refine hrec (dI g1 10 k (nI i)) (k1'.dI (Or.inl rfl)) ⟨by rw [f21]; exact o0, Or.inl ⟨by rw [dI_ne (by omega)]; exact o1, o2, fun j hj => ?_⟩⟩
            by_cases ej : j = k
            · subst ej
              rw [f11k, dI_at]
            · rw [dI_nk (fun z => ej z.2), f11 j (by omega)]
              exact o3 j (by omega)
          · rw [o1, if_pos (show ¬ (1 : Int32) = 0 by decide)]
            exact hrec _ k1' ⟨by rw [f21]; exact o0, Or.inr ⟨o1, o2, fun j hj => by rw [f12]; exact o3 j hj⟩⟩
      · rintro F G ⟨x1, x2, g1⟩ ⟨y1, g2⟩ ⟨rfl, rfl, k1, k2, ⟨c, hxc, hcX, hO'⟩, ⟨A', hA', hAA⟩, hpre⟩
        have hxc' : x1 = nI c := hxc
        subst hxc'
        have k1' : KoC d g1 := k1
        have k2' : KoM d2 g2 := k2
        have hD := hCE g1 k1'
        have h56 : q.nt * X ≤ 5 * X := Nat.mul_le_mul_right X h5
        refine ⟨c, g1, g2, A', ?_, ?_, k1', k2', by omega, hO', hA', hAA, hpre⟩
        · show Ws_ordersFrom_h20 0 (nI U) (nI k) (Ws_ordersFrom f) S (F + 1) (nI c) (nI q.nt) g1 = _
          rw [Ws_ordersFrom_h20, hD.K, Option.bind_some, hD.tasks, Option.bind_some, if_pos (nI_le (Nat.le_refl _) (by omega))]
        · show Mo_goesOrders_h73 0 (nI k) (nI U) (Mo_goesOrders f) MoS (G + 1) (nI q.nt) g2 = _
          rw [Mo_goesOrders_h73, Mo_K, Option.bind_some, show aix MoS 50 (MoS.2.1 0 1) 4 = some (1, 4) from Mw 4 (by omega), Option.bind_some, hw4 g2 k2', if_pos (nI_le (Nat.le_refl _) (by omega))]
end
