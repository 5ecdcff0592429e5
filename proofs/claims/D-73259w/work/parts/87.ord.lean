/-! THE PLAIN LAW: orders -/
set_option maxRecDepth 100000
theorem or_bit {U t j : Nat} : (U ||| 2 ^ t).testBit j = (U.testBit j || decide (t = j)) := by
  rw [Nat.testBit_or, Nat.testBit_two_pow]
theorem gc_set {p : Nat → Bool} {t : Nat} : ∀ {n : Nat}, gc (fun j => p j || decide (t = j)) n = gc p n + if t < n ∧ p t = false then 1 else 0 := by
  intro n
  induction n with
  | zero => rw [if_neg (fun z => Nat.not_lt_zero _ z.1)]; rfl
  | succ n ih =>
    show gc (fun j => p j || decide (t = j)) n + (if (p n || decide (t = n)) = true then 1 else 0) = gc p n + (if p n then 1 else 0) + _
    rw [ih]
    by_cases e : t = n
    · subst e
      cases hp : p t <;> simp
    · have h9 : (t < n + 1 ∧ p t = false) ↔ (t < n ∧ p t = false) := ⟨fun z => ⟨by omega, z.2⟩, fun z => ⟨by omega, z.2⟩⟩
      simp only [h9]
      rw [decide_eq_false e, Bool.or_false]
      omega
theorem gc_full {p : Nat → Bool} : ∀ {n : Nat}, gc p n = n → ∀ t, t < n → p t = true := by
  intro n
  induction n with
  | zero => exact fun _ t ht => absurd ht (Nat.not_lt_zero t)
  | succ n ih =>
    intro h t ht
    have h' : gc p n + (if p n then 1 else 0) = n + 1 := h
    have hl := gc_le p n
    cases hp : p n with
    | false => rw [hp, if_neg (by decide)] at h'; omega
    | true =>
      rw [hp, if_pos rfl] at h'
      by_cases e : t = n
      · rw [e]; exact hp
      · exact ih (by omega) t (by omega)
theorem gm_full {p : Nat → Bool} : ∀ {n : Nat}, gm p n = 2 ^ n - 1 ↔ ∀ t, t < n → p t = true := by
  intro n
  induction n with
  | zero => exact ⟨fun _ t ht => absurd ht (Nat.not_lt_zero t), fun _ => rfl⟩
  | succ n ih =>
    have hl := gm_lt p n
    have e : gm p (n + 1) = gm p n + if p n then 2 ^ n else 0 := rfl
    rw [e, Nat.pow_succ]
    cases hp : p n with
    | false =>
      rw [if_neg (by decide)]
      constructor
      · intro h; omega
      · intro h
        have := h n (Nat.lt_succ_self n)
        rw [hp] at this
        cases this
    | true =>
      rw [if_pos rfl]
      constructor
      · intro h t ht
        by_cases et : t = n
        · rw [et]; exact hp
        · exact ih.mp (by omega) t (by omega)
      · intro h
        have := ih.mpr (fun t ht => h t (by omega))
        omega
/-- what orders change -/
def KoC (d e : Dt) : Prop := (∀ a, a ≠ 10 → a ≠ 0 → e.1 a = d.1 a) ∧ ∀ k, k ≠ 10 → e.1 0 k = d.1 0 k
def KoM (d e : Dt) : Prop := (∀ a, a ≠ 0 → a < 10 ∨ 12 < a → e.1 a = d.1 a) ∧ ∀ k, k ≠ 21 → e.1 0 k = d.1 0 k
theorem KoC.rf {d : Dt} : KoC d d := ⟨fun _ _ _ => rfl, fun _ _ => rfl⟩
theorem KoM.rf {d : Dt} : KoM d d := ⟨fun _ _ _ => rfl, fun _ _ => rfl⟩
theorem KoC.dI {d e : Dt} (h : KoC d e) {v k : Nat} {x : Int32} (hv : v = 10 ∨ (v = 0 ∧ k = 10)) : KoC d (dI e v k x) := ⟨fun a h1 h2 => (dI_ne (by omega)).trans (h.1 a h1 h2), fun j hj => (dI_nk (by omega)).trans (h.2 j hj)⟩
theorem KoM.dI {d e : Dt} (h : KoM d e) {v k : Nat} {x : Int32} (hv : (10 ≤ v ∧ v ≤ 12) ∨ (v = 0 ∧ k = 21)) : KoM d (dI e v k x) := ⟨fun a h1 h2 => (dI_ne (by omega)).trans (h.1 a h1 h2), fun j hj => (dI_nk (by omega)).trans (h.2 j hj)⟩
theorem KoC.kp {S : Sp} {d e : Dt} (h : KoC d e) : Kp S d e := fun a _ hr => h.1 a (by omega) (by omega)
/-- the rows ahead -/
def AhM (nt : Nat) (e : Dt) (A : Nat → Nat) : Prop := ∀ t, t < nt → e.1 10 t = nI (A t) ∧ A t < 32
section
variable {S : Sp} {d d2 : Dt} {q : TdP}
/-- what is lawful, as a table -/
theorem law_tab (h : CE S d (mw d2) q) (h6 : ∀ e, KoC d e → grC e q (fun _ => 0)) (hm : grM d2 q (fun _ => 0) (fun i => 2 ^ i - 1)) : ∃ B : Nat → Nat → Bool, (∀ e, KoC d e → ∀ i, i < q.nt → ∀ U, U < 32 → Ws_isLawful 0 (nI i) (nI U) S e = some (if B i U then 1 else 0)) ∧ ∀ e A, KoM d2 e → AhM q.nt e A → ∀ i, i < q.nt → Mo_isLawful 0 (nI i) MoS e = some (if B i (A i) then 1 else 0) := by
  have key : ∀ e1, KoC d e1 → ∀ e A, KoM d2 e → AhM q.nt e A → ∀ i, i < q.nt → ∃ b, Ws_isLawful 0 (nI i) (nI (A i)) S e1 = some b ∧ Mo_isLawful 0 (nI i) MoS e = some b ∧ (b = 0 ∨ b = 1) := by
    intro e1 h1 e A h2 hA i hi
    have ew : mw e = mw d2 := h2.1 1 (by omega) (by omega)
    refine isLawful_eq (d2 := e) (by rw [ew]; exact h.go h1.kp) (h6 e1 h1) (g := fun _ => 0) (A := A) (fun j hj => ?_) hi
    obtain ⟨y1, y2, -, -⟩ := hm j hj
    rw [ew, h2.1 8 (by omega) (by omega), h2.1 9 (by omega) (by omega)]
    exact ⟨y1, y2, (hA j hj).1, (hA j hj).2⟩
  -- a table with U ahead of i
  have hset : ∀ i U, U < 32 → AhM q.nt (dI d2 10 i (nI U)) (fun j => if j = i then U else 2 ^ j - 1) := by
    intro i U hU t ht
    show _ = nI (if t = i then U else 2 ^ t - 1) ∧ (if t = i then U else 2 ^ t - 1) < 32
    by_cases e : t = i
    · subst e
      rw [if_pos rfl]
      exact ⟨dI_at, hU⟩
    · rw [if_neg e, dI_nk (fun z => e z.2)]
      exact ⟨(hm t ht).2.2.1, (hm t ht).2.2.2⟩
  have hex : ∀ i U, i < q.nt → U < 32 → ∃ b, Ws_isLawful 0 (nI i) (nI U) S d = some b ∧ Mo_isLawful 0 (nI i) MoS (dI d2 10 i (nI U)) = some b ∧ (b = 0 ∨ b = 1) := by
    intro i U hi hU
    obtain ⟨b, b1, b2, b3⟩ := key d KoC.rf _ _ (KoM.rf.dI (Or.inl ⟨Nat.le_refl _, by omega⟩)) (hset i U hU) i hi
    refine ⟨b, ?_, b2, b3⟩
    have b1' : Ws_isLawful 0 (nI i) (nI (if i = i then U else 2 ^ i - 1)) S d = some b := b1
    rw [if_pos rfl] at b1'
    exact b1'
  have hB : ∀ i U, i < q.nt → U < 32 → Ws_isLawful 0 (nI i) (nI U) S d = some (if decide (Ws_isLawful 0 (nI i) (nI U) S d = some 1) = true then 1 else 0) := by
    intro i U hi hU
    obtain ⟨b, b1, -, b3⟩ := hex i U hi hU
    rw [b1]
    rcases b3 with rfl | rfl
    · rfl
    · rfl
  refine ⟨fun i U => decide (Ws_isLawful 0 (nI i) (nI U) S d = some 1), fun e he i hi U hU => ?_, fun e A he hA i hi => ?_⟩
  · obtain ⟨b, b1, b2, b3⟩ := key e he _ _ (KoM.rf.dI (Or.inl ⟨Nat.le_refl _, by omega⟩)) (hset i U hU) i hi
    have b1' : Ws_isLawful 0 (nI i) (nI (if i = i then U else 2 ^ i - 1)) S e = some b := b1
    rw [if_pos rfl] at b1'
    obtain ⟨c, c1, c2, c3⟩ := hex i U hi hU
    rw [b1', ← b2, c2, ← c1]
    exact hB i U hi hU
  · obtain ⟨b, b1, b2, b3⟩ := key d KoC.rf e A he hA i hi
    rw [b2, ← b1]
    exact hB i (A i) hi (hA i hi).2
theorem lawNow_gm {B : Nat → Nat → Bool} (h : CE S d (mw d2) q) {e : Dt} {A : Nat → Nat} (he : KoM d2 e) (hB : ∀ i, i < q.nt → Mo_isLawful 0 (nI i) MoS e = some (if B i (A i) then 1 else 0)) : Mo_lawfulNow 0 MoS e = some (nI (gm (fun i => B i (A i)) q.nt)) := by
  have h5 := h.nt5
  have hw4 : e.1 1 4 = nI q.nt := by rw [he.1 1 (by omega) (by omega)]; exact h.wf.2.1.1
  unfold Mo_lawfulNow
  refine loop_FU (X := fun F (x : Int32 × Int32) => Mo_lawfulNow_h4 0 MoS e F x.1 x.2) (Inv := fun i x => x = (nI (gm (fun i => B i (A i)) i), nI i)) (P := fun o => o = some (nI (gm (fun i => B i (A i)) q.nt))) (x := (0, 0)) q.nt (by omega) rfl ?_ ?_
  · intro i hi F x hx
    subst hx
    refine ⟨(nI (gm (fun i => B i (A i)) (i + 1)), nI (i + 1)), ?_, rfl⟩
    show Mo_lawfulNow_h4 0 MoS e (F + 1) (nI (gm (fun i => B i (A i)) i)) (nI i) = Mo_lawfulNow_h4 0 MoS e F (nI (gm (fun i => B i (A i)) i + if B i (A i) then 2 ^ i else 0)) (nI (i + 1))
    rw [Mo_lawfulNow_h4, Mo_K, Option.bind_some, show aix MoS 50 (MoS.2.1 0 1) 4 = some (1, 4) from Mw 4 (by omega), Option.bind_some, hw4, if_neg (nI_ge hi (by omega)), hB i hi, Option.bind_some]
    unfold Mo_lawfulNow_b30
    rw [Option.bind_some, nI_1, and31 (by omega)]
    cases hb : B i (A i) with
    | true =>
      rw [if_pos rfl, if_neg (by decide), if_pos rfl, shl1 (by omega), nI_or, Nat.or_comm]
      have e1 := Nat.two_pow_add_eq_or_of_lt (gm_lt (fun i => B i (A i)) i) 1
      rw [Nat.mul_one] at e1
      rw [← e1, Nat.add_comm]
    | false =>
      rw [if_neg (show ¬ false = true by decide), if_pos rfl, if_neg (show ¬ false = true by decide), Int32.or_zero]
      rfl
  · intro F x hx
    subst hx
    show Mo_lawfulNow_h4 0 MoS e (F + 1) (nI (gm (fun i => B i (A i)) q.nt)) (nI q.nt) = _
    rw [Mo_lawfulNow_h4, Mo_K, Option.bind_some, show aix MoS 50 (MoS.2.1 0 1) 4 = some (1, 4) from Mw 4 (by omega), Option.bind_some, hw4, if_pos (nI_le (Nat.le_refl _) (by omega))]
theorem full_pow {n : Nat} (hn : n ≤ 5) : ((1 : Int32) <<< (nI n &&& 31)) - 1 = nI (2 ^ n - 1) := by
  have h : ∀ n, n < 6 → ((1 : Int32) <<< (nI n &&& 31)) - 1 = nI (2 ^ n - 1) := by decide +kernel
  exact h n (by omega)
/-- where one that is ahead isn't lawful, nothing is found -/
theorem ord_bad {B : Nat → Nat → Bool} (h : CE S d (mw d2) q) (hB : ∀ e A, KoM d2 e → AhM q.nt e A → ∀ i, i < q.nt → Mo_isLawful 0 (nI i) MoS e = some (if B i (A i) then 1 else 0)) : ∀ f k U e A, k ≤ q.nt → q.nt - k < f → U < 32 → gc U.testBit q.nt = k → KoM d2 e → AhM q.nt e A → (∃ t, t < q.nt ∧ U.testBit t = true ∧ B t (A t) = false) → ∃ e' A', Mo_goesOrders f 0 (nI k) (nI U) MoS e = some ((), e') ∧ KoM d2 e' ∧ e'.1 12 = e.1 12 ∧ e'.1 0 21 = e.1 0 21 ∧ (∀ j, j < k → e'.1 11 j = e.1 11 j) ∧ AhM q.nt e' A' ∧ ∀ t, U.testBit t = true → A' t = A t := by
  have h5 := h.nt5
  intro f
  induction f with
  | zero => intro k U e A h1 h2; omega
  | succ f ih =>
    intro k U e A hk hf hU hc hK hA hbad
    have hw4 : ∀ e, KoM d2 e → e.1 1 4 = nI q.nt := fun e he => by rw [he.1 1 (by omega) (by omega)]; exact h.wf.2.1.1
    rw [Mo_goesOrders, Mo_K, Option.bind_some, show aix MoS 50 (MoS.2.1 0 1) 4 = some (1, 4) from Mw 4 (by omega), Option.bind_some, hw4 e hK]
    by_cases hkn : k = q.nt
    · rw [if_neg (fun z => z (by rw [hkn])), lawNow_gm h hK (hB e A hK hA), Option.bind_some, full_pow h5]
      have hne : ¬ nI (gm (fun i => B i (A i)) q.nt) = nI (2 ^ q.nt - 1) := by
        intro z
        have hl := gm_lt (fun i => B i (A i)) q.nt
        have h32 : 2 ^ q.nt ≤ 2 ^ 5 := Nat.pow_le_pow_right (by omega) h5
        have z' := (nI_eq (by omega) (by omega)).mp z
        obtain ⟨t, t1, t2, t3⟩ := hbad
        have := gm_full.mp z' t t1
        rw [t3] at this
        cases this
      rw [if_neg hne]
      exact ⟨e, A, rfl, hK, rfl, rfl, fun _ _ => rfl, hA, fun _ _ => rfl⟩
    · rw [if_pos (fun z => hkn ((nI_eq (by omega) (by omega)).mp z))]
      refine loop_FU (X := fun F (x : Int32 × Dt) => Mo_goesOrders_h73 0 (nI k) (nI U) (Mo_goesOrders f) MoS F x.1 x.2) (Inv := fun i x => x.1 = nI i ∧ KoM d2 x.2 ∧ x.2.1 12 = e.1 12 ∧ x.2.1 0 21 = e.1 0 21 ∧ (∀ j, j < k → x.2.1 11 j = e.1 11 j) ∧ ∃ A', AhM q.nt x.2 A' ∧ ∀ t, U.testBit t = true → A' t = A t) (P := fun o => ∃ e' A', o = some ((), e') ∧ KoM d2 e' ∧ e'.1 12 = e.1 12 ∧ e'.1 0 21 = e.1 0 21 ∧ (∀ j, j < k → e'.1 11 j = e.1 11 j) ∧ AhM q.nt e' A' ∧ ∀ t, U.testBit t = true → A' t = A t) (x := (0, e)) q.nt (by omega) ⟨rfl, hK, rfl, rfl, fun _ _ => rfl, A, hA, fun _ _ => rfl⟩ ?_ ?_
      · rintro i hi F ⟨x1, g⟩ ⟨rfl, g1, g2, g3, g4, A', g5, g6⟩
        have g1' : KoM d2 g := g1
        have hbit := bit_on hU (show i < 5 by omega)
        by_cases hb : U.testBit i = true
        · refine ⟨(nI (i + 1), g), ?_, rfl, g1, g2, g3, g4, A', g5, g6⟩
          show Mo_goesOrders_h73 0 (nI k) (nI U) (Mo_goesOrders f) MoS (F + 1) (nI i) g = Mo_goesOrders_h73 0 (nI k) (nI U) (Mo_goesOrders f) MoS F (nI (i + 1)) g
          rw [Mo_goesOrders_h73, Mo_K, Option.bind_some, show aix MoS 50 (MoS.2.1 0 1) 4 = some (1, 4) from Mw 4 (by omega), Option.bind_some, hw4 g g1', if_neg (nI_ge hi (by omega)), if_neg (fun z => z (hbit.mpr hb)), nI_1]
        · have hb' : U.testBit i = false := by cases hh : U.testBit i with
            | true => exact absurd hh hb
            | false => rfl
          generalize hE : dI (dI g 11 k (nI i)) 10 i (nI U) = g0
          have k0 : KoM d2 g0 := by rw [← hE]; exact (g1'.dI (Or.inl ⟨by omega, by omega⟩)).dI (Or.inl ⟨by omega, by omega⟩)
          have a0 : AhM q.nt g0 (fun t => if t = i then U else A' t) := by
            intro t ht
            show _ = nI (if t = i then U else A' t) ∧ (if t = i then U else A' t) < 32
            rw [← hE]
            by_cases et : t = i
            · subst et
              rw [if_pos rfl]
              exact ⟨dI_at, hU⟩
            · rw [if_neg et, dI_nk (fun z => et z.2), dI_ne (by omega)]
              exact g5 t ht
          have hU' : U ||| 2 ^ i < 32 := Nat.or_lt_two_pow (n := 5) hU (Nat.pow_lt_pow_right (by omega) (by omega))
          have hc' : gc (U ||| 2 ^ i).testBit q.nt = k + 1 := by
            rw [gc_cong (q := fun j => U.testBit j || decide (i = j)) (fun j _ => or_bit), gc_set, hc, if_pos ⟨hi, hb'⟩]
          have hbad' : ∃ t, t < q.nt ∧ (U ||| 2 ^ i).testBit t = true ∧ B t ((fun t => if t = i then U else A' t) t) = false := by
            obtain ⟨t, t1, t2, t3⟩ := hbad
            have hti : t ≠ i := fun z => by rw [z, hb'] at t2; cases t2
            refine ⟨t, t1, by rw [or_bit, t2]; rfl, ?_⟩
            show B t (if t = i then U else A' t) = false
            rw [if_neg hti, g6 t t2]
            exact t3
          obtain ⟨e', A'', y1, y2, y3, y4, y5, y6, y7⟩ := ih (k + 1) (U ||| 2 ^ i) g0 _ (by omega) (by omega) hU' hc' k0 a0 hbad'
          refine ⟨(nI (i + 1), e'), ?_, rfl, y2, ?_, ?_, fun j hj => ?_, A'', y6, fun t ht => ?_⟩
          · show Mo_goesOrders_h73 0 (nI k) (nI U) (Mo_goesOrders f) MoS (F + 1) (nI i) g = Mo_goesOrders_h73 0 (nI k) (nI U) (Mo_goesOrders f) MoS F (nI (i + 1)) e'
            rw [Mo_goesOrders_h73, Mo_K, Option.bind_some, show aix MoS 50 (MoS.2.1 0 1) 4 = some (1, 4) from Mw 4 (by omega), Option.bind_some, hw4 g g1', if_neg (nI_ge hi (by omega)), if_pos (fun z => hb (hbit.mp z)), MoS_R0_19, ma11 (show k < 5 by omega), Option.bind_some, Option.bind_some, MoS_R0_18, ma10 (show i < 5 by omega), Option.bind_some, Option.bind_some]
            show bind2 (Mo_goesOrders f 0 (nI k + 1) (nI U ||| (1 <<< (nI i &&& 31))) MoS (dI (dI g 11 k (nI i)) 10 i (nI U))) _ = _
            rw [hE, nI_1, and31 (by omega), shl1 (by omega), nI_or, y1, bind2_some, nI_1]
          · show e'.1 12 = _
            rw [y3, ← hE, dI_ne (by omega), dI_ne (by omega)]
            exact g2
          · show e'.1 0 21 = _
            rw [y4, ← hE, dI_ne (by omega), dI_ne (by omega)]
            exact g3
          · show e'.1 11 j = _
            rw [y5 j (by omega), ← hE, dI_ne (by omega), dI_nk (by omega)]
            exact g4 j hj
          · rw [y7 t (by rw [or_bit, ht]; rfl)]
            show (if t = i then U else A' t) = A t
            rw [if_neg (fun z => by rw [z] at ht; exact hb ht)]
            exact g6 t ht
      · rintro F ⟨x1, g⟩ ⟨rfl, g1, g2, g3, g4, A', g5, g6⟩
        have g1' : KoM d2 g := g1
        refine ⟨g, A', ?_, g1, g2, g3, g4, g5, g6⟩
        show Mo_goesOrders_h73 0 (nI k) (nI U) (Mo_goesOrders f) MoS (F + 1) (nI q.nt) g = _
        rw [Mo_goesOrders_h73, Mo_K, Option.bind_some, show aix MoS 50 (MoS.2.1 0 1) 4 = some (1, 4) from Mw 4 (by omega), Option.bind_some, hw4 g g1', if_pos (nI_le (Nat.le_refl _) (by omega))]
end
