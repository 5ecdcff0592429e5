/-! THE RUN: its two memories; the injections -/
set_option maxRecDepth 100000
/-- what a run leaves of the component's memory, of the model's -/
def KrC (S : Sp) (d e : Dt) : Prop := (∀ a, a < S.1.length → ((1 ≤ a ∧ a < 13) ∨ a = 25 ∨ a = 26 ∨ 35 ≤ a) → e.1 a = d.1 a) ∧ ∀ k, k < 24 ∨ k = 28 ∨ k = 29 ∨ 32 ≤ k → e.1 0 k = d.1 0 k
def KrM (d e : Dt) : Prop := (∀ a, 1 ≤ a → a < 14 → e.1 a = d.1 a) ∧ ∀ k, k < 56 ∨ 59 < k → e.1 0 k = d.1 0 k
theorem KrC.rf {S : Sp} {d : Dt} : KrC S d d := ⟨fun _ _ _ => rfl, fun _ _ => rfl⟩
theorem KrM.rf {d : Dt} : KrM d d := ⟨fun _ _ _ => rfl, fun _ _ => rfl⟩
theorem KrC.tr {S : Sp} {d e f : Dt} (h : KrC S d e) (g : KrC S e f) : KrC S d f := ⟨fun a x y => (g.1 a x y).trans (h.1 a x y), fun k x => (g.2 k x).trans (h.2 k x)⟩
theorem KrM.tr {d e f : Dt} (h : KrM d e) (g : KrM e f) : KrM d f := ⟨fun a x y => (g.1 a x y).trans (h.1 a x y), fun k x => (g.2 k x).trans (h.2 k x)⟩
theorem KrC.dI {S : Sp} {d e : Dt} (h : KrC S d e) {v k : Nat} {x : Int32} (hv : (v = 0 ∧ 24 ≤ k ∧ k < 32 ∧ k ≠ 28 ∧ k ≠ 29) ∨ (13 ≤ v ∧ v < 35 ∧ v ≠ 25 ∧ v ≠ 26) ∨ S.1.length ≤ v) (hl : 35 ≤ S.1.length) : KrC S d (dI e v k x) := ⟨fun a y z => (dI_ne (by omega)).trans (h.1 a y z), fun j y => (dI_nk (by omega)).trans (h.2 j y)⟩
theorem KrM.dI {d e : Dt} (h : KrM d e) {v k : Nat} {x : Int32} (hv : 14 ≤ v ∨ (v = 0 ∧ 56 ≤ k ∧ k ≤ 59)) : KrM d (dI e v k x) := ⟨fun a y z => (dI_ne (by omega)).trans (h.1 a y z), fun j y => (dI_nk (by omega)).trans (h.2 j y)⟩
theorem KrC.kp {S : Sp} {d e : Dt} (h : KrC S d e) : Kp S d e := fun a x y => h.1 a x (by omega)
theorem KrC.kc {S : Sp} {d e : Dt} (h : KrC S d e) (hl : 35 ≤ S.1.length) : Kc d e := ⟨h.1 8 (by omega) (by omega), fun k _ _ => h.2 k (by omega)⟩
theorem KrM.km {d e : Dt} (h : KrM d e) : Km d e := ⟨fun a x y => h.1 a x (by omega), h.2 5 (by omega), h.2 12 (by omega), h.2 13 (by omega)⟩
/-- what a run stands on: what is told, the injection left out, how many there are, the windows -/
def RE (S : Sp) (e1 e2 : Dt) (w : Nat → Int32) (q : TdP) (op cl : Nat → Nat) : Prop :=
  CE S e1 w q ∧ (∀ i, i ≠ 6 → mw e2 i = w i) ∧ (mw e2 5 + mw e2 6) + e2.1 0 27 = nI q.ni ∧ e1.1 0 28 = e2.1 0 23 ∧
  ∀ t, t < q.nt → e1.1 25 t = nI (op t) ∧ e1.1 26 t = nI (cl t) ∧ (if ¬ nI t = e2.1 0 24 then mw e2 (11 + 7 * t + 2) else e2.1 0 25) = nI (op t) ∧ (if ¬ nI t = e2.1 0 24 then mw e2 (11 + 7 * t + 3) else e2.1 0 26) = nI (cl t) ∧ op t < cl t ∧ cl t ≤ 120
section
variable {S S' : Sp} {e1 e2 f1 f2 : Dt} {w : Nat → Int32} {q : TdP} {op cl : Nat → Nat} {t : Nat}
theorem CE.ext (h : CE S e1 w q) (he : Ext S S') (k : Kp S e1 f1) : CE S' f1 w q := ⟨h.1.ext he, by rw [he.2.1 0 (by have := Ws_len h.1; omega)]; exact h.2.1, h.2.2.go h.1 he k⟩
theorem RE.go (h : RE S e1 e2 w q op cl) (he : Ext S S') (k1 : KrC S e1 f1) (k2 : KrM e2 f2) : RE S' f1 f2 w q op cl := by
  obtain ⟨a1, a2, a3, a4, a5⟩ := h
  have hl := Ws_len a1.1
  have e1' : mw f2 = mw e2 := k2.1 1 (by omega) (by omega)
  refine ⟨a1.ext he k1.kp, by rw [e1']; exact a2, by rw [e1', k2.2 27 (by omega)]; exact a3, by rw [k1.2 28 (by omega), k2.2 23 (by omega)]; exact a4, fun t ht => ?_⟩
  rw [e1', k1.1 25 (by omega) (by omega), k1.1 26 (by omega) (by omega), k2.2 24 (by omega), k2.2 25 (by omega), k2.2 26 (by omega)]
  exact a5 t ht
theorem RE.C (h : RE S e1 e2 w q op cl) : CE S e1 w q := h.1
theorem RE.row (h : RE S e1 e2 w q op cl) {i : Nat} (hi : i ≠ 6) : mw e2 i = w i := h.2.1 i hi
theorem RE.inj (h : RE S e1 e2 w q op cl) : Mo_injections 0 MoS e2 = some (nI q.ni) := by
  unfold Mo_injections
  rw [Mo_K, Option.bind_some, Mo_many_eq, Option.bind_some, h.2.2.1]
theorem RE.of (h : RE S e1 e2 w q op cl) {i f : Nat} (hi : i < q.ni) (hf : f < 5) : Mo_of 0 (nI i) (nI f) MoS e2 = some (w (106 + 5 * i + f)) := by
  have := h.C.ni18
  rw [Mo_of_eq (by omega) hf, h.row (by omega)]
theorem RE.told (h : RE S e1 e2 w q op cl) (ht : t < q.nt) {f : Nat} (hf : f < 7) : Mo_toldOf 0 (nI t) (nI f) MoS e2 = some (w (11 + 7 * t + f)) := by
  have := h.C.nt5
  rw [Mo_toldOf_eq (by omega) hf, h.row (by omega)]
theorem RE.per (h : RE S e1 e2 w q op cl) (ht : t < q.nt) : Mo_period 0 (nI t) MoS e2 = some (nI (pN w t)) := by
  unfold Mo_period
  rw [Mo_K, Option.bind_some, show Mo_toldOf 0 (nI t) 1 MoS e2 = _ from h.told ht (f := 1) (by omega), Option.bind_some, (h.C.per ht).1]
theorem RE.m4 (h : RE S e1 e2 w q op cl) : aix MoS 50 (MoS.2.1 0 1) 4 = some (1, 4) ∧ e2.1 1 4 = nI q.nt := ⟨Mw 4 (by omega), (h.row (i := 4) (by omega)).trans h.C.wf.2.1.1⟩
theorem RE.m3 (h : RE S e1 e2 w q op cl) : aix MoS 50 (MoS.2.1 0 1) 3 = some (1, 3) ∧ e2.1 1 3 = nI q.nw := ⟨Mw 3 (by omega), (h.row (i := 3) (by omega)).trans h.C.wf.1.1⟩
theorem RE.opn (h : RE S e1 e2 w q op cl) (ht : t < q.nt) : Mo_openOf 0 (nI t) MoS e2 = some (nI (op t)) ∧ Mo_closeOf 0 (nI t) MoS e2 = some (nI (cl t)) := by
  obtain ⟨-, -, x3, x4, -⟩ := h.2.2.2.2 t ht
  have h5 := h.C.nt5
  unfold Mo_openOf Mo_closeOf
  rw [Mo_K, Option.bind_some, Option.bind_some]
  by_cases e : nI t = e2.1 0 24
  · rw [if_neg (fun z => z e)] at x3 x4
    rw [if_neg (fun z => z e), if_neg (fun z => z e), x3, x4]
    exact ⟨rfl, rfl⟩
  · rw [if_pos e] at x3 x4
    rw [if_pos e, if_pos e, show Mo_toldOf 0 (nI t) 2 MoS e2 = _ from Mo_toldOf_eq (w := 2) (by omega) (by omega), show Mo_toldOf 0 (nI t) 3 MoS e2 = _ from Mo_toldOf_eq (w := 3) (by omega) (by omega), Option.bind_some, Option.bind_some, x3, x4]
    exact ⟨rfl, rfl⟩
/-- an injection's numbers -/
theorem CE.iw (h : CE S e1 w q) {i : Nat} (hi : i < q.ni) : (∃ v j, w (106 + 5 * i) = nI 5 ∧ w (106 + 5 * i + 1) = nI v ∧ v < q.nw ∧ w (106 + 5 * i + 2) = nI j ∧ j < 200 ∧ w (106 + 5 * i + 3) = -1 ∧ w (106 + 5 * i + 4) = -1) ∨
    ∃ k t j tm, w (106 + 5 * i) = nI k ∧ k ≤ 4 ∧ w (106 + 5 * i + 1) = nI t ∧ t < q.nt ∧ w (106 + 5 * i + 2) = nI j ∧ j ≤ 50 ∧ ((k = 4 ∧ w (106 + 5 * i + 3) = -1) ∨ k < 4 ∧ ∃ n, n < q.nd t ∧ w (106 + 5 * i + 3) = nI n) ∧ w (106 + 5 * i + 4) = nI tm ∧ 1 ≤ tm ∧ tm ≤ 9 := by
  obtain ⟨-, -, -, -, -, -, hI⟩ := h.wf
  exact hI i hi
theorem CE.iF (h : CE S e1 w q) {i f : Nat} (hi : i < q.ni) (hf : f < 5) : e1.1 (q.ij i) f = w (106 + 5 * i + f) := (h.inj hi).2 f hf
theorem CE.iF0 (h : CE S e1 w q) {i : Nat} (hi : i < q.ni) : e1.1 (q.ij i) 0 = w (106 + 5 * i) := (h.inj hi).2 0 (by omega)
theorem RE.of0 (h : RE S e1 e2 w q op cl) {i : Nat} (hi : i < q.ni) : Mo_of 0 (nI i) 0 MoS e2 = some (w (106 + 5 * i)) := h.of hi (f := 0) (by omega)
theorem isOf_eq (h : CE S e1 w q) {i : Nat} (hi : i < q.ni) {p J : Int32} : In_isOf (q.ij i) p J S e1 = some (if w (106 + 5 * i) = 5 then 0 else if w (106 + 5 * i + 1) = p then inI J (w (106 + 5 * i + 2)) ((w (106 + 5 * i + 2) + w (106 + 5 * i + 4)) - 1) else 0) := by
  unfold In_isOf
  rw [h.iK hi, Option.bind_some, h.iF0 hi, h.iF hi (f := 1) (by omega), h.iF hi (f := 2) (by omega), h.iF hi (f := 4) (by omega), Ws_in_eq, Option.bind_some]
  by_cases h5 : w (106 + 5 * i) = 5
  · rw [if_pos h5, if_pos h5]
  · rw [if_neg h5, if_neg h5]
    by_cases h1 : w (106 + 5 * i + 1) = p
    · rw [if_neg (fun z => z h1), if_pos h1]
      rcases inI_01 J (w (106 + 5 * i + 2)) ((w (106 + 5 * i + 2) + w (106 + 5 * i + 4)) - 1) with e | e
      · rw [e, if_pos rfl]
      · rw [e, if_neg (by decide)]
    · rw [if_pos h1, if_neg h1]
/-- what goes wrong at a node -/
theorem chg_eq (h : RE S e1 e2 w q op cl) (ht : t < q.nt) {J N : Int32} (hJ : e2.1 15 t = J) : ∃ x, Ws_wrongAt 0 (nI t) J N S e1 = some x ∧ Mo_changeAt 0 (nI t) N MoS e2 = some x ∧ (x = -1 ∨ ∃ k, x = nI k ∧ k < 4) := by
  have h5 := h.C.nt5
  have hni := h.C.ni18
  have hC := h.C
  unfold Ws_wrongAt Mo_changeAt
  refine loop2_FU (X := fun F (x : Int32) => Ws_wrongAt_h3 0 (nI t) J N S e1 F x) (Y := fun F (x : Int32) => Mo_changeAt_h2 0 (nI t) N MoS e2 F x) (Inv := fun i x y => x = nI i ∧ y = nI i) (P := fun o p => ∃ x, o = some x ∧ p = some x ∧ (x = -1 ∨ ∃ k, x = nI k ∧ k < 4)) (x := 0) (y := 0) q.ni (by omega) ⟨rfl, rfl⟩ ?_ ?_
  · rintro i hi F G x y ⟨rfl, rfl⟩
    have hstep : ∀ X Y : Option Int32, X = Ws_wrongAt_h3 0 (nI t) J N S e1 F (nI (i + 1)) → Y = Mo_changeAt_h2 0 (nI t) N MoS e2 G (nI (i + 1)) → (∃ x' y', X = Ws_wrongAt_h3 0 (nI t) J N S e1 F x' ∧ Y = Mo_changeAt_h2 0 (nI t) N MoS e2 G y' ∧ x' = nI (i + 1) ∧ y' = nI (i + 1)) ∨ ∃ x, X = some x ∧ Y = some x ∧ (x = -1 ∨ ∃ k, x = nI k ∧ k < 4) := fun X Y hX hY => Or.inl ⟨_, _, hX, hY, rfl, rfl⟩
    have of0 := h.of0 hi
    have of1 := h.of hi (f := 1) (by omega)
    have of2 := h.of hi (f := 2) (by omega)
    have of3 := h.of hi (f := 3) (by omega)
    have of4 := h.of hi (f := 4) (by omega)
    show (∃ x' y', Ws_wrongAt_h3 0 (nI t) J N S e1 (F + 1) (nI i) = _ ∧ Mo_changeAt_h2 0 (nI t) N MoS e2 (G + 1) (nI i) = _ ∧ _) ∨ ∃ x, Ws_wrongAt_h3 0 (nI t) J N S e1 (F + 1) (nI i) = _ ∧ Mo_changeAt_h2 0 (nI t) N MoS e2 (G + 1) (nI i) = _ ∧ _
    rw [Ws_wrongAt_h3, Mo_changeAt_h2, hC.K, Option.bind_some, hC.T, Option.bind_some, hC.kM, Option.bind_some, hC.injs, Option.bind_some, if_neg (nI_ge hi (by omega)), hC.injOf hi, Option.bind_some, hC.iK hi, Option.bind_some, Mo_K, Option.bind_some, h.inj, Option.bind_some, if_neg (nI_ge hi (by omega)), h.2.2.2.1]
    by_cases hb : nI i = e2.1 0 23
    · rw [if_pos hb, if_pos hb, nI_1]
      exact hstep _ _ rfl rfl
    rw [if_neg hb, if_neg hb, isOf_eq hC hi, Option.bind_some, hC.iF hi (f := 3) (by omega), hC.iF0 hi, of0, Option.bind_some, nI_1]
    rcases hC.iw hi with ⟨v, j, k0, k1, k2, k3, k4, k5, k6⟩ | ⟨k, s, j, tm, k0, k1, k2, k3, k4, k5, k6, k7, k8, k9⟩
    · rw [k0, if_pos (show (nI 5 : Int32) = 5 from rfl), if_pos rfl, if_pos (show (3 : Int32) < nI 5 by decide)]
      exact hstep _ _ rfl rfl
    have hk5 : ¬ w (106 + 5 * i) = 5 := fun z => by
      rw [k0] at z
      have := (nI_eq (b := 5) (by omega) (by omega)).mp z
      omega
    rw [if_neg hk5, k0]
    by_cases hk4 : k = 4
    · subst hk4
      rw [if_pos (show (3 : Int32) < nI 4 by decide)]
      by_cases hr : (if w (106 + 5 * i + 1) = nI t then inI J (w (106 + 5 * i + 2)) ((w (106 + 5 * i + 2) + w (106 + 5 * i + 4)) - 1) else 0) = 0
      · rw [hr, if_pos rfl]
        exact hstep _ _ rfl rfl
      · rw [if_neg hr]
        split
        · exact hstep _ _ rfl rfl
        · rw [if_pos (show (nI 4 : Int32) = 4 from rfl)]
          exact hstep _ _ rfl rfl
    · rw [if_neg (show ¬ (3 : Int32) < nI k from nI_nlt (a := 3) (by omega) (by omega)), show Mo_of 0 (nI i) 1 MoS e2 = _ from of1, Option.bind_some]
      by_cases h1 : w (106 + 5 * i + 1) = nI t
      · rw [if_pos h1, if_neg (show ¬ ¬ w (106 + 5 * i + 1) = nI t from fun z => z h1), show Mo_of 0 (nI i) 3 MoS e2 = _ from of3, Option.bind_some, MoS_R0_29, ma15 (show t < 5 by omega), show Mo_of 0 (nI i) 2 MoS e2 = _ from of2, show Mo_of 0 (nI i) 4 MoS e2 = _ from of4]
        simp only [Option.bind_some]
        rw [hJ, Mo_in_eq, Option.bind_some]
        rcases inI_01 J (w (106 + 5 * i + 2)) ((w (106 + 5 * i + 2) + w (106 + 5 * i + 4)) - 1) with e | e
        · rw [e, if_pos rfl]
          by_cases h3 : w (106 + 5 * i + 3) = N
          · rw [if_pos h3, if_pos rfl]
            exact hstep _ _ rfl rfl
          · rw [if_neg h3]
            exact hstep _ _ rfl rfl
        · rw [e, if_neg (show ¬ (1 : Int32) = 0 by decide)]
          by_cases h3 : w (106 + 5 * i + 3) = N
          · rw [if_neg (show ¬ ¬ w (106 + 5 * i + 3) = N from fun z => z h3), if_pos h3, if_neg (show ¬ (1 : Int32) = 0 by decide), if_neg (show ¬ (nI k : Int32) = 4 from fun z => hk4 ((nI_eq (b := 4) (by omega) (by omega)).mp z))]
            exact Or.inr ⟨_, rfl, rfl, Or.inr ⟨k, rfl, by omega⟩⟩
          · rw [if_pos h3, if_neg h3]
            exact hstep _ _ rfl rfl
      · rw [if_neg h1, if_pos rfl, if_pos h1]
        exact hstep _ _ rfl rfl
  · rintro F G x y ⟨rfl, rfl⟩
    show ∃ x, Ws_wrongAt_h3 0 (nI t) J N S e1 (F + 1) (nI q.ni) = _ ∧ Mo_changeAt_h2 0 (nI t) N MoS e2 (G + 1) (nI q.ni) = _ ∧ _
    rw [Ws_wrongAt_h3, Mo_changeAt_h2, hC.K, Option.bind_some, hC.T, Option.bind_some, hC.kM, Option.bind_some, hC.injs, Option.bind_some, if_pos (nI_le (Nat.le_refl _) (by omega)), Mo_K, Option.bind_some, h.inj, Option.bind_some, if_pos (nI_le (Nat.le_refl _) (by omega))]
    exact ⟨-1, rfl, rfl, Or.inl rfl⟩
/-- whether an answer is wrong -/
theorem wrong_eq (h : RE S e1 e2 w q op cl) (ht : t < q.nt) {J : Int32} (hJ : e2.1 15 t = J) : ∃ x, Ws_isWrong 0 (nI t) J S e1 = some x ∧ Mo_isWrong 0 (nI t) MoS e2 = some x ∧ (x = 0 ∨ x = 1) := by
  have h5 := h.C.nt5
  have hni := h.C.ni18
  have hC := h.C
  unfold Ws_isWrong Mo_isWrong
  refine loop2_FU (X := fun F (x : Int32) => Ws_isWrong_h2 0 (nI t) J S e1 F x) (Y := fun F (x : Int32) => Mo_isWrong_h2 0 (nI t) MoS e2 F x) (Inv := fun i x y => x = nI i ∧ y = nI i) (P := fun o p => ∃ x, o = some x ∧ p = some x ∧ (x = 0 ∨ x = 1)) (x := 0) (y := 0) q.ni (by omega) ⟨rfl, rfl⟩ ?_ ?_
  · rintro i hi F G x y ⟨rfl, rfl⟩
    have hstep : ∀ X Y : Option Int32, X = Ws_isWrong_h2 0 (nI t) J S e1 F (nI (i + 1)) → Y = Mo_isWrong_h2 0 (nI t) MoS e2 G (nI (i + 1)) → (∃ x' y', X = Ws_isWrong_h2 0 (nI t) J S e1 F x' ∧ Y = Mo_isWrong_h2 0 (nI t) MoS e2 G y' ∧ x' = nI (i + 1) ∧ y' = nI (i + 1)) ∨ ∃ x, X = some x ∧ Y = some x ∧ (x = 0 ∨ x = 1) := fun X Y hX hY => Or.inl ⟨_, _, hX, hY, rfl, rfl⟩
    have of0 := h.of0 hi
    have of1 := h.of hi (f := 1) (by omega)
    have of2 := h.of hi (f := 2) (by omega)
    have of4 := h.of hi (f := 4) (by omega)
    show (∃ x' y', Ws_isWrong_h2 0 (nI t) J S e1 (F + 1) (nI i) = _ ∧ Mo_isWrong_h2 0 (nI t) MoS e2 (G + 1) (nI i) = _ ∧ _) ∨ ∃ x, Ws_isWrong_h2 0 (nI t) J S e1 (F + 1) (nI i) = _ ∧ Mo_isWrong_h2 0 (nI t) MoS e2 (G + 1) (nI i) = _ ∧ _
    rw [Ws_isWrong_h2, Mo_isWrong_h2, hC.K, Option.bind_some, hC.T, Option.bind_some, hC.kM, Option.bind_some, hC.injs, Option.bind_some, if_neg (nI_ge hi (by omega)), hC.injOf hi, Option.bind_some, hC.iK hi, Option.bind_some, Mo_K, Option.bind_some, h.inj, Option.bind_some, if_neg (nI_ge hi (by omega)), h.2.2.2.1]
    by_cases hb : nI i = e2.1 0 23
    · rw [if_pos hb, if_pos hb, nI_1]
      exact hstep _ _ rfl rfl
    rw [if_neg hb, if_neg hb, isOf_eq hC hi, Option.bind_some, hC.iF0 hi, of0, Option.bind_some, nI_1]
    by_cases h4 : w (106 + 5 * i) = 4
    · rw [if_neg (show ¬ w (106 + 5 * i) = 5 from fun z => by rw [h4] at z; exact absurd z (by decide)), h4, if_neg (show ¬ ¬ (4 : Int32) = 4 from fun z => z rfl), show Mo_of 0 (nI i) 1 MoS e2 = _ from of1, Option.bind_some]
      by_cases h1 : w (106 + 5 * i + 1) = nI t
      · rw [if_pos h1, if_neg (show ¬ ¬ w (106 + 5 * i + 1) = nI t from fun z => z h1), MoS_R0_29, ma15 (show t < 5 by omega), show Mo_of 0 (nI i) 2 MoS e2 = _ from of2, show Mo_of 0 (nI i) 4 MoS e2 = _ from of4]
        simp only [Option.bind_some]
        rw [hJ, Mo_in_eq, Option.bind_some]
        rcases inI_01 J (w (106 + 5 * i + 2)) ((w (106 + 5 * i + 2) + w (106 + 5 * i + 4)) - 1) with e | e
        · rw [e, if_pos rfl, if_pos rfl]
          exact hstep _ _ rfl rfl
        · rw [e, if_neg (show ¬ (1 : Int32) = 0 by decide), if_neg (show ¬ (1 : Int32) = 0 by decide)]
          simp only [not_true_eq_false, ↓reduceIte]
          exact Or.inr ⟨1, rfl, rfl, Or.inr rfl⟩
      · rw [if_neg h1, if_pos rfl, if_pos h1]
        exact hstep _ _ rfl rfl
    · rw [if_pos h4, if_pos h4]
      have e9 : ∀ (c : Prop) [Decidable c] (X : Option Int32), (if c then X else X) = X := fun c _ X => by split <;> rfl
      refine hstep _ _ ?_ rfl
      exact e9 _ _
  · rintro F G x y ⟨rfl, rfl⟩
    show ∃ x, Ws_isWrong_h2 0 (nI t) J S e1 (F + 1) (nI q.ni) = _ ∧ Mo_isWrong_h2 0 (nI t) MoS e2 (G + 1) (nI q.ni) = _ ∧ _
    rw [Ws_isWrong_h2, Mo_isWrong_h2, hC.K, Option.bind_some, hC.T, Option.bind_some, hC.kM, Option.bind_some, hC.injs, Option.bind_some, if_pos (nI_le (Nat.le_refl _) (by omega)), Mo_K, Option.bind_some, h.inj, Option.bind_some, if_pos (nI_le (Nat.le_refl _) (by omega))]
    exact ⟨0, rfl, rfl, Or.inl rfl⟩
/-- the sleepers: one is awake in the model's row where the component's watcher was woken behind it -/
def SlR (w : Nat → Int32) (q : TdP) (k : Nat) (e1 e2 : Dt) : Prop := (∀ v, v < q.nw → ∃ x, e1.1 18 v = nI x - 1 ∧ x ≤ k + 1) ∧ ∀ i, i < q.ni → ∀ v j, w (106 + 5 * i) = 5 → w (106 + 5 * i + 1) = nI v → v < q.nw → w (106 + 5 * i + 2) = nI j → e2.1 34 i = if nI j ≤ e1.1 18 v then 1 else 0
theorem asleep_eq (h : RE S e1 e2 w q op cl) {v k : Nat} (hv : v < q.nw) (hs : SlR w q k e1 e2) {T : Int32} : ∃ x, Ws_isAsleep 0 (nI v) T S e1 = some x ∧ Mo_isAsleep 0 (nI v) T MoS e2 = some x ∧ (x = 0 ∨ x = 1) := by
  have h5 := h.C.nw3
  have hni := h.C.ni18
  have hC := h.C
  unfold Ws_isAsleep Mo_isAsleep
  refine loop2_FU (X := fun F (x : Int32) => Ws_isAsleep_h2 0 (nI v) T S e1 F x) (Y := fun F (x : Int32) => Mo_isAsleep_h2 0 (nI v) T MoS e2 F x) (Inv := fun i x y => x = nI i ∧ y = nI i) (P := fun o p => ∃ x, o = some x ∧ p = some x ∧ (x = 0 ∨ x = 1)) (x := 0) (y := 0) q.ni (by omega) ⟨rfl, rfl⟩ ?_ ?_
  · rintro i hi F G x y ⟨rfl, rfl⟩
    have hstep : ∀ X Y : Option Int32, X = Ws_isAsleep_h2 0 (nI v) T S e1 F (nI (i + 1)) → Y = Mo_isAsleep_h2 0 (nI v) T MoS e2 G (nI (i + 1)) → (∃ x' y', X = Ws_isAsleep_h2 0 (nI v) T S e1 F x' ∧ Y = Mo_isAsleep_h2 0 (nI v) T MoS e2 G y' ∧ x' = nI (i + 1) ∧ y' = nI (i + 1)) ∨ ∃ x, X = some x ∧ Y = some x ∧ (x = 0 ∨ x = 1) := fun X Y hX hY => Or.inl ⟨_, _, hX, hY, rfl, rfl⟩
    have of0 := h.of0 hi
    have of1 := h.of hi (f := 1) (by omega)
    have of2 := h.of hi (f := 2) (by omega)
    show (∃ x' y', Ws_isAsleep_h2 0 (nI v) T S e1 (F + 1) (nI i) = _ ∧ Mo_isAsleep_h2 0 (nI v) T MoS e2 (G + 1) (nI i) = _ ∧ _) ∨ ∃ x, Ws_isAsleep_h2 0 (nI v) T S e1 (F + 1) (nI i) = _ ∧ Mo_isAsleep_h2 0 (nI v) T MoS e2 (G + 1) (nI i) = _ ∧ _
    rw [Ws_isAsleep_h2, Mo_isAsleep_h2, hC.K, Option.bind_some, hC.T, Option.bind_some, hC.kM, Option.bind_some, hC.injs, Option.bind_some, if_neg (nI_ge hi (by omega)), hC.injOf hi, Option.bind_some, hC.iK hi, Option.bind_some, Mo_K, Option.bind_some, h.inj, Option.bind_some, if_neg (nI_ge hi (by omega)), h.2.2.2.1]
    by_cases hb : nI i = e2.1 0 23
    · rw [if_pos hb, if_pos hb, nI_1]
      exact hstep _ _ rfl rfl
    rw [if_neg hb, if_neg hb, hC.iF0 hi, of0, Option.bind_some, nI_1]
    by_cases h5' : w (106 + 5 * i) = 5
    · rw [if_neg (show ¬ ¬ w (106 + 5 * i) = 5 from fun z => z h5'), if_neg (show ¬ ¬ w (106 + 5 * i) = 5 from fun z => z h5'), hC.iF hi (f := 1) (by omega), show Mo_of 0 (nI i) 1 MoS e2 = _ from of1, Option.bind_some]
      by_cases h1 : w (106 + 5 * i + 1) = nI v
      · rw [if_neg (show ¬ ¬ w (106 + 5 * i + 1) = nI v from fun z => z h1), if_neg (show ¬ ¬ w (106 + 5 * i + 1) = nI v from fun z => z h1), hC.iF hi (f := 2) (by omega), show Mo_of 0 (nI i) 2 MoS e2 = _ from of2, Option.bind_some]
        obtain ⟨j, hj⟩ : ∃ j, w (106 + 5 * i + 2) = nI j := by
          rcases hC.iw hi with ⟨v', j, k0, k1, k2, k3, k4, k5, k6⟩ | ⟨k, s, j, tm, k0, k1, k2, k3, k4, k5, k6, k7, k8, k9⟩
          · exact ⟨j, k3⟩
          · exact ⟨j, k4⟩
        have hsl := hs.2 i hi v j h5' h1 hv hj
        rw [hj]
        by_cases hT : T < nI j
        · rw [if_pos hT, if_pos hT]
          exact hstep _ _ rfl rfl
        · rw [if_neg hT, if_neg hT, cr14 hC.F, ca18 hC.F (show v < 3 by omega), Option.bind_some, MoS_R0_48, ma34 (show i < 19 by omega), Option.bind_some, hsl]
          by_cases hw9 : nI j ≤ e1.1 18 v
          · rw [if_pos hw9, if_pos hw9, if_pos (show ¬ (1 : Int32) = 0 by decide)]
            exact hstep _ _ rfl rfl
          · rw [if_neg hw9, if_neg hw9, if_neg (fun z => z rfl)]
            exact Or.inr ⟨1, rfl, rfl, Or.inr rfl⟩
      · rw [if_pos h1, if_pos h1]
        exact hstep _ _ rfl rfl
    · rw [if_pos h5', if_pos h5']
      exact hstep _ _ rfl rfl
  · rintro F G x y ⟨rfl, rfl⟩
    show ∃ x, Ws_isAsleep_h2 0 (nI v) T S e1 (F + 1) (nI q.ni) = _ ∧ Mo_isAsleep_h2 0 (nI v) T MoS e2 (G + 1) (nI q.ni) = _ ∧ _
    rw [Ws_isAsleep_h2, Mo_isAsleep_h2, hC.K, Option.bind_some, hC.T, Option.bind_some, hC.kM, Option.bind_some, hC.injs, Option.bind_some, if_pos (nI_le (Nat.le_refl _) (by omega)), Mo_K, Option.bind_some, h.inj, Option.bind_some, if_pos (nI_le (Nat.le_refl _) (by omega))]
    exact ⟨0, rfl, rfl, Or.inl rfl⟩
end
