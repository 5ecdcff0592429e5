/-! THE PLAIN LAW: responses -/
set_option maxRecDepth 100000
/-- a task's period, the units of its longest and shortest way -/
def pN (w : Nat → Int32) (t : Nat) : Nat := (w (11 + 7 * t + 1)).toNatClampNeg
def lgN (w : Nat → Int32) (t nd : Nat) : Nat := (wC w t nd true 0).toNatClampNeg
def shN (w : Nat → Int32) (t nd : Nat) : Nat := (wC w t nd false 0).toNatClampNeg
/-- what a response adds up to, by the tasks o < m of A -/
def rS (L P : Nat → Nat) (i A r : Nat) : Nat → Nat
  | 0 => L i
  | m + 1 => rS L P i A r m + if A.testBit m then (r + P m - 1) / P m * L m else 0
theorem rS_mono {L P : Nat → Nat} {i A r r' : Nat} (h : r ≤ r') : ∀ m, rS L P i A r m ≤ rS L P i A r' m := by
  intro m
  induction m with
  | zero => exact Nat.le_refl _
  | succ m ih =>
    show rS L P i A r m + (if A.testBit m then (r + P m - 1) / P m * L m else 0) ≤ rS L P i A r' m + (if A.testBit m then (r' + P m - 1) / P m * L m else 0)
    have : (r + P m - 1) / P m * L m ≤ (r' + P m - 1) / P m * L m := Nat.mul_le_mul_right _ (Nat.div_le_div_right (by omega))
    split <;> omega
theorem rS_ge {L P : Nat → Nat} {i A r : Nat} : ∀ m, L i ≤ rS L P i A r m := by
  intro m
  induction m with
  | zero => exact Nat.le_refl _
  | succ m ih => exact Nat.le_trans ih (Nat.le_add_right _ _)
theorem rS_le {L P : Nat → Nat} {i A r : Nat} (hr : r ≤ 60) (hi : L i ≤ 104) : ∀ m, (∀ o, o < m → 4 ≤ P o ∧ P o ≤ 60 ∧ L o ≤ 104) → rS L P i A r m ≤ 104 + m * 12480 := by
  intro m
  induction m with
  | zero => intro _; exact Nat.le_trans hi (by omega)
  | succ m ih =>
    intro h
    have h1 := ih (fun o ho => h o (by omega))
    obtain ⟨p1, p2, p3⟩ := h m (by omega)
    have h2 : (r + P m - 1) / P m ≤ 120 := Nat.le_trans (Nat.div_le_self _ _) (by omega)
    have h3 : (r + P m - 1) / P m * L m ≤ 120 * 104 := Nat.mul_le_mul h2 p3
    show rS L P i A r m + (if A.testBit m then (r + P m - 1) / P m * L m else 0) ≤ 104 + (m + 1) * 12480
    split <;> omega
/-- x is the response: the least number from the longest way on that adds up to itself, within the period; else none -/
def isR (L P : Nat → Nat) (nt i A : Nat) (x : Int32) : Prop := (∃ r, x = nI r ∧ L i ≤ r ∧ r ≤ P i ∧ rS L P i A r nt = r ∧ ∀ s, L i ≤ s → s < r → rS L P i A s nt ≠ s) ∨ (x = -1 ∧ ∀ s, L i ≤ s → s ≤ P i → rS L P i A s nt ≠ s)
theorem isR_eq {L P : Nat → Nat} {nt i A : Nat} {x y : Int32} (hx : isR L P nt i A x) (hy : isR L P nt i A y) : x = y := by
  rcases hx with ⟨r, x1, x2, x3, x4, x5⟩ | ⟨x1, x2⟩ <;> rcases hy with ⟨s, y1, y2, y3, y4, y5⟩ | ⟨y1, y2⟩
  · have : r = s := by
      rcases Nat.lt_trichotomy r s with h | h | h
      · exact absurd x4 (y5 r x2 h)
      · exact h
      · exact absurd y4 (x5 s y2 h)
    rw [x1, y1, this]
  · exact absurd x4 (y2 r x2 x3)
  · exact absurd y4 (x2 s y2 y3)
  · rw [x1, y1]
section
variable {S : Sp} {d d2 : Dt} {w : Nat → Int32} {q : TdP} {t : Nat}
theorem CE.per (h : CE S d w q) (ht : t < q.nt) : w (11 + 7 * t + 1) = nI (pN w t) ∧ 4 ≤ pN w t ∧ pN w t ≤ 60 := by
  obtain ⟨-, -, -, -, -, hT, -⟩ := h.wf
  obtain ⟨-, ⟨a, p, o, c, le, mo, -, -, h1, h2, h3, -⟩, -⟩ := hT t ht
  have e : pN w t = p := by unfold pN; rw [h1, nI_clamp (by omega)]
  rw [e]
  exact ⟨h1, h2, h3⟩
theorem CE.lg (h : CE S d w q) (ht : t < q.nt) : wC w t (q.nd t) true 0 = nI (lgN w t (q.nd t)) ∧ 1 ≤ lgN w t (q.nd t) ∧ lgN w t (q.nd t) ≤ 54 := by
  obtain ⟨f1, f2, f3, f4⟩ := h.tf ht
  obtain ⟨c, c1, c2, c3⟩ := cS_in (mx := true) (gp_le w t) f2 f4 8 0 f1 (by omega)
  have c1' : wC w t (q.nd t) true 0 = nI c := c1
  have e : lgN w t (q.nd t) = c := by unfold lgN; rw [c1', nI_clamp (by omega)]
  rw [e]
  exact ⟨c1', c2, by omega⟩
theorem CE.sh (h : CE S d w q) (ht : t < q.nt) : wC w t (q.nd t) false 0 = nI (shN w t (q.nd t)) ∧ shN w t (q.nd t) ≤ 54 := by
  obtain ⟨f1, f2, f3, f4⟩ := h.tf ht
  obtain ⟨c, c1, c2, c3⟩ := cS_in (mx := false) (gp_le w t) f2 f4 8 0 f1 (by omega)
  have c1' : wC w t (q.nd t) false 0 = nI c := c1
  have e : shN w t (q.nd t) = c := by unfold shN; rw [c1', nI_clamp (by omega)]
  rw [e]
  exact ⟨c1', by omega⟩
/-- units that a task is longer by -/
def grC (d : Dt) (q : TdP) (g : Nat → Nat) : Prop := ∀ i, i < q.nt → (if ¬ nI i = d.1 0 6 then (0 : Int32) else d.1 0 7) = nI (g i) ∧ g i ≤ 50
/-- the model's table of costs -/
def grM (d2 : Dt) (q : TdP) (g A : Nat → Nat) : Prop := ∀ i, i < q.nt → d2.1 8 i = nI (lgN (mw d2) i (q.nd i) + g i) ∧ d2.1 9 i = nI (shN (mw d2) i (q.nd i) + g i) ∧ d2.1 10 i = nI (A i) ∧ A i < 32
theorem CE.longer (h : CE S d w q) {g : Nat → Nat} (hg : grC d q g) (ht : t < q.nt) : Ws_longer 0 (nI t) S d = some (nI (lgN w t (q.nd t) + g t)) := by
  unfold Ws_longer Ta_longest Ws_longer_b24
  rw [h.K, Option.bind_some, h.taskOf ht, Option.bind_some, h.tK ht, Option.bind_some, h.tK ht, Option.bind_some, show Ta_cost 8 (q.tk t) 0 1 S d = _ from h.cost ht true, Option.bind_some, Option.bind_some, (h.lg ht).1, (hg t ht).1, nI_add]
theorem bit_on {A k : Nat} (hA : A < 32) (hk : k < 5) : ((nI A >>> (nI k &&& 31)) &&& 1) = 1 ↔ A.testBit k = true := by
  rw [and31 (by omega)]
  exact on_tab A (by omega) k (by omega)
theorem Ws_isOn_eq {A k : Nat} (hA : A < 32) (hk : k < 5) : Ws_isOn (nI A) (nI k) S d = some (if A.testBit k = true then 1 else 0) := by
  unfold Ws_isOn
  have h := bit_on hA hk
  by_cases hb : A.testBit k = true
  · rw [if_pos hb, if_neg (fun z => z (h.mpr hb))]
  · rw [if_neg hb, if_pos (fun z => hb (h.mp z))]
theorem Ws_up_eq {a b : Nat} (h1 : 1 ≤ a + b) (h2 : a + b < 2 ^ 31) (h3 : 0 < b) : Ws_up (nI a) (nI b) S d = some (nI ((a + b - 1) / b)) := by
  unfold Ws_up
  rw [show gz (nI b) = some () from if_neg (nI_ne0 h3 (by omega)), Option.bind_some, nI_add]
  obtain ⟨m, hm⟩ : ∃ m, a + b = m + 1 := ⟨a + b - 1, by omega⟩
  rw [hm, nI_pred, pk_div (by omega) h3 (by omega)]
  rfl
/-- the sum, by the component -/
theorem Ws_sum_eq (h : CE S d w q) {g : Nat → Nat} (hg : grC d q g) {i A r : Nat} (hi : i < q.nt) (hA : A < 32) (hr : r ≤ 60) {p1 v3 : Int32} (k19 : Int32 → Int32 → Int32 → Option Int32) : Ws_responseOf_h46 0 p1 (nI A) S d k19 FU v3 (nI (lgN w i (q.nd i) + g i)) (nI r) 0 = k19 v3 (nI (rS (fun o => lgN w o (q.nd o) + g o) (pN w) i A r q.nt)) (nI r) := by
  have h5 := h.nt5
  refine loop_FU (X := fun F (x : Int32 × Int32) => Ws_responseOf_h46 0 p1 (nI A) S d k19 F v3 x.1 (nI r) x.2) (Inv := fun j x => x = (nI (rS (fun o => lgN w o (q.nd o) + g o) (pN w) i A r j), nI j)) (P := fun o => o = k19 v3 (nI (rS (fun o => lgN w o (q.nd o) + g o) (pN w) i A r q.nt)) (nI r)) (x := (nI (lgN w i (q.nd i) + g i), 0)) q.nt (by omega) rfl ?_ ?_
  · intro j hj F x hx
    subst hx
    refine ⟨(nI (rS (fun o => lgN w o (q.nd o) + g o) (pN w) i A r (j + 1)), nI (j + 1)), ?_, rfl⟩
    show Ws_responseOf_h46 0 p1 (nI A) S d k19 (F + 1) v3 (nI (rS (fun o => lgN w o (q.nd o) + g o) (pN w) i A r j)) (nI r) (nI j) = Ws_responseOf_h46 0 p1 (nI A) S d k19 F v3 (nI (rS (fun o => lgN w o (q.nd o) + g o) (pN w) i A r j + if A.testBit j then (r + pN w j - 1) / pN w j * (lgN w j (q.nd j) + g j) else 0)) (nI r) (nI (j + 1))
    obtain ⟨p1', p2, p3⟩ := h.per hj
    obtain ⟨-, hf, -⟩ := h.task hj
    rw [Ws_responseOf_h46, h.K, Option.bind_some, h.tasks, Option.bind_some, if_neg (nI_ge hj (by omega)), Ws_isOn_eq hA (by omega), Option.bind_some]
    unfold Ws_responseOf_b91
    by_cases hb : A.testBit j = true
    · rw [if_pos hb, if_pos hb, if_neg (show ¬ (1 : Int32) = 0 by decide), h.taskOf hj, Option.bind_some, h.tK hj, Option.bind_some, hf 1 (by omega), p1', Ws_up_eq (by omega) (by omega) (by omega), Option.bind_some, h.longer hg hj, Option.bind_some, Option.bind_some, nI_mul, nI_add, nI_1]
    · rw [if_neg hb, if_neg hb, if_pos rfl, Option.bind_some, Int32.add_zero, nI_1]
      rfl
  · intro F x hx
    subst hx
    show Ws_responseOf_h46 0 p1 (nI A) S d k19 (F + 1) v3 (nI (rS (fun o => lgN w o (q.nd o) + g o) (pN w) i A r q.nt)) (nI r) (nI q.nt) = _
    rw [Ws_responseOf_h46, h.K, Option.bind_some, h.tasks, Option.bind_some, if_pos (nI_le (Nat.le_refl _) (by omega))]
theorem Ws_resp_eq (h : CE S d w q) {g : Nat → Nat} (hg : grC d q g) {i A : Nat} (hi : i < q.nt) (hA : A < 32) : ∃ x, Ws_responseOf 0 (nI i) (nI A) S d = some x ∧ isR (fun o => lgN w o (q.nd o) + g o) (pN w) q.nt i A x := by
  have h5 := h.nt5
  obtain ⟨-, hf, -⟩ := h.task hi
  obtain ⟨p1, p2, p3⟩ := h.per hi
  obtain ⟨l1, l2, l3⟩ := h.lg hi
  have hgi := (hg i hi).2
  generalize hLd : (fun o => lgN w o (q.nd o) + g o) = L
  have hLi : lgN w i (q.nd i) + g i = L i := by rw [← hLd]
  have hsum : ∀ (r : Nat), r ≤ 60 → ∀ (v3 : Int32) k19, Ws_responseOf_h46 0 (nI i) (nI A) S d k19 FU v3 (nI (L i)) (nI r) 0 = k19 v3 (nI (rS L (pN w) i A r q.nt)) (nI r) := by
    intro r hr v3 k19
    rw [← hLi, ← hLd]
    exact Ws_sum_eq h hg hi hA hr k19
  have hbd : ∀ r, r ≤ 60 → rS L (pN w) i A r q.nt ≤ 62504 := by
    intro r hr
    have := rS_le (L := L) (P := pN w) (i := i) (A := A) hr (by omega) q.nt (fun o ho => by
      obtain ⟨-, a, b⟩ := h.per ho
      have c := (h.lg ho).2.2
      have e := (hg o ho).2
      exact ⟨a, b, by rw [← hLd]; show lgN w o (q.nd o) + g o ≤ 104; omega⟩)
    omega
  unfold Ws_responseOf
  rw [h.K, Option.bind_some, h.taskOf hi, Option.bind_some, h.tK hi, Option.bind_some, Option.bind_some, hf 1 (by omega), p1, h.longer hg hi, Option.bind_some, hLi]
  have key : ∀ n r was F, pN w i + 1 - r ≤ n → n + 2 < F → r ≤ 100000 → was < 100000 → L i ≤ r → r ≤ rS L (pN w) i A r q.nt → (∀ s, L i ≤ s → rS L (pN w) i A s q.nt = s → r ≤ s) → (was = r → rS L (pN w) i A r q.nt = r) → ∃ x, Ws_responseOf_h19 0 (nI i) (nI A) S d F (nI (pN w i)) (nI r) (nI was) = some x ∧ isR L (pN w) q.nt i A x := by
    intro n
    induction n with
    | zero =>
      intro r was F h1 h2 h3 h3' h4 h5' h6 h7
      obtain ⟨F, rfl⟩ : ∃ F', F = F' + 1 := ⟨F - 1, by omega⟩
      have hr : pN w i < r := by omega
      have hend : ∃ x, Ws_responseOf_b103 0 (nI i) (nI A) S d (nI (pN w i)) (nI r) = some x ∧ isR L (pN w) q.nt i A x := by
        refine ⟨-1, ?_, Or.inr ⟨rfl, fun s s1 s2 e => by have := h6 s s1 e; omega⟩⟩
        unfold Ws_responseOf_b103
        rw [if_pos (nI_lt hr (by omega))]
      rw [Ws_responseOf_h19]
      by_cases e : nI r = nI was
      · rw [if_pos e]; exact hend
      · rw [if_neg e, if_pos (nI_lt hr (by omega))]; exact hend
    | succ n ih =>
      intro r was F h1 h2 h3 h3' h4 h5' h6 h7
      obtain ⟨F, rfl⟩ : ∃ F', F = F' + 1 := ⟨F - 1, by omega⟩
      rw [Ws_responseOf_h19]
      by_cases hr : pN w i < r
      · have hend : ∃ x, Ws_responseOf_b103 0 (nI i) (nI A) S d (nI (pN w i)) (nI r) = some x ∧ isR L (pN w) q.nt i A x := by
          refine ⟨-1, ?_, Or.inr ⟨rfl, fun s s1 s2 e => by have := h6 s s1 e; omega⟩⟩
          unfold Ws_responseOf_b103
          rw [if_pos (nI_lt hr (by omega))]
        by_cases e : nI r = nI was
        · rw [if_pos e]; exact hend
        · rw [if_neg e, if_pos (nI_lt hr (by omega))]; exact hend
      have hfix : rS L (pN w) i A r q.nt = r → ∃ x, Ws_responseOf_b103 0 (nI i) (nI A) S d (nI (pN w i)) (nI r) = some x ∧ isR L (pN w) q.nt i A x := by
        intro e
        refine ⟨nI r, ?_, Or.inl ⟨r, rfl, h4, by omega, e, fun s s1 s2 e' => by have := h6 s s1 e'; omega⟩⟩
        unfold Ws_responseOf_b103
        rw [if_neg (nI_nlt (by omega) (by omega))]
      by_cases e : nI r = nI was
      · rw [if_pos e]
        exact hfix (h7 ((nI_eq (by omega) (by omega)).mp e.symm))
      rw [if_neg e, if_neg (nI_nlt (by omega) (by omega)), h.K, Option.bind_some, h.longer hg hi, Option.bind_some, hLi, hsum r (by omega)]
      have hb := hbd r (by omega)
      by_cases e2 : rS L (pN w) i A r q.nt = r
      · obtain ⟨F, rfl⟩ : ∃ F', F = F' + 1 := ⟨F - 1, by omega⟩
        rw [Ws_responseOf_h19, e2, if_pos rfl]
        exact hfix e2
      · refine ih _ r F (by omega) (by omega) (by omega) (by omega) (by omega) (rS_mono h5' _) (fun s s1 s2 => ?_) (fun z => absurd z.symm e2)
        have := h6 s s1 s2
        have := rS_mono (L := L) (P := pN w) (i := i) (A := A) this q.nt
        omega
  refine key 61 (L i) 0 FU (by omega) (show 63 < 10000 by omega) (by omega) (by omega) (Nat.le_refl _) (rS_ge _) (fun s s1 _ => s1) (fun z => by omega)
end
