/-! THE PLAIN LAW: queries of the graph -/
set_option maxRecDepth 100000
/-- two loops with fuel, step by step; either may end both -/
theorem loop2 {α β R Q : Type} {X : Nat → α → Option R} {Y : Nat → β → Option Q} {Inv : Nat → α → β → Prop} {P : Option R → Option Q → Prop} (n : Nat) (hs : ∀ i, i < n → ∀ f g x y, Inv i x y → (∃ x' y', X (f + 1) x = X f x' ∧ Y (g + 1) y = Y g y' ∧ Inv (i + 1) x' y') ∨ P (X (f + 1) x) (Y (g + 1) y)) (he : ∀ f g x y, Inv n x y → P (X (f + 1) x) (Y (g + 1) y)) : ∀ k i x y f g, i + k = n → Inv i x y → k < f → k < g → P (X f x) (Y g y) := by
  intro k
  induction k with
  | zero =>
    intro i x y f g hi hI hf hg
    obtain ⟨f', rfl⟩ : ∃ f', f = f' + 1 := ⟨f - 1, by omega⟩
    obtain ⟨g', rfl⟩ : ∃ g', g = g' + 1 := ⟨g - 1, by omega⟩
    rw [Nat.add_zero] at hi
    subst hi
    exact he f' g' x y hI
  | succ k ih =>
    intro i x y f g hi hI hf hg
    obtain ⟨f', rfl⟩ : ∃ f', f = f' + 1 := ⟨f - 1, by omega⟩
    obtain ⟨g', rfl⟩ : ∃ g', g = g' + 1 := ⟨g - 1, by omega⟩
    rcases hs i (by omega) f' g' x y hI with ⟨x', y', h1, h2, h3⟩ | h
    · rw [h1, h2]
      exact ih (i + 1) x' y' f' g' (by omega) h3 (by omega) (by omega)
    · exact h
theorem loop2_FU {α β R Q : Type} {X : Nat → α → Option R} {Y : Nat → β → Option Q} {Inv : Nat → α → β → Prop} {P : Option R → Option Q → Prop} {x : α} {y : β} (n : Nat) (hn : n < 10000) (h0 : Inv 0 x y) (hs : ∀ i, i < n → ∀ f g x y, Inv i x y → (∃ x' y', X (f + 1) x = X f x' ∧ Y (g + 1) y = Y g y' ∧ Inv (i + 1) x' y') ∨ P (X (f + 1) x) (Y (g + 1) y)) (he : ∀ f g x y, Inv n x y → P (X (f + 1) x) (Y (g + 1) y)) : P (X FU x) (Y FU y) :=
  loop2 n hs he n 0 x y FU FU (Nat.zero_add n) h0 hn hn
section
variable {S : Sp} {d d' d2 : Dt} {w : Nat → Int32} {q : TdP} {t : Nat}
theorem CE.go (h : CE S d w q) (k : Kp S d d') : CE S d' w q := ⟨h.1, h.2.1, h.2.2.go h.1 Ext.rf k⟩
theorem CE.tf (h : CE S d w q) (ht : t < q.nt) : 1 ≤ q.nd t ∧ q.nd t ≤ 6 ∧ w (11 + 7 * t + 6) = nI (q.nd t) ∧ ∀ n, n < q.nd t → ∃ u, wU w t n = nI u ∧ 1 ≤ u ∧ u ≤ 9 := by
  obtain ⟨-, -, -, -, -, hT, -⟩ := h.wf
  obtain ⟨⟨a, b, c⟩, -, e⟩ := hT t ht
  refine ⟨a, b, c, fun n hn => ?_⟩
  obtain ⟨u, z, u1, u2, u3, -⟩ := e n hn
  exact ⟨u, u1, u2, u3⟩
theorem Ks.kp {a : Nat} (h : Ks a d d') (ha : 7 ≤ a) (hb : a < 35) : Kp S d d' := fun b _ hr => h.1 b (by omega)
theorem Ks.kc {a : Nat} (h : Ks a d d') (h8 : a ≠ 8) (h0 : a ≠ 0) : Kc d d' := ⟨h.1 8 (fun e => h8 e.symm), fun k _ _ => by rw [h.1 0 (fun e => h0 e.symm)]⟩
/-- a query that changes rows of the model alone -/
theorem Rel.m {n : Nat} {d1 d2 d2' : Dt} (h : Rel n S d1 MoS d2) (k : Km d2 d2') : Rel (n + 1) S d1 MoS d2' := h.go Ext.rf ⟨by omega, by omega, by omega⟩ Kp.rf Kc.rf k rfl rfl
theorem CE.cost (h : CE S d w q) (ht : t < q.nt) (mx : Bool) : Ta_cost 8 (q.tk t) 0 (if mx then 1 else 0) S d = some (wC w t (q.nd t) mx 0) := h.costF ht mx 8 0 (h.tf ht).1 (by have := (h.tf ht).2.1; omega)
end
theorem PL_8_Rel : PL_8 Rel := by
  intro n S1 d1 S2 d2 p1 p2 hn hR
  have hU := hR.up
  obtain ⟨rfl, q, hF, hN, hC⟩ := rel_at hR
  have h5 := hC.nt5
  unfold Ws_cost Mo_cost
  rw [hC.K, Mo_K]
  simp only [Option.bind_some]
  rw [hC.isTask, Mo_isTask_eq, hC.wf.2.1.1]
  simp only [Option.bind_some]
  rcases inI_nI (x := p1) (n := q.nt) (by omega) with ⟨e, -⟩ | ⟨t, ht, rfl, e⟩
  · simp only [e, i10, eq_self, not_true_eq_false, not_false_eq_true, ↓reduceIte, Option.bind_some]
    exact ⟨_, _, rfl, rfl, hU⟩
  simp only [e, i10, eq_self, not_true_eq_false, not_false_eq_true, ↓reduceIte, Option.bind_some]
  rw [show (1 : Int64) = (nI 1).toInt64 from by decide, Ws_in0, Mo_in0]
  simp only [Option.bind_some]
  rcases inI_lit (x := p2) (n := 1) (by omega) with ⟨e1, -⟩ | ⟨k, hk, rfl, e1⟩
  · simp only [e1, i10, eq_self, not_true_eq_false, not_false_eq_true, ↓reduceIte, Option.bind_some]
    exact ⟨_, _, rfl, rfl, hU⟩
  simp only [e1, i10, eq_self, not_true_eq_false, not_false_eq_true, ↓reduceIte, Option.bind_some]
  obtain ⟨f1, f2, f3, f4⟩ := hC.tf ht
  obtain ⟨d2', g1, g2⟩ := Mo_goes_eq (d := d2) (t := t) (wh := k) (by omega) f1 f2 (by omega) f3 f4
  unfold Ws_cost_b34
  rw [hC.taskOf ht, g1]
  simp only [Option.bind_some, bind2_some]
  rw [hC.tK ht]
  simp only [Option.bind_some]
  have hmx : (if ¬ nI k = 1 then (0 : Int32) else 1) = if decide (k = 1) then 1 else 0 := by
    obtain rfl | rfl : k = 0 ∨ k = 1 := by omega
    · rfl
    · rfl
  rw [hmx, hC.cost ht]
  simp only [Option.bind_some]
  have hv : gV (mw d2) t (q.nd t) k 0 = wC (mw d2) t (q.nd t) (decide (k = 1)) 0 := if_neg (by omega)
  rw [hv]
  exact ⟨_, _, rfl, rfl, hR.m (g2.km (by omega))⟩
theorem PL_9_Rel : PL_9 Rel := by
  intro n S1 d1 S2 d2 p1 hn hR
  have hU := hR.up
  obtain ⟨rfl, q, hF, hN, hC⟩ := rel_at hR
  have h5 := hC.nt5
  unfold Ws_ways Mo_ways
  rw [hC.K, Mo_K]
  simp only [Option.bind_some]
  rw [hC.isTask, Mo_isTask_eq, hC.wf.2.1.1]
  simp only [Option.bind_some]
  rcases inI_nI (x := p1) (n := q.nt) (by omega) with ⟨e, -⟩ | ⟨t, ht, rfl, e⟩
  · simp only [e, i10, eq_self, not_true_eq_false, not_false_eq_true, ↓reduceIte, Option.bind_some]
    exact ⟨_, _, rfl, rfl, hU⟩
  simp only [e, i10, eq_self, not_true_eq_false, not_false_eq_true, ↓reduceIte, Option.bind_some]
  obtain ⟨f1, f2, f3, f4⟩ := hC.tf ht
  obtain ⟨d2', g1, g2⟩ := Mo_goes_eq (d := d2) (t := t) (wh := 2) (by omega) f1 f2 (by omega) f3 f4
  rw [hC.taskOf ht, show Mo_goes 0 (nI t) 2 MoS d2 = _ from g1]
  simp only [Option.bind_some, bind2_some]
  rw [hC.tK ht]
  simp only [Option.bind_some]
  rw [show Ta_ways 8 (q.tk t) 0 S1 d1 = _ from hC.waysF ht 8 0 f1 (by omega)]
  simp only [Option.bind_some]
  exact ⟨_, _, rfl, rfl, hR.m (g2.km (by omega))⟩
theorem path_eq {S : Sp} {d d2 : Dt} {q : TdP} {t : Nat} (h : CE S d (mw d2) q) (ht : t < q.nt) {j p : Nat} (hj : j < 2 ^ 31) (hp : p < 2 ^ 31) {p1 : Int32} (hp1 : p1 = nI t) : ∀ f n k F G, n < q.nd t → q.nd t - n ≤ f → f + 1 < F → f + 1 < G → k ≤ p → ∃ a, Ws_path_h33 0 p1 (nI j) (nI p) S d F (nI n) (nI k) = some a ∧ Mo_path_h33 0 p1 (nI j) (nI p) MoS d2 G (nI n) (nI k) = some a := by
  subst hp1
  obtain ⟨f1, f2, f3, f4⟩ := h.tf ht
  have h5 := h.nt5
  intro f
  induction f with
  | zero => intro n k F G h1 h2; omega
  | succ f ih =>
    intro n k F G hn h2 hF hG hk
    obtain ⟨F, rfl⟩ : ∃ F', F = F' + 1 := ⟨F - 1, by omega⟩
    obtain ⟨G, rfl⟩ : ∃ G', G = G' + 1 := ⟨G - 1, by omega⟩
    simp only [Ws_path_h33, Ws_path_b64, Mo_path_h33, h.K, Mo_K, Option.bind_some]
    by_cases hpk : p ≤ k
    · rw [if_pos (nI_le hpk (by omega)), if_pos (nI_le hpk (by omega))]
      exact ⟨_, rfl, rfl⟩
    rw [if_neg (nI_ge (by omega) (by omega)), if_neg (nI_ge (by omega) (by omega)), if_neg (m1_pos (by omega)), h.taskOf ht, Mo_followers_eq (by omega) hn f2 f3]
    simp only [Option.bind_some]
    rw [h.tK ht]
    simp only [Option.bind_some]
    rw [h.next ht hn hj]
    simp only [Option.bind_some]
    show ∃ a, _ ∧ (if ¬ nI (nxC (mw d2) t (q.nd t) n) = 0 then (gz (nI (nxC (mw d2) t (q.nd t) n))).bind fun u10 => (Mo_follower 0 (nI t) (nI n) (irm (nI j) (nI (nxC (mw d2) t (q.nd t) n))) MoS d2).bind _ else _) = _
    have hg : nxC (mw d2) t (q.nd t) n ≤ q.nd t := gc_le _ _
    by_cases hc : nxC (mw d2) t (q.nd t) n = 0
    · rw [if_pos hc, if_neg (by rw [hc]; decide)]
      obtain ⟨F, rfl⟩ : ∃ F', F = F' + 1 := ⟨F - 1, by omega⟩
      refine ⟨-1, ?_, rfl⟩
      simp only [Ws_path_h33, Ws_path_b64, ↓reduceIte]
      split <;> rfl
    · rw [if_neg hc, if_pos (nI_ne0 (by omega) (by omega)), show gz (nI (nxC (mw d2) t (q.nd t) n)) = some () from if_neg (nI_ne0 (by omega) (by omega)), Option.bind_some, irm_nI hj (by omega) (by omega)]
      have hm : j % nxC (mw d2) t (q.nd t) n < nxC (mw d2) t (q.nd t) n := Nat.mod_lt _ (by omega)
      obtain ⟨x1, x2, -⟩ := nxN_in hn hm
      rw [Mo_follower_eq (by omega) hn f2 hm, Option.bind_some, nI_1]
      exact ih _ (k + 1) F G x2 (by omega) (by omega) (by omega) (by omega)
theorem PL_15_Rel : PL_15 Rel := by
  intro n S1 d1 S2 d2 p1 p2 p3 hn hR
  have hU := hR.up
  obtain ⟨rfl, q, hF, hN, hC⟩ := rel_at hR
  have h5 := hC.nt5
  unfold Ws_path Mo_path
  rw [hC.K, Mo_K]
  simp only [Option.bind_some]
  rw [hC.isTask, Mo_isTask_eq, hC.wf.2.1.1]
  simp only [Option.bind_some]
  rcases inI_nI (x := p1) (n := q.nt) (by omega) with ⟨e, -⟩ | ⟨t, ht, rfl, e⟩
  · simp only [e, i10, eq_self, not_true_eq_false, not_false_eq_true, ↓reduceIte, Option.bind_some]
    exact ⟨_, rfl, rfl, hU⟩
  simp only [e, i10, eq_self, not_true_eq_false, not_false_eq_true, ↓reduceIte, Option.bind_some]
  rw [show (50 : Int64) = (nI 50).toInt64 from by decide, Ws_in0, Mo_in0]
  simp only [Option.bind_some]
  rcases inI_lit (x := p2) (n := 50) (by omega) with ⟨e1, -⟩ | ⟨j, hj, rfl, e1⟩
  · simp only [e1, i10, eq_self, not_true_eq_false, not_false_eq_true, ↓reduceIte, Option.bind_some]
    exact ⟨_, rfl, rfl, hU⟩
  simp only [e1, i10, eq_self, not_true_eq_false, not_false_eq_true, ↓reduceIte, Option.bind_some]
  by_cases h0 : (0 : Int32) ≤ p3
  · obtain ⟨p, hp, rfl⟩ := nI_of (Int32.not_lt.mpr h0)
    obtain ⟨f1, f2, f3, f4⟩ := hC.tf ht
    obtain ⟨a, a1, a2⟩ := path_eq hC ht (j := j) (p := p) (by omega) hp rfl 6 0 0 FU FU f1 (by omega) (show 7 < 10000 by decide) (show 7 < 10000 by decide) (by omega)
    rw [if_pos h0, if_pos h0]
    exact ⟨a, a1, a2, hU⟩
  · rw [if_neg h0, if_neg h0]
    exact ⟨_, rfl, rfl, hU⟩
theorem answer_eq {S : Sp} {d d2 : Dt} {q : TdP} {t : Nat} (h : CE S d (mw d2) q) (ht : t < q.nt) {j : Nat} (hj : j < 2 ^ 31) {p3 : Int32} : ∀ f n a F G, n < q.nd t → q.nd t - n ≤ f → f + 1 < F → f + 1 < G → ∃ r, Ws_answer_h41 0 (nI t) (nI j) p3 S d F a (nI n) = some r ∧ Mo_answer_h45 0 (nI t) (nI j) p3 MoS d2 G (nI n) (irm (((5 * a) + nI n) + 1) 64) = some r := by
  obtain ⟨f1, f2, f3, f4⟩ := h.tf ht
  have h5 := h.nt5
  intro f
  induction f with
  | zero => intro n a F G h1 h2; omega
  | succ f ih =>
    intro n a F G hn h2 hF hG
    obtain ⟨F, rfl⟩ : ∃ F', F = F' + 1 := ⟨F - 1, by omega⟩
    obtain ⟨G, rfl⟩ : ∃ G', G = G' + 1 := ⟨G - 1, by omega⟩
    simp only [Ws_answer_h41, Ws_follows, Mo_answer_h45, Mo_answered, h.K, Mo_K, Option.bind_some]
    rw [if_neg (m1_pos (by omega)), h.taskOf ht, Mo_followers_eq (by omega) hn f2 f3]
    simp only [Option.bind_some]
    rw [h.tK ht]
    simp only [Option.bind_some]
    rw [h.next ht hn hj]
    simp only [Option.bind_some]
    have hg : nxC (mw d2) t (q.nd t) n ≤ q.nd t := gc_le _ _
    show ∃ a, _ ∧ (if nI (nxC (mw d2) t (q.nd t) n) ≤ 0 then _ else (gz (nI (nxC (mw d2) t (q.nd t) n))).bind fun u10 => (Mo_follower 0 (nI t) (nI n) (irm (nI j) (nI (nxC (mw d2) t (q.nd t) n))) MoS d2).bind _) = _
    by_cases hc : nxC (mw d2) t (q.nd t) n = 0
    · rw [if_pos hc, if_pos (by rw [hc]; decide)]
      obtain ⟨F, rfl⟩ : ∃ F', F = F' + 1 := ⟨F - 1, by omega⟩
      refine ⟨_, ?_, rfl⟩
      simp only [Ws_answer_h41, ↓reduceIte]
    · rw [if_neg hc, if_neg (nI_nle (by omega) (by omega)), show gz (nI (nxC (mw d2) t (q.nd t) n)) = some () from if_neg (nI_ne0 (by omega) (by omega)), Option.bind_some, irm_nI hj (by omega) (by omega)]
      have hm : j % nxC (mw d2) t (q.nd t) n < nxC (mw d2) t (q.nd t) n := Nat.mod_lt _ (by omega)
      obtain ⟨x1, x2, -⟩ := nxN_in hn hm
      rw [Mo_follower_eq (by omega) hn f2 hm, Option.bind_some]
      exact ih _ _ F G x2 (by omega) (by omega) (by omega)
theorem PL_16_Rel : PL_16 Rel := by
  intro n S1 d1 S2 d2 p1 p2 p3 hn hR
  have hU := hR.up
  obtain ⟨rfl, q, hF, hN, hC⟩ := rel_at hR
  have h5 := hC.nt5
  unfold Ws_answer Mo_answer
  rw [hC.K, Mo_K]
  simp only [Option.bind_some]
  rw [hC.isTask, Mo_isTask_eq, hC.wf.2.1.1]
  simp only [Option.bind_some]
  rcases inI_nI (x := p1) (n := q.nt) (by omega) with ⟨e, -⟩ | ⟨t, ht, rfl, e⟩
  · simp only [e, i10, eq_self, not_true_eq_false, not_false_eq_true, ↓reduceIte, Option.bind_some]
    exact ⟨_, rfl, rfl, hU⟩
  simp only [e, i10, eq_self, not_true_eq_false, not_false_eq_true, ↓reduceIte, Option.bind_some]
  rw [show (50 : Int64) = (nI 50).toInt64 from by decide, Ws_in0, Mo_in0]
  simp only [Option.bind_some]
  rcases inI_lit (x := p2) (n := 50) (by omega) with ⟨e1, -⟩ | ⟨j, hj, rfl, e1⟩
  · simp only [e1, i10, eq_self, not_true_eq_false, not_false_eq_true, ↓reduceIte, Option.bind_some]
    exact ⟨_, rfl, rfl, hU⟩
  simp only [e1, i10, eq_self, not_true_eq_false, not_false_eq_true, ↓reduceIte, Option.bind_some]
  rw [show (63 : Int64) = (nI 63).toInt64 from by decide, Ws_in0, Mo_in0]
  simp only [Option.bind_some]
  rcases inI_01 p3 0 (nI 63) with e3 | e3
  · simp only [e3, i10, eq_self, not_true_eq_false, not_false_eq_true, ↓reduceIte, Option.bind_some]
    exact ⟨_, rfl, rfl, hU⟩
  simp only [e3, i10, eq_self, not_true_eq_false, not_false_eq_true, ↓reduceIte, Option.bind_some]
  obtain ⟨f1, f2, f3, f4⟩ := hC.tf ht
  obtain ⟨a, a1, a2⟩ := answer_eq hC ht (j := j) (p3 := p3) (by omega) 6 0 p3 FU FU f1 (by omega) (show 7 < 10000 by decide) (show 7 < 10000 by decide)
  exact ⟨a, a1, a2, hU⟩
