/-! THE PLAIN LAW: the graph of a task: bits, followers, the next node -/
set_option maxRecDepth 100000
/-- node k follows on node n of task t -/
def gp (w : Nat → Int32) (t n k : Nat) : Bool := decide (n < k ∧ bitI (w (46 + 2 * (6 * t + k) + 1)) n)
/-- how many k < n have p -/
def gc (p : Nat → Bool) : Nat → Nat
  | 0 => 0
  | n + 1 => gc p n + if p n then 1 else 0
/-- those k < n that have p, as bits -/
def gm (p : Nat → Bool) : Nat → Nat
  | 0 => 0
  | n + 1 => gm p n + if p n then 2 ^ n else 0
theorem gm_lt (p : Nat → Bool) : ∀ n, gm p n < 2 ^ n := by
  intro n
  induction n with
  | zero => exact Nat.zero_lt_one
  | succ n ih =>
    show gm p n + (if p n then 2 ^ n else 0) < 2 ^ (n + 1)
    rw [Nat.pow_succ]
    split <;> omega
theorem gm_bit (p : Nat → Bool) (k : Nat) : ∀ n, (gm p n).testBit k = (decide (k < n) && p k) := by
  intro n
  induction n with
  | zero => simp [gm]
  | succ n ih =>
    show (gm p n + (if p n then 2 ^ n else 0)).testBit k = _
    have hl := gm_lt p n
    cases hp : p n with
    | false =>
      rw [if_neg (by decide), Nat.add_zero, ih]
      by_cases hk : k = n
      · subst hk
        simp [hp]
      · rw [show decide (k < n + 1) = decide (k < n) from decide_eq_decide.mpr (by omega)]
    | true =>
      rw [if_pos rfl, Nat.add_comm]
      by_cases hk : k = n
      · subst hk
        rw [Nat.testBit_two_pow_add_eq, ih]
        simp [hp]
      · by_cases hk2 : k < n
        · rw [Nat.testBit_two_pow_add_gt hk2, ih]
          rw [show decide (k < n + 1) = decide (k < n) from decide_eq_decide.mpr (by omega)]
        · rw [Nat.testBit_lt_two_pow (Nat.lt_of_lt_of_le (show 2 ^ n + gm p n < 2 ^ (n + 1) by rw [Nat.pow_succ]; omega) (Nat.pow_le_pow_right (by omega) (by omega)))]
          rw [show decide (k < n + 1) = false from decide_eq_false (by omega)]
          rfl
theorem gc_cong {p q : Nat → Bool} : ∀ {n : Nat}, (∀ k, k < n → p k = q k) → gc p n = gc q n := by
  intro n
  induction n with
  | zero => exact fun _ => rfl
  | succ n ih =>
    intro h
    show gc p n + (if p n then 1 else 0) = gc q n + (if q n then 1 else 0)
    rw [ih (fun k hk => h k (by omega)), h n (by omega)]
theorem gc_le (p : Nat → Bool) : ∀ n, gc p n ≤ n := by
  intro n
  induction n with
  | zero => exact Nat.le_refl 0
  | succ n ih =>
    show gc p n + (if p n then 1 else 0) ≤ n + 1
    split <;> omega
theorem gc_no {p : Nat → Bool} {m : Nat} : ∀ {n : Nat}, (∀ k, m ≤ k → k < n → p k = false) → m ≤ n → gc p n = gc p m := by
  intro n
  induction n with
  | zero => intro _ h; rw [Nat.le_zero.mp h]
  | succ n ih =>
    intro h hm
    by_cases e : m = n + 1
    · rw [e]
    · show gc p n + (if p n then 1 else 0) = gc p m
      rw [h n (by omega) (by omega), if_neg (by decide), Nat.add_zero]
      exact ih (fun k h1 h2 => h k h1 (by omega)) (by omega)
theorem gc_cap {p : Nat → Bool} {m : Nat} (hm : m ≤ 6) : gc (fun k => decide (k < m) && p k) 6 = gc p m := by
  rw [gc_no (m := m) (fun k h1 h2 => by show (decide (k < m) && p k) = false; rw [decide_eq_false (by omega)]; rfl) hm]
  exact gc_cong (fun k hk => by show (decide (k < m) && p k) = p k; rw [decide_eq_true hk]; rfl)
theorem nI_or (a b : Nat) : nI a ||| nI b = nI (a ||| b) := by
  apply Int32.toBitVec_inj.1
  show BitVec.ofNat 32 a ||| BitVec.ofNat 32 b = BitVec.ofNat 32 (a ||| b)
  apply BitVec.eq_of_getLsbD_eq
  intro i hi
  simp [hi]
theorem shl1 {m : Nat} (hm : m < 31) : (1 : Int32) <<< nI m = nI (2 ^ m) := by
  have h : ∀ m, m < 31 → (1 : Int32) <<< nI m = nI (2 ^ m) := by decide +kernel
  exact h m hm
theorem folN_gm {w : Nat → Int32} {t n : Nat} : ∀ {m : Nat}, m ≤ 31 → folN w t n m = nI (gm (gp w t n) m) := by
  intro m
  induction m with
  | zero => exact fun _ => rfl
  | succ m ih =>
    intro h
    rw [folN_s, ih (by omega)]
    show _ = nI (gm (gp w t n) m + (if gp w t n m then 2 ^ m else 0))
    by_cases hb : n < m ∧ bitI (w (46 + 2 * (6 * t + m) + 1)) n
    · rw [if_pos hb, if_pos (show gp w t n m = true from decide_eq_true hb), shl1 (by omega), nI_or, Nat.or_comm]
      have e := Nat.two_pow_add_eq_or_of_lt (gm_lt (gp w t n) m) 1
      rw [Nat.mul_one] at e
      rw [← e, Nat.add_comm]
    · rw [if_neg hb, if_neg (show ¬ gp w t n m = true from fun z => hb (of_decide_eq_true z)), Nat.add_zero]
theorem on_tab : ∀ v, v < 64 → ∀ k, k < 6 → (((nI v >>> nI k) &&& 1) = 1 ↔ v.testBit k = true) := by decide +kernel
theorem bc_tab : ∀ v, v < 64 → Ji_bitCount (nI v) Sp0 Dt0 = some (nI (gc (fun k => v.testBit k) 6)) := by decide +kernel
theorem gm_64 {p : Nat → Bool} {m : Nat} (hm : m ≤ 6) : gm p m < 64 := Nat.lt_of_lt_of_le (gm_lt p m) (show 2 ^ m ≤ 2 ^ 6 from Nat.pow_le_pow_right (by omega) hm)
section
variable {S : Sp} {d : Dt} {w : Nat → Int32} {q : TdP} {t n nd : Nat}
theorem isOn_fol (hnd : nd ≤ 6) {k : Nat} (hk : k < 6) : Ws_isOn (folN w t n nd) (nI k) S d = some (if k < nd ∧ gp w t n k = true then 1 else 0) := by
  unfold Ws_isOn
  rw [and31 (by omega), folN_gm (by omega)]
  have h := on_tab _ (gm_64 (p := gp w t n) hnd) k hk
  rw [gm_bit] at h
  by_cases hb : k < nd ∧ gp w t n k = true
  · rw [if_pos hb, if_neg (fun z => z (h.mpr (by rw [hb.2, decide_eq_true hb.1]; rfl)))]
  · rw [if_neg hb, if_pos (fun z => hb (by have := h.mp z; simpa using this))]
theorem bc_fol (hnd : nd ≤ 6) : Ji_bitCount (folN w t n nd) S d = some (nI (gc (gp w t n) nd)) := by
  rw [folN_gm (by omega)]
  have h := bc_tab _ (gm_64 (p := gp w t n) hnd)
  rw [gc_cong (q := fun k => decide (k < nd) && gp w t n k) (fun k _ => gm_bit _ k nd), gc_cap hnd] at h
  exact h
theorem gp_lo {k : Nat} (h : k ≤ n) : gp w t n k = false := decide_eq_false (fun z => by omega)
theorem gc_lo {m : Nat} (h : m ≤ n + 1) : gc (gp w t n) m = 0 := gc_no (m := 0) (fun k _ hk => gp_lo (by omega)) (by omega)
/-- no follower: no bit -/
theorem folN_0 (hnd : nd ≤ 6) : folN w t n nd = 0 ↔ gc (gp w t n) nd = 0 := by
  have key : ∀ v, v < 64 → (nI v = 0 ↔ gc (fun k => v.testBit k) 6 = 0) := by decide +kernel
  rw [folN_gm (by omega)]
  have h := key _ (gm_64 (p := gp w t n) hnd)
  rw [gc_cong (q := fun k => decide (k < nd) && gp w t n k) (fun k _ => gm_bit _ k nd), gc_cap hnd] at h
  exact h
theorem Mo_isBehind_gp {k : Nat} (ht : t < 5) (hn : n < 6) (hk : k < 6) (hnk : n < k) : Mo_isBehind 0 (nI t) (nI k) (nI n) MoS d = some (if gp (mw d) t n k = true then 1 else 0) := by
  rw [Mo_isBehind_eq ht hk hn]
  by_cases hb : bitI (mw d (46 + 2 * (6 * t + k) + 1)) n
  · rw [if_pos hb, if_pos (show gp (mw d) t n k = true from decide_eq_true ⟨hnk, hb⟩)]
  · rw [if_neg hb, if_neg (show ¬ gp (mw d) t n k = true from fun z => hb (of_decide_eq_true z).2)]
theorem Mo_followers_eq (ht : t < 5) (hn : n < nd) (hnd : nd ≤ 6) (hw : mw d (11 + 7 * t + 6) = nI nd) : Mo_followers 0 (nI t) (nI n) MoS d = some (nI (gc (gp (mw d) t n) nd)) := by
  unfold Mo_followers
  rw [Option.bind_some, nI_1]
  refine loop_FU (X := fun f (x : Int32 × Int32) => Mo_followers_h7 0 (nI t) (nI n) MoS d f x.1 x.2) (Inv := fun i x => x = (nI (gc (gp (mw d) t n) (n + 1 + i)), nI (n + 1 + i))) (P := fun o => o = some (nI (gc (gp (mw d) t n) nd))) (x := (0, nI (n + 1))) (nd - (n + 1)) (by omega) ?_ ?_ ?_
  · show (0, nI (n + 1)) = (nI (gc (gp (mw d) t n) (n + 1 + 0)), nI (n + 1 + 0))
    rw [gc_lo (by omega)]
    rfl
  · intro i hi f x hx
    subst hx
    refine ⟨(nI (gc (gp (mw d) t n) (n + 1 + (i + 1))), nI (n + 1 + (i + 1))), ?_, rfl⟩
    show Mo_followers_h7 0 (nI t) (nI n) MoS d (f + 1) (nI (gc (gp (mw d) t n) (n + 1 + i))) (nI (n + 1 + i)) = Mo_followers_h7 0 (nI t) (nI n) MoS d f (nI (gc (gp (mw d) t n) (n + 1 + (i + 1)))) (nI (n + 1 + (i + 1)))
    simp only [Mo_followers_h7, Mo_followers_b34, Mo_K, Option.bind_some]
    rw [Mo_nodesOf_eq ht, hw]
    simp only [Option.bind_some]
    rw [if_neg (nI_ge (by omega) (by omega)), Mo_isBehind_gp ht (by omega) (by omega) (by omega)]
    simp only [Option.bind_some]
    rw [nI_1]
    have e : nI (gc (gp (mw d) t n) (n + 1 + (i + 1))) = nI (gc (gp (mw d) t n) (n + 1 + i)) + (if (if gp (mw d) t n (n + 1 + i) = true then (1 : Int32) else 0) = 0 then 0 else 1) := by
      show nI (gc (gp (mw d) t n) (n + 1 + i) + if gp (mw d) t n (n + 1 + i) then 1 else 0) = _
      cases gp (mw d) t n (n + 1 + i) with
      | true => exact nI_succ _
      | false =>
        show nI (gc (gp (mw d) t n) (n + 1 + i) + 0) = nI (gc (gp (mw d) t n) (n + 1 + i)) + 0
        rw [Nat.add_zero, Int32.add_zero]
    rw [e]
    rfl
  · intro f x hx
    subst hx
    show Mo_followers_h7 0 (nI t) (nI n) MoS d (f + 1) (nI (gc (gp (mw d) t n) (n + 1 + (nd - (n + 1))))) (nI (n + 1 + (nd - (n + 1)))) = some (nI (gc (gp (mw d) t n) nd))
    rw [show n + 1 + (nd - (n + 1)) = nd from by omega]
    simp only [Mo_followers_h7, Mo_K, Option.bind_some]
    rw [Mo_nodesOf_eq ht, hw]
    simp only [Option.bind_some]
    rw [if_pos (nI_le (Nat.le_refl _) (by omega))]
end
/-- how many of f places from k on have p; the i-th of them -/
def gcF (p : Nat → Bool) : Nat → Nat → Nat
  | 0, _ => 0
  | f + 1, k => (if p k then 1 else 0) + gcF p f (k + 1)
def gn9 (p : Nat → Bool) : Nat → Nat → Nat → Nat
  | 0, k, _ => k
  | f + 1, k, i => if p k then (if i = 0 then k else gn9 p f (k + 1) (i - 1)) else gn9 p f (k + 1) i
theorem gcF_gc (p : Nat → Bool) : ∀ f k, gc p k + gcF p f k = gc p (k + f) := by
  intro f
  induction f with
  | zero => exact fun k => rfl
  | succ f ih =>
    intro k
    have h := ih (k + 1)
    have e : gc p (k + 1) = gc p k + if p k then 1 else 0 := rfl
    show gc p k + ((if p k then 1 else 0) + gcF p f (k + 1)) = gc p (k + (f + 1))
    rw [show k + (f + 1) = k + 1 + f from by omega, ← h, e]
    omega
theorem gn9_in (p : Nat → Bool) : ∀ f k i, i < gcF p f k → k ≤ gn9 p f k i ∧ gn9 p f k i < k + f ∧ p (gn9 p f k i) = true := by
  intro f
  induction f with
  | zero => exact fun k i h => absurd h (Nat.not_lt_zero i)
  | succ f ih =>
    intro k i h
    have h' : i < (if p k then 1 else 0) + gcF p f (k + 1) := h
    show k ≤ (if p k then (if i = 0 then k else gn9 p f (k + 1) (i - 1)) else gn9 p f (k + 1) i) ∧ (if p k then (if i = 0 then k else gn9 p f (k + 1) (i - 1)) else gn9 p f (k + 1) i) < k + (f + 1) ∧ p (if p k then (if i = 0 then k else gn9 p f (k + 1) (i - 1)) else gn9 p f (k + 1) i) = true
    by_cases hp : p k = true
    · rw [if_pos hp] at h' ⊢
      by_cases hi : i = 0
      · rw [if_pos hi]
        exact ⟨Nat.le_refl _, by omega, hp⟩
      · rw [if_neg hi]
        obtain ⟨a, b, c⟩ := ih (k + 1) (i - 1) (by omega)
        exact ⟨by omega, by omega, c⟩
    · rw [if_neg hp] at h' ⊢
      obtain ⟨a, b, c⟩ := ih (k + 1) i (by omega)
      exact ⟨by omega, by omega, c⟩
/-- the number of a node's followers; the node after it for a job -/
def nxC (w : Nat → Int32) (t nd n : Nat) : Nat := gc (gp w t n) nd
def nxN (w : Nat → Int32) (t nd n i : Nat) : Nat := gn9 (gp w t n) (nd - (n + 1)) (n + 1) i
theorem nxC_F {w : Nat → Int32} {t nd n : Nat} (hn : n < nd) : gcF (gp w t n) (nd - (n + 1)) (n + 1) = nxC w t nd n := by
  have h := gcF_gc (gp w t n) (nd - (n + 1)) (n + 1)
  rw [gc_lo (Nat.le_refl _), Nat.zero_add, show n + 1 + (nd - (n + 1)) = nd from by omega] at h
  exact h
theorem nxN_in {w : Nat → Int32} {t nd n i : Nat} (hn : n < nd) (hi : i < nxC w t nd n) : n < nxN w t nd n i ∧ nxN w t nd n i < nd ∧ gp w t n (nxN w t nd n i) = true := by
  rw [← nxC_F hn] at hi
  obtain ⟨a, b, c⟩ := gn9_in _ _ _ _ hi
  refine ⟨a, ?_, c⟩
  have : n + 1 + (nd - (n + 1)) = nd := by omega
  unfold nxN
  omega
theorem irm_nI {a b : Nat} (ha : a < 2 ^ 31) (h0 : 0 < b) (hb : b < 2 ^ 31) : irm (nI a) (nI b) = nI (a % b) := pk_rem ha h0 hb
section
variable {S : Sp} {d : Dt} {w : Nat → Int32} {q : TdP} {t n nd : Nat}
theorem Ta_next_h {a b : Nat} {p2 : Int32} (hK : isK S 12 (some a) = some a) (hb : S.2.1 a 7 = some b) (hs : S.1[b]? = some (50, 6)) (hn : n < nd) (hnd : nd ≤ 6) (hv : d.1 b n = folN w t n nd) : ∀ f k i F, i < gcF (gp w t n) f k → k + f ≤ nd → f ≤ F → Ta_next_h26 a (nI n) p2 S d F (nI i) (nI k) = some (nI (gn9 (gp w t n) f k i)) := by
  intro f
  induction f with
  | zero => exact fun k i F h => absurd h (Nat.not_lt_zero i)
  | succ f ih =>
    intro k i F h hk hF
    obtain ⟨F', rfl⟩ : ∃ F', F = F' + 1 := ⟨F - 1, by omega⟩
    have hg := gc_le (gp w t n) (k + (f + 1))
    have hg2 := gcF_gc (gp w t n) (f + 1) k
    have h' : i < (if gp w t n k then 1 else 0) + gcF (gp w t n) f (k + 1) := h
    simp only [Ta_next_h26, hK, Option.bind_some]
    rw [hb, aix_nI hs (by omega) (by omega)]
    simp only [Option.bind_some]
    rw [hv, isOn_fol hnd (by omega)]
    simp only [Option.bind_some]
    show _ = some (nI (if gp w t n k then (if i = 0 then k else gn9 (gp w t n) f (k + 1) (i - 1)) else gn9 (gp w t n) f (k + 1) i))
    by_cases hp : gp w t n k = true
    · rw [if_pos hp] at h'
      rw [if_pos (show k < nd ∧ gp w t n k = true from ⟨by omega, hp⟩), if_pos hp, if_neg (show ¬ (1 : Int32) = 0 by decide)]
      by_cases hi : i = 0
      · rw [if_pos hi, hi, if_pos (by decide)]
      · obtain ⟨j, rfl⟩ : ∃ j, i = j + 1 := ⟨i - 1, by omega⟩
        rw [if_neg hi, if_neg (nI_nle (by omega) (by omega)), pk_m1, nI_1]
        exact ih (k + 1) j F' (by omega) (by omega) (by omega)
    · rw [if_neg hp] at h'
      rw [if_neg (show ¬ (k < nd ∧ gp w t n k = true) from fun z => hp z.2), if_neg hp, if_pos rfl, nI_1]
      exact ih (k + 1) i F' (by omega) (by omega) (by omega)
theorem CE.next (h : CE S d w q) (ht : t < q.nt) (hn : n < q.nd t) {j : Nat} (hj : j < 2 ^ 31) : Ta_next (q.tk t) (nI n) (nI j) S d = some (if nxC w t (q.nd t) n = 0 then -1 else nI (nxN w t (q.nd t) n (j % nxC w t (q.nd t) n))) := by
  obtain ⟨s1, s2, s3, s4, hnd, u, b, s6, s7, s8, s9, s10, s11⟩ := h.task ht
  have hg := gc_le (gp w t n) (q.nd t)
  unfold Ta_next
  rw [h.tK ht, Option.bind_some, s7, aix_nI s9 (by omega) (by omega), Option.bind_some, s11 n hn, bc_fol hnd, Option.bind_some]
  show (if ¬ nI (nxC w t (q.nd t) n) = 0 then _ else _) = _
  have hg' : nxC w t (q.nd t) n ≤ q.nd t := hg
  by_cases hc : nxC w t (q.nd t) n = 0
  · rw [if_pos hc, if_neg (by rw [hc]; decide)]
  · rw [if_neg hc, if_pos (nI_ne0 (by omega) (by omega))]
    show (gz (nI (nxC w t (q.nd t) n))).bind _ = _
    rw [show gz (nI (nxC w t (q.nd t) n)) = some () from if_neg (nI_ne0 (by omega) (by omega)), Option.bind_some, Option.bind_some, Option.bind_some, nI_1]
    show Ta_next_h26 _ _ _ _ _ _ (irm (nI j) (nI (nxC w t (q.nd t) n))) _ = _
    rw [irm_nI hj (by omega) (by omega)]
    exact Ta_next_h (h.tK ht) s7 s9 hn hnd (s11 n hn) _ _ _ _ (by rw [nxC_F hn]; exact Nat.mod_lt _ (by omega)) (by omega) (show q.nd t - (n + 1) ≤ 10000 by omega)
theorem Mo_follower_h (ht : t < 5) (hn : n < nd) (hnd : nd ≤ 6) {p3 : Int32} : ∀ f k i F, i < gcF (gp (mw d) t n) f k → n < k → k + f ≤ nd → f ≤ F → Mo_follower_h8 0 (nI t) (nI n) p3 MoS d F (nI i) (nI k) = some (nI (gn9 (gp (mw d) t n) f k i)) := by
  intro f
  induction f with
  | zero => exact fun k i F h => absurd h (Nat.not_lt_zero i)
  | succ f ih =>
    intro k i F h hnk hk hF
    obtain ⟨F', rfl⟩ : ∃ F', F = F' + 1 := ⟨F - 1, by omega⟩
    have hg := gc_le (gp (mw d) t n) (k + (f + 1))
    have hg2 := gcF_gc (gp (mw d) t n) (f + 1) k
    have h' : i < (if gp (mw d) t n k then 1 else 0) + gcF (gp (mw d) t n) f (k + 1) := h
    simp only [Mo_follower_h8, Mo_follower_b24, Mo_follower_b42, Mo_K, Option.bind_some]
    rw [Mo_isBehind_gp ht (by omega) (by omega) hnk]
    simp only [Option.bind_some]
    show _ = some (nI (if gp (mw d) t n k then (if i = 0 then k else gn9 (gp (mw d) t n) f (k + 1) (i - 1)) else gn9 (gp (mw d) t n) f (k + 1) i))
    by_cases hp : gp (mw d) t n k = true
    · rw [if_pos hp] at h'
      simp only [if_pos hp, i10, ↓reduceIte]
      by_cases hi : i = 0
      · rw [if_pos hi, hi, if_pos (by decide)]
      · obtain ⟨j, rfl⟩ : ∃ j, i = j + 1 := ⟨i - 1, by omega⟩
        rw [if_neg hi, if_neg (nI_nle (by omega) (by omega)), nI_pred, nI_1]
        exact ih (k + 1) j F' (by omega) (by omega) (by omega) (by omega)
    · rw [if_neg hp] at h'
      simp only [if_neg hp, eq_self, ↓reduceIte]
      rw [Int32.sub_zero, nI_1]
      exact ih (k + 1) i F' (by omega) (by omega) (by omega) (by omega)
theorem Mo_follower_eq (ht : t < 5) (hn : n < nd) (hnd : nd ≤ 6) {i : Nat} (hi : i < nxC (mw d) t nd n) : Mo_follower 0 (nI t) (nI n) (nI i) MoS d = some (nI (nxN (mw d) t nd n i)) := by
  unfold Mo_follower
  rw [Option.bind_some, nI_1]
  exact Mo_follower_h ht hn hnd _ _ _ _ (by rw [nxC_F hn]; exact hi) (by omega) (by omega) (show nd - (n + 1) ≤ 10000 by omega)
end
