/-! THE RUN: tick by tick -/
set_option maxRecDepth 100000
/-- both memories ahead of tick k -/
def TK (S0 : Sp) (d0 m0 : Dt) (w : Nat → Int32) (q : TdP) (W : Int32) (F0 : Int32 × (Nat → Int32)) (cy k r b : Nat) (S : Sp) (e1 e2 : Dt) : Prop := RT S0 d0 m0 w q W F0 99 k k (fun _ => k) k r b S e1 e2 ∧ (b < 3 → ∀ x, x < 3 → e2.1 36 x = 0) ∧ r ≤ 6 * k + 25 * (k / cy)
section
variable {w : Nat → Int32} {q : TdP} {u k kh kg r b t z cy : Nat} {kj : Nat → Nat} {S0 S S' : Sp} {d0 m0 d e f e1 e2 f1 f2 g1 g2 : Dt} {op cl : Nat → Nat} {W : Int32} {F0 : Int32 × (Nat → Int32)} {P V P' V' : Nat → Prop} {p1 p2 p3 : Int32}
theorem RT.next (h : RT S0 d0 m0 w q W F0 u k (k + 1) kj kg r b S e1 e2) (h0 : RE S0 d0 m0 w q op cl) (hk : k < 200) : RT S0 d0 m0 w q W F0 u (k + 1) (k + 1) kj kg r b S (dI e1 0 25 (nI (k + 1))) e2 := by
  obtain ⟨q1, q2, q3, q4, q5, q6, q7, q8, q9, q10, q11⟩ := h
  have a : ∀ v, v ≠ 0 → (dI e1 0 25 (nI (k + 1))).1 v = e1.1 v := fun v hv => dI_ne hv
  have a0 : ∀ f, f ≠ 25 → (dI e1 0 25 (nI (k + 1))).1 0 f = e1.1 0 f := fun f hf => dI_nk (by omega)
  refine ⟨q1, ⟨q2.1.by (fun v h1 h2 => a v (by omega)) (fun f hf => a0 f (by omega)), q2.2⟩, ⟨dI_at, by omega⟩, fun t ht => ((q4 t ht).same (a (30 + t) (by omega)) rfl rfl (fun _ _ _ => rfl) rfl rfl rfl).tick, ⟨fun v hv => ?_, fun i hi v j z1 z2 z3 z4 => ?_⟩, q6.go (a 27 (by omega)) rfl, q7.go (a0 24 (by omega)) (a 21 (by omega)) (a 22 (by omega)) (a 23 (by omega)) (a 24 (by omega)) rfl rfl rfl rfl rfl, q8.go (a 19 (by omega)) rfl, q9.go (a0 26 (by omega)) (a0 27 (by omega)) rfl rfl, q10.go (a 17 (by omega)) rfl, q11.go (fun f h1 h2 => a0 f (by omega)) rfl rfl⟩
  · obtain ⟨x, x1, x2⟩ := q5.1 v hv
    exact ⟨x, by rw [a 18 (by omega)]; exact x1, by omega⟩
  · rw [a 18 (by omega)]
    exact q5.2 i hi v j z1 z2 z3 z4
theorem cy_div (k : Nat) (hc : 1 ≤ cy) : (k + 1) / cy = k / cy + if (k + 1) % cy = 0 then 1 else 0 := by
  rw [Nat.succ_div]
  congr 1
  by_cases c : (k + 1) % cy = 0
  · rw [if_pos c, if_pos (Nat.dvd_of_mod_eq_zero c)]
  · rw [if_neg c, if_neg (fun y => c (Nat.mod_eq_zero_of_dvd y))]
theorem cy_le (hk : k ≤ 200) (hc : 5 ≤ cy) : k / cy ≤ 40 := by
  have : k / cy ≤ k / 5 := Nat.div_le_div_left hc (by omega)
  omega
/-- a tick of both -/
theorem step_eq (h : TK S0 d0 m0 w q W F0 cy k r b S e1 e2) (h0 : RE S0 d0 m0 w q op cl) (hk : k < 200) (hcy : w 1 = nI cy) (hc1 : 5 ≤ cy) (hc2 : cy ≤ 50) : ∃ r' b' S' f1 f2 x4, (∀ p1 F, ¬ p1 ≤ nI k → Ws_runs_h106 0 p1 p2 (F + 1) S e1 = Ws_runs_h106 0 p1 p2 F S' f1) ∧ (∀ p1 G, ¬ p1 ≤ nI k → Mo_runs_h6 0 p1 MoS (G + 2) (nI k) e2 = Mo_runs_h6 0 p1 MoS (G + 1) (nI (k + 1)) f2) ∧ TK S0 d0 m0 w q W (F0.1, fun j => if j = k then x4 else F0.2 j) cy (k + 1) r' b' S' f1 f2 := by
  obtain ⟨h1, h2, h3⟩ := h
  have hR := h1.re h0
  have hC := hR.C
  have hT : e1.1 0 25 = nI k := h1.2.2.1.1
  have hbd := h1.2.2.2.2.2.2.2.2.1
  have hl35 := Ws_len h0.C.F
  have hcl := cy_le (k := k) (by omega) hc1
  have hdv := cy_div k (show 1 ≤ cy by omega)
  have hb136 : ∀ (p1 : Int32) (F : Nat) (T : Sp) (y : Dt), isK T 0 (some 0) = some 0 → y.1 0 25 = nI k → Ws_runs_b136 0 p1 p2 (Ws_runs_h106 0 p1 p2 F) T y = Ws_runs_h106 0 p1 p2 F T (dI y 0 25 (nI (k + 1))) := by
    intro p1 F T y hT hy
    unfold Ws_runs_b136
    rw [hT, Option.bind_some, hy, nI_1, Option.bind_some]
  have hcomp : ∀ p1 F, ¬ p1 ≤ nI k → Ws_runs_h106 0 p1 p2 (F + 1) S e1 = if ¬ e1.1 0 27 = -1 then Ws_runs_h106 0 p1 p2 F S (dI (dI e1 17 k (-1)) 0 25 (nI (k + 1))) else bind3 (Ws_goes 0 S (dI e1 17 k (-1))) fun _ S29 d30 => Ws_runs_b136 0 p1 p2 (Ws_runs_h106 0 p1 p2 F) S29 d30 := by
    intro p1 F hp
    rw [Ws_runs_h106, hC.K, Option.bind_some, hT, if_neg hp, cr13 hC.F, ca17 hC.F hk, Option.bind_some, Option.bind_some, dI_ne (show (0 : Nat) ≠ 17 by omega), hb136 p1 F S (dI e1 17 k (-1)) hC.K ((dI_nk (by omega)).trans hT)]
  have hd17 : ∀ v, v ≠ 17 → (dI e1 17 k (-1)).1 v = e1.1 v := fun v hv => dI_ne hv
  have hrt17 : RT S0 d0 m0 w q W F0 99 k k (fun _ => k) k r b S (dI e1 17 k (-1)) e2 := by
    obtain ⟨q1, q2, q3, q4, q5, q6, q7, q8, q9, q10, q11⟩ := h1
    refine ⟨q1, ⟨q2.1.by (fun v h1 h2 => hd17 v (by omega)) (fun f hf => dI_nk (by omega)), q2.2⟩, ⟨(dI_nk (by omega)).trans q3.1, q3.2⟩, fun t ht => (q4 t ht).same (hd17 (30 + t) (by omega)) rfl rfl (fun _ _ _ => rfl) rfl rfl rfl, q5.go (hd17 18 (by omega)) rfl, q6.go (hd17 27 (by omega)) rfl, q7.go (dI_nk (by omega)) (hd17 21 (by omega)) (hd17 22 (by omega)) (hd17 23 (by omega)) (hd17 24 (by omega)) rfl rfl rfl rfl rfl, q8.go (hd17 19 (by omega)) rfl, q9.go (dI_nk (by omega)) (dI_nk (by omega)) rfl rfl, fun x hx => ⟨fun y => ?_, (q10 x hx).2⟩, q11.go (fun f h1 h2 => dI_nk (by omega)) rfl rfl⟩
    rw [dI_nk (by omega)]
    exact (q10 x hx).1 y
  by_cases hb : b < 3
  · have h59 : e2.1 0 59 = -1 := hbd.2.2.2.2.mpr hb
    obtain ⟨r', b', S', f1, f2, r4, t1, t2, t3, t4, t5⟩ := tick_eq hrt17 h0 hk hb (by omega) dI_at (h2 hb) hcy (by omega) hc2
    have hR' := t3.re h0
    refine ⟨r', b', S', dI f1 0 25 (nI (k + 1)), f2, r4, fun p1 F hp => ?_, fun p1 G hp => ?_, t3.next h0 hk, t4, ?_⟩
    · rw [hcomp p1 F hp, if_neg (show ¬ ¬ e1.1 0 27 = -1 from fun y => y (hbd.2.2.2.1.trans h59)), t1, bind3_some, hb136 p1 F S' f1 hR'.C.K t3.2.2.1.1]
    · rw [Mo_runs_h6, if_neg hp, Mo_K, Option.bind_some, h59, if_neg (show ¬ ¬ (-1 : Int32) = -1 from fun y => y rfl), t2, bind2_some, nI_1]
    · rw [hdv]
      split at t5
      · rw [if_pos (by assumption)]; omega
      · rw [if_neg (by assumption)]; omega
  · have h59 : ¬ e2.1 0 59 = -1 := fun y => hb (hbd.2.2.2.2.mp y)
    refine ⟨r, b, S, dI (dI e1 17 k (-1)) 0 25 (nI (k + 1)), e2, -1, fun p1 F hp => ?_, fun p1 G hp => ?_, ?_, fun y => absurd y hb, ?_⟩
    · rw [hcomp p1 F hp, if_pos (fun y => h59 (hbd.2.2.2.1.symm.trans y))]
    · rw [Mo_runs_h6, if_neg hp, Mo_K, Option.bind_some, if_pos h59, Mo_runs_h6, Mo_K, Option.bind_some, if_pos h59]
      split <;> rfl
    · have hn : RT S0 d0 m0 w q W (F0.1, fun j => if j = k then -1 else F0.2 j) 99 k (k + 1) (fun _ => k) k r b S (dI e1 17 k (-1)) e2 := by
        obtain ⟨q1, q2, q3, q4, q5, q6, q7, q8, q9, q10, q11⟩ := hrt17
        refine ⟨q1, q2, q3, q4, q5, q6, q7, q8, q9, fun x hx => ⟨fun y => ?_, fun y => (q10 x hx).2 (by omega)⟩, q11⟩
        by_cases c : x = k
        · subst c
          have := (q10 x hx).2 (Nat.le_refl _)
          rw [this, dI_at]
          exact ⟨rfl, (if_pos rfl).symm⟩
        · have := (q10 x hx).1 (by omega)
          exact ⟨this.1, this.2.trans (if_neg c).symm⟩
      exact (hn.next h0 hk).up (fun _ _ => Nat.le_succ _) (Nat.le_succ _)
    · rw [hdv]; omega
/-- as many ticks as there are -/
theorem ticks_eq (h0 : RE S0 d0 m0 w q op cl) (hcy : w 1 = nI cy) (hc1 : 5 ≤ cy) (hc2 : cy ≤ 50) : ∀ m k r b S e1 e2 F0, TK S0 d0 m0 w q W F0 cy k r b S e1 e2 → k + m ≤ 200 → ∃ r' b' S' f1 f2 H, (∀ p F, p < 2 ^ 31 → k + m ≤ p → Ws_runs_h106 0 (nI p) p2 (F + m) S e1 = Ws_runs_h106 0 (nI p) p2 F S' f1) ∧ (∀ p G, p < 2 ^ 31 → k + m ≤ p → Mo_runs_h6 0 (nI p) MoS (G + m + 1) (nI k) e2 = Mo_runs_h6 0 (nI p) MoS (G + 1) (nI (k + m)) f2) ∧ TK S0 d0 m0 w q W (F0.1, H) cy (k + m) r' b' S' f1 f2 ∧ ∀ j, j < k → H j = F0.2 j := by
  intro m
  induction m with
  | zero =>
    intro k r b S e1 e2 F0 h _
    exact ⟨r, b, S, e1, e2, F0.2, fun _ _ _ _ => rfl, fun _ _ _ _ => rfl, h, fun _ _ => rfl⟩
  | succ m ih =>
    intro k r b S e1 e2 F0 h hm
    obtain ⟨r1, b1, S1, g1, g2, x4, s1, s2, s3⟩ := step_eq (p2 := p2) h h0 (by omega) hcy hc1 hc2
    obtain ⟨r', b', S', f1, f2, H, t1, t2, t3, t4⟩ := ih (k + 1) r1 b1 S1 g1 g2 _ s3 (by omega)
    refine ⟨r', b', S', f1, f2, H, fun p F hp hk => ?_, fun p G hp hk => ?_, by rw [show k + (m + 1) = k + 1 + m by omega]; exact t3, fun j hj => (t4 j (by omega)).trans (if_neg (by omega))⟩
    · rw [← t1 p F hp (by omega), show F + (m + 1) = F + m + 1 by omega, s1 (nI p) (F + m) (nI_ge (by omega) hp)]
    · rw [show k + (m + 1) = k + 1 + m by omega, ← t2 p G hp (by omega), show G + (m + 1) + 1 = (G + m) + 2 by omega, s2 (nI p) (G + m) (nI_ge (by omega) hp)]
end
