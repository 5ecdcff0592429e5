/-! THE PLAIN LAW: undo, anew -/
set_option maxRecDepth 100000
theorem WsFix.sR {S : Sp} (hF : WsFix S) {v k : Nat} {o : Option Nat} (hv : (1 ≤ v ∧ v < 7) ∨ 35 ≤ v) : WsFix (sR S v k o) := by
  obtain ⟨h1, h2, h3, h4, h5⟩ := hF
  have e : ∀ a, a ≠ v → (u2 S.2.1 v k o) a = S.2.1 a := fun a ha => u2_row ha
  exact ⟨h1, fun j hj h0 => by show u2 S.2.1 v k o 0 j = _; rw [e 0 (by omega)]; exact h2 j hj h0, fun j hj => by show u2 S.2.1 v k o 11 j = _; rw [e 11 (by omega)]; exact h3 j hj, fun a ha j hj => by show u2 S.2.1 v k o (12 + a) j = _; rw [e (12 + a) (by omega)]; exact h4 a ha j hj, fun t ht => by show u2 S.2.1 v k o 16 t = _; rw [e 16 (by omega)]; exact h5 t ht⟩
/-- the relation where the list of injections changes -/
theorem RelN.inj {S S' : Sp} {d1 d1' d2 d2' : Dt} {q : TdP} {ei ci ni na : Nat} {ij : Nat → Nat} (h : RelN S d1 d2 q) (hF : WsFix S) (hT : TdOk S' d1' (mw d2') (q.wi ei ci ij ni na)) (he : ei = q.ei ∨ S.1.length ≤ ei) (hna : na ≤ 10) (hk : ∀ a sh, S.1[a]? = some sh → (1 ≤ a ∧ a < 7) ∨ 35 ≤ a → ¬ (a = q.li ∧ sh = (16, 0)) → ¬ (a = q.ei ∧ sh.1 = 58) → S'.1[a]? = some sh ∧ S'.2.1 a = S.2.1 a ∧ d1'.1 a = d1.1 a) (h0 : S'.2.1 0 = S.2.1 0) (h7 : S'.2.1 7 = S.2.1 7) (hm : ∀ a, 2 ≤ a → a < 5 → d2'.1 a = d2.1 a) (hm0 : d2'.1 0 = d2.1 0) (hc : Kc d1 d1') (k25 : d1'.1 25 = d1.1 25) (k26 : d1'.1 26 = d1.1 26) (hw : ∀ i, i < 106 → i ≠ 6 → mw d2' i = mw d2 i) : RelN S' d1' d2' (q.wi ei ci ij ni na) := by
  obtain ⟨a1, a2, ⟨s1, s2, -⟩, a4, ⟨tp, b1, b2, b3⟩, a6, a7, a8, a9, a10⟩ := h
  have hl := a2.lt
  have hn5 : q.nt ≤ 5 := by
    obtain ⟨-, -, -, -, -, -, -, -, -, -, -, -, -, -, -, -, -, -, -, ⟨-, z⟩, -⟩ := a2
    exact z
  refine ⟨by rw [h0]; exact a1, hT, ⟨s1, ?_, hna⟩, fun k hk9 => ?_, ⟨tp, b1, by rw [hc.2 3 (by omega) (by omega)]; exact b2, by rw [hm0]; exact b3⟩, fun i hi => by rw [hc.1, hm 4 (by omega) (by omega)]; exact a6 i hi, by rw [hc.2 4 (by omega) (by omega), hm0]; exact a7, by rw [hc.2 5 (by omega) (by omega), hm0]; exact a8, by rw [hc.2 6 (by omega) (by omega)]; exact a9, fun t ht => ?_⟩
  · show ei ≠ q.et
    rcases he with he | he
    · rw [he]; exact s2
    · have := hl.2.2.1
      omega
  · rw [hm 3 (by omega) (by omega), h7, hm 2 (by omega) (by omega)]
    rcases a4 k hk9 with z | ⟨z1, r, z2, z3, y1, y2, y3, y4, y5⟩
    · exact Or.inl z
    · refine Or.inr ⟨z1, r, z2, z3.mv q.li q.ei hF (fun e => y1 e.symm) (fun e => y2 e.symm) (fun e => y3 e.symm) (fun e => y4 e.symm) hk, y1, y2, ?_, ?_, y5⟩
      · show ei ≠ r.et
        have hr := z3.lt.2.2.1
        rcases he with he | he
        · rw [he]; exact y3
        · omega
      · show ei ≠ r.ei
        have hr := z3.lt.2.2.2.1
        rcases he with he | he
        · rw [he]; exact y4
        · omega
  · have ht' : t < q.nt := ht
    obtain ⟨x1, x2⟩ := a10 t ht
    rw [k25, k26, hw _ (by omega) (by omega), hw _ (by omega) (by omega)]
    exact ⟨x1, x2⟩
section
variable {S : Sp} {d d' d2 : Dt} {w : Nat → Int32} {q : TdP}
theorem CE.reg (h : CE S d w q) : ((1 ≤ q.li ∧ q.li < 7) ∨ 35 ≤ q.li) ∧ ((1 ≤ q.ei ∧ q.ei < 7) ∨ 35 ≤ q.ei) := by
  obtain ⟨hF, -, ta, t0, t1, t2, -, -, ⟨m1, m2, m3, -⟩, -⟩ := h
  exact ⟨adr_of hF (by decide) m1, adr_58 hF m3⟩
theorem list_rm {l e cap n : Nat} {el : Nat → Nat} (h : ListT S d l e cap (n + 1) el) (hn : n + 1 < 2 ^ 31) : Jl_remove l (nI n) S d = some (some (el n), sR S e n none, dI (dI d l 0 (d.1 l 0 + 1)) l 2 (nI n)) := by
  obtain ⟨l1, l2, l3, l4, l5, l6, -⟩ := h
  have hK := isK_of l1
  have e2 : u2 d.1 l 0 (d.1 l 0 + 1) l 2 = nI (n + 1) := (u2_ne (by omega)).trans l4
  unfold Jl_remove Jl_fastRemove
  rw [hK]
  simp only [Option.bind_some]
  rw [l4, Jo_ok (by omega) (by omega), l2, aix_nI l3 (by omega) (by omega)]
  simp only [Option.bind_some]
  rw [e2, nI_pred, if_pos (nI_le (Nat.le_refl n) (by omega)), aix_nI l3 (by omega) (by omega)]
  simp only [Option.bind_some, bind3_some]
  rw [l6 n (by omega)]
theorem CE.is (h : CE S d w q) : To_is q.a S d = some (if w 7 ≤ 0 then 0 else 1) := by
  unfold To_is
  obtain ⟨-, -, ta, t0, t1, t2, -, -, -, -, -, -, -, -, -, -, -, -, -, v8, -⟩ := h
  rw [isK_of ta, Option.bind_some, v8]
  split <;> rfl
theorem CE.told (h : CE S d w q) : d.1 q.a 7 = nI (q.ni - q.na) := by
  obtain ⟨-, -, ta, t0, t1, t2, -, -, -, -, -, -, -, -, -, -, -, -, v7, v8, ⟨-, -, ⟨w5, -⟩, -⟩⟩ := h
  exact v7.trans w5
/-- the last injection is taken out -/
theorem rm_step {d1 : Dt} (h : RelN S d1 d2 q) (hF : WsFix S) (h0 : 0 < q.na) (d2' : Dt) (hm : ∀ a, 2 ≤ a → a < 5 → d2'.1 a = d2.1 a) (hm0 : d2'.1 0 = d2.1 0) (hw : ∀ i, i ≠ 6 → mw d2' i = mw d2 i) (h6 : mw d2' 6 = nI (q.na - 1)) : Jl_remove q.li (nI q.ni - 1) S d1 = some (some (q.ij (q.ni - 1)), sR S q.ei (q.ni - 1) none, dI (dI d1 q.li 0 (d1.1 q.li 0 + 1)) q.li 2 (nI (q.ni - 1))) ∧ WsFix (sR S q.ei (q.ni - 1) none) ∧ RelN (sR S q.ei (q.ni - 1) none) (dI (dI d1 q.li 0 (d1.1 q.li 0 + 1)) q.li 2 (nI (q.ni - 1))) d2' (q.wi q.ei q.ci q.ij (q.ni - 1) (q.na - 1)) := by
  have hC := h.ce hF
  obtain ⟨r1, r2⟩ := hC.reg
  have hni := hC.ni18
  have hWF := hC.wf
  obtain ⟨-, -, ⟨-, -, w1, w2, w3⟩, -, -, -, wI⟩ := hC.wf
  obtain ⟨m, hm9⟩ : ∃ m, q.ni = m + 1 := ⟨q.ni - 1, by omega⟩
  have hL := hC.cap.2
  rw [hm9] at hL
  have hrm := list_rm hL (by omega)
  have e1 : nI q.ni - 1 = nI (q.ni - 1) := by rw [hm9, nI_pred]; rfl
  have e2 : q.ni - 1 = m := by omega
  have hF' : WsFix (sR S q.ei (q.ni - 1) none) := hF.sR r2
  have hk : ∀ a sh, S.1[a]? = some sh → (1 ≤ a ∧ a < 7) ∨ 35 ≤ a → ¬ (a = q.li ∧ sh = (16, 0)) → ¬ (a = q.ei ∧ sh.1 = 58) → (sR S q.ei (q.ni - 1) none).1[a]? = some sh ∧ (sR S q.ei (q.ni - 1) none).2.1 a = S.2.1 a ∧ (dI (dI d1 q.li 0 (d1.1 q.li 0 + 1)) q.li 2 (nI (q.ni - 1))).1 a = d1.1 a := by
    intro a sh ha _ n1 n2
    obtain ⟨l1, l2, l3, -⟩ := hC.cap.2
    have x1 : a ≠ q.li := fun e => n1 ⟨e, by rw [e] at ha; rw [l1] at ha; exact (Option.some.inj ha).symm⟩
    have x2 : a ≠ q.ei := fun e => n2 ⟨e, by rw [e] at ha; rw [l3] at ha; rw [← Option.some.inj ha]⟩
    exact ⟨ha, u2_row x2, by rw [dI_ne x1, dI_ne x1]⟩
  refine ⟨by rw [e1, e2]; exact hrm, hF', ?_⟩
  have hT : TdOk (sR S q.ei (q.ni - 1) none) (dI (dI d1 q.li 0 (d1.1 q.li 0 + 1)) q.li 2 (nI (q.ni - 1))) (mw d2') (q.wi q.ei q.ci q.ij (q.ni - 1) (q.na - 1)) := by
    have hsep := h.2.2.1
    refine hC.2.2.inj hF hsep.1 hsep.2.1 hk ?_ ?_ ?_ (fun i _ hi => hw i hi) ?_
    · obtain ⟨l1, l2, l3, l4, l5, l6, l7⟩ := hC.cap.2
      have hne : q.li ≠ q.ei := by
        intro e
        rw [e] at l1
        rw [l1] at l3
        exact absurd (congrArg Prod.fst (Option.some.inj l3)) (show ¬ (16 : Nat) = 58 by decide)
      refine ⟨l1, (congrFun (u2_row hne) 1).trans l2, l3, dI_at, by omega, fun i hi => (u2_ne (by omega)).trans (l6 i (by omega)), fun i hi hj => ?_⟩
      by_cases e : i = q.ni - 1
      · subst e
        exact u2_at
      · exact (u2_ne (fun z => e z.2)).trans (l7 i hi (by omega))
    · obtain ⟨-, -, -, -, -, -, -, -, -, -, c2, -⟩ := hC
      exact c2
    · intro i hi
      obtain ⟨i1, i2⟩ := hC.inj (i := i) (by omega)
      have hrI := adr_of hF (by decide) i1
      obtain ⟨k1, k2, k3⟩ := hk _ _ i1 hrI (fun z => absurd z.2 (by decide)) (fun z => absurd z.2 (by decide))
      exact ⟨k1, fun f hf => by rw [k3, hw _ (by omega)]; exact i2 f hf⟩
    · refine hWF.row (fun i _ hi => hw i hi) h6 ⟨by omega, by omega, by omega⟩ (fun z => by omega) (fun i hi => ?_)
      rw [hw _ (by omega), hw (106 + 5 * i + 1) (by omega), hw (106 + 5 * i + 2) (by omega), hw (106 + 5 * i + 3) (by omega), hw (106 + 5 * i + 4) (by omega)]
      exact wI i (by omega)
  exact h.inj hF hT (Or.inl rfl) (by have := h.2.2.1.2.2; have e9 : q.na ≤ 10 := this; omega) hk (u2_row (by omega)) (u2_row (by omega)) hm hm0 ((Kc.rf.dI (by omega) (Or.inl (by omega))).dI (by omega) (Or.inl (by omega))) (by rw [dI_ne (by omega), dI_ne (by omega)]) (by rw [dI_ne (by omega), dI_ne (by omega)]) (fun i _ hi => hw i hi)
end
theorem PL_50_Rel : PL_50 Rel := by
  intro n S1 d1 S2 d2 hn hR
  have hU := hR.up
  have hR0 := hR
  obtain ⟨rfl, q, hF, hN, hC⟩ := rel_at hR
  have hni := hC.ni18
  obtain ⟨-, -, ⟨-, w6, w1, w2, w3⟩, -⟩ := hC.wf
  unfold Ws_undo Mo_undo
  rw [hC.K, Mo_K]
  simp only [Option.bind_some]
  rw [hC.T, Mo_isBoard_eq]
  simp only [Option.bind_some]
  rw [hC.is]
  simp only [Option.bind_some]
  by_cases hb : mw d2 7 ≤ 0
  · simp only [if_pos hb, i10, eq_self, not_true_eq_false, not_false_eq_true, ↓reduceIte, Option.bind_some]
    exact ⟨_, _, _, _, rfl, rfl, hU⟩
  simp only [if_neg hb, i10, eq_self, not_true_eq_false, not_false_eq_true, ↓reduceIte, Option.bind_some]
  rw [hC.kM, show aix MoS 50 (MoS.2.1 0 1) 6 = some (1, 6) from Mw 6 (by omega)]
  simp only [Option.bind_some]
  rw [hC.injs]
  simp only [Option.bind_some]
  rw [hC.told, nI_sub (Nat.sub_le _ _), Nat.sub_sub_self w1, show d2.1 1 6 = nI q.na from w6]
  by_cases h0 : q.na = 0
  · rw [h0, if_neg (show ¬ ¬ nI 0 = 0 from fun z => z rfl), if_neg (show ¬ ¬ nI 0 = 0 from fun z => z rfl)]
    exact ⟨_, _, _, _, rfl, rfl, hU⟩
  rw [if_pos (nI_ne0 (by omega) (by omega)), if_pos (nI_ne0 (by omega) (by omega))]
  have e1 : nI q.na - 1 = nI (q.na - 1) := by
    obtain ⟨m, hm⟩ : ∃ m, q.na = m + 1 := ⟨q.na - 1, by omega⟩
    rw [hm, nI_pred]
    rfl
  rw [e1]
  obtain ⟨g1, g2, g3⟩ := rm_step hN hF (by omega) (dI d2 1 6 (nI (q.na - 1))) (fun a x y => dI_ne (by omega)) (dI_ne (by omega)) (fun i hi => dI_nk (fun z => hi z.2)) dI_at
  rw [g1, bind3_some]
  obtain ⟨-, -, ⟨c1, c2, c3⟩, -⟩ := hR0
  refine ⟨_, _, _, _, rfl, by rw [u2_at], rfl, g2, ⟨?_, ?_, c3⟩, _, g3⟩
  · show S1.2.2.1 ≤ _
    omega
  · show S1.2.2.2 ≤ _
    omega
theorem PL_51_Rel : PL_51 Rel := by
  intro n S1 d1 S2 d2 hn hR
  have hU := hR.up
  have hR0 := hR
  obtain ⟨rfl, q, hF, hN, hC⟩ := rel_at hR
  have hni := hC.ni18
  obtain ⟨-, -, ⟨-, w6, w1, w2, w3⟩, -⟩ := hC.wf
  unfold Ws_anew Mo_anew
  rw [hC.K, Mo_K]
  simp only [Option.bind_some]
  rw [hC.T, Mo_isBoard_eq]
  simp only [Option.bind_some]
  rw [hC.is]
  simp only [Option.bind_some]
  by_cases hb : mw d2 7 ≤ 0
  · simp only [if_pos hb, i10, eq_self, not_true_eq_false, not_false_eq_true, ↓reduceIte, Option.bind_some]
    exact ⟨_, _, _, _, rfl, rfl, hU⟩
  simp only [if_neg hb, i10, eq_self, not_true_eq_false, not_false_eq_true, ↓reduceIte, Option.bind_some]
  rw [hC.kM, show aix MoS 50 (MoS.2.1 0 1) 6 = some (1, 6) from Mw 6 (by omega)]
  simp only [Option.bind_some]
  rw [hC.injs]
  simp only [Option.bind_some]
  rw [hC.told, nI_sub (Nat.sub_le _ _), Nat.sub_sub_self w1, show d2.1 1 6 = nI q.na from w6]
  obtain ⟨-, -, ⟨c1, c2, c3⟩, -⟩ := hR0
  refine loop_FU (X := fun F (x : Sp × Dt) => Ws_anew_h32 0 F (nI q.na) x.1 x.2) (Inv := fun i x => WsFix x.1 ∧ x.1.1 = S1.1 ∧ x.1.2.2 = S1.2.2 ∧ RelN x.1 x.2 (dI d2 1 6 (nI (q.na - i))) (q.wi q.ei q.ci q.ij (q.ni - i) (q.na - i))) (P := fun o => ∃ a T1 b1 b2, o = some (a, T1, b1) ∧ some (nI q.na, dI d2 1 6 0) = some (a, b2) ∧ Rel (n + 1) T1 b1 MoS b2) (x := (S1, d1)) q.na (by omega) ?_ ?_ ?_
  · refine ⟨hF, rfl, rfl, ?_⟩
    have hg := RelN_iff.mp hN
    have e1 : (dI d2 1 6 (nI (q.na - 0))).1 1 = d2.1 1 := by
      funext k
      by_cases e : k = 6
      · subst e
        rw [dI_at, Nat.sub_zero]
        exact w6.symm
      · exact dI_nk (fun z => e z.2)
    refine RelN_iff.mpr ⟨hg.1.go hF Ext.rf Kp.rf Kc.rf ⟨fun a x y => ?_, dI_nk (by omega), dI_nk (by omega), dI_nk (by omega)⟩, hg.2.go rfl rfl e1⟩
    by_cases e : a = 1
    · subst e
      exact e1
    · exact dI_ne e
  · rintro i hi F ⟨T, b⟩ ⟨g1, g2, g3, g4⟩
    have hD := g4.ce g1
    have hD3 : Jl_size q.li T b = some (nI (q.ni - i)) := hD.injs
    have hDk : isK T 16 (T.2.1 q.a 1) = some q.li := hD.kM
    have hDT : isK T 1 (T.2.1 0 0) = some q.a := hD.T
    have hDt : b.1 q.a 7 = nI (q.ni - i - (q.na - i)) := hD.told
    obtain ⟨y1, y2, y3⟩ := rm_step g4 g1 (show 0 < q.na - i by omega) (dI d2 1 6 (nI (q.na - (i + 1)))) (fun a x y => by rw [dI_ne (by omega), dI_ne (by omega)]) (by rw [dI_ne (by omega), dI_ne (by omega)]) (fun j hj => by show (dI d2 1 6 _).1 1 j = (dI d2 1 6 _).1 1 j; rw [dI_nk (fun z => hj z.2), dI_nk (fun z => hj z.2)]) (by show (dI d2 1 6 _).1 1 6 = _; rw [dI_at]; rfl)
    refine ⟨(sR T q.ei (q.ni - i - 1) none, dI (dI b q.li 0 (b.1 q.li 0 + 1)) q.li 2 (nI (q.ni - i - 1))), ?_, y2, g2, g3, y3⟩
    show Ws_anew_h32 0 (F + 1) (nI q.na) T b = Ws_anew_h32 0 F (nI q.na) (sR T q.ei (q.ni - i - 1) none) (dI (dI b q.li 0 (b.1 q.li 0 + 1)) q.li 2 (nI (q.ni - i - 1)))
    simp only [Ws_anew_h32, hD.K, hDT, hDk, hD3, Option.bind_some]
    rw [hDt, if_neg (nI_ge (by omega) (by omega))]
    have y1' : Jl_remove q.li (nI (q.ni - i) - 1) T b = some (some (q.ij (q.ni - i - 1)), sR T q.ei (q.ni - i - 1) none, dI (dI b q.li 0 (b.1 q.li 0 + 1)) q.li 2 (nI (q.ni - i - 1))) := y1
    rw [y1', bind3_some]
  · rintro F ⟨T, b⟩ ⟨g1, g2, g3, g4⟩
    have hD := g4.ce g1
    have hD3 : Jl_size q.li T b = some (nI (q.ni - q.na)) := hD.injs
    have hDk : isK T 16 (T.2.1 q.a 1) = some q.li := hD.kM
    have hDT : isK T 1 (T.2.1 0 0) = some q.a := hD.T
    have hDt : b.1 q.a 7 = nI (q.ni - q.na - (q.na - q.na)) := hD.told
    show ∃ a T1 b1 b2, Ws_anew_h32 0 (F + 1) (nI q.na) T b = some (a, T1, b1) ∧ _ ∧ _
    simp only [Ws_anew_h32, hD.K, hDT, hDk, hD3, Option.bind_some]
    rw [hDt, if_pos (nI_le (by omega) (by omega))]
    refine ⟨_, _, _, _, rfl, rfl, rfl, g1, ⟨?_, ?_, ?_⟩, q.wi q.ei q.ci q.ij (q.ni - q.na) (q.na - q.na), ?_⟩
    · show T.2.2.1 ≤ _
      rw [g3]
      omega
    · show T.2.2.2 ≤ _
      rw [g3]
      omega
    · show T.1.length ≤ T.2.2.1
      rw [g3, g2]
      exact c3
    · have e0 : (0 : Int32) = nI (q.na - q.na) := by rw [Nat.sub_self]; rfl
      rw [e0]
      exact g4
