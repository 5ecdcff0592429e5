/-! THE PLAIN LAW: the list of injections changes -/
set_option maxRecDepth 100000
theorem folN_cong {w w' : Nat → Int32} {t k : Nat} : ∀ {n : Nat}, (∀ m, m < n → w' (46 + 2 * (6 * t + m) + 1) = w (46 + 2 * (6 * t + m) + 1)) → folN w' t k n = folN w t k n := by
  intro n
  induction n with
  | zero => exact fun _ => rfl
  | succ n ih =>
    intro h
    rw [folN_s, folN_s, ih (fun m hm => h m (by omega)), h n (by omega)]
abbrev TdP.wi (q : TdP) (ei ci : Nat) (ij : Nat → Nat) (ni na : Nat) : TdP := ((q.a, q.lt, q.et, q.1.2.2.2.1, q.li, ei, ci, q.ov), q.tk, ij, (q.nw, q.nt, ni, na), q.nd)
theorem TdOk.inj {S S' : Sp} {d d' : Dt} {w w' : Nat → Int32} {q : TdP} (h : TdOk S d w q) (hF : WsFix S) (n1 : q.li ≠ q.lt) (n2 : q.ei ≠ q.et) {ei ci ni na : Nat} {ij : Nat → Nat} (hk : ∀ a sh, S.1[a]? = some sh → (1 ≤ a ∧ a < 7) ∨ 35 ≤ a → ¬ (a = q.li ∧ sh = (16, 0)) → ¬ (a = q.ei ∧ sh.1 = 58) → S'.1[a]? = some sh ∧ S'.2.1 a = S.2.1 a ∧ d'.1 a = d.1 a) (hl : ListT S' d' q.li ei ci ni ij) (hc : 18 ≤ ci ∧ ci ≤ 60) (hi : ∀ i, i < ni → InjT S' d' w' i (ij i)) (hw : ∀ i, i < 106 → i ≠ 6 → w' i = w i) (hW : WF w' q.nw q.nt ni na q.nd) : TdOk S' d' w' (q.wi ei ci ij ni na) := by
  have hTd := h
  obtain ⟨ta, t0, t1, t2, ⟨to, o1, o2⟩, ⟨l1, l2, l3, l4, l5, l6, l7⟩, ⟨m1, m2, m3, m4, m5, m6, m7⟩, c1, c2, hT, hI, hO, v3, v4, v5, v6, v7, v8, hW0⟩ := h
  obtain ⟨a1, a2, a3⟩ := hk _ _ ta (adr_of hF (by decide) ta) (fun z => absurd z.2 (by decide)) (fun z => absurd z.2 (by decide))
  obtain ⟨b1, b2, b3⟩ := hk _ _ l1 (adr_of hF (by decide) l1) (fun z => n1 z.1.symm) (fun z => absurd z.2 (by decide))
  obtain ⟨e1, e2, e3⟩ := hk _ _ l3 (adr_58 hF l3) (fun z => absurd (congrArg Prod.fst z.2) (show ¬ (58 : Nat) = 16 by decide)) (fun z => n2 z.1.symm)
  obtain ⟨p1, p2, p3⟩ := hk _ _ to (adr_ov hF to o1 o2) (fun z => absurd z.2 (by decide)) (fun z => absurd z.2 (by decide))
  have hw3 : q.nw ≤ 3 := hW0.1.2
  have hn5 : q.nt ≤ 5 := hW0.2.1.2
  refine ⟨a1, by rw [a2]; exact t0, by rw [a2]; exact t1, by rw [a2]; exact t2, ⟨p1, o1, o2⟩, ⟨b1, by rw [b2]; exact l2, e1, by rw [b3]; exact l4, l5, fun i hi => by rw [e2]; exact l6 i hi, fun i hi hj => by rw [e2]; exact l7 i hi hj⟩, hl, c1, hc, fun t ht => ?_, hi, fun v hv => by have hv' : v < q.nw := hv; rw [p3, hw _ (by omega) (by omega)]; exact hO v hv, by rw [a3, hw _ (by omega) (by omega)]; exact v3, by rw [a3, hw _ (by omega) (by omega)]; exact v4, by rw [a3, hw _ (by omega) (by omega)]; exact v5, by rw [a3, hw _ (by omega) (by omega)]; exact v6, by rw [a3, hw _ (by omega) (by omega)]; exact v7, by rw [a3, hw _ (by omega) (by omega)]; exact v8, hW⟩
  obtain ⟨s1, s2, s3, s4, s5, u, b, s6, s7, s8, s9, s10, s11⟩ := hT t ht
  obtain ⟨u1, u2, u3⟩ := hk _ _ s1 (adr_of hF (by decide) s1) (fun z => absurd z.2 (by decide)) (fun z => absurd z.2 (by decide))
  obtain ⟨v1, v2, v3⟩ := hk _ _ s8 (adr_of hF (by decide) s8) (fun z => absurd z.2 (by decide)) (fun z => absurd z.2 (by decide))
  obtain ⟨x1, x2, x3⟩ := hk _ _ s9 (adr_of hF (by decide) s9) (fun z => absurd z.2 (by decide)) (fun z => absurd z.2 (by decide))
  have ht' : t < q.nt := ht
  have ht5 : t < 5 := Nat.lt_of_lt_of_le ht' hn5
  have s5' : q.nd t ≤ 6 := s5
  exact ⟨u1, fun f hf => by rw [u3, hw _ (by omega) (by omega)]; exact s2 f hf, by rw [u3]; exact s3, by rw [hw _ (by omega) (by omega)]; exact s4, s5, u, b, by rw [u2]; exact s6, by rw [u2]; exact s7, v1, x1, fun n hn => by have hn' : n < q.nd t := hn; rw [v3, hw _ (by omega) (by omega)]; exact s10 n hn, fun k hk9 => by rw [x3, folN_cong (w := w) (fun m hm => by have hm' : m < q.nd t := hm; exact hw _ (by omega) (by omega))]; exact s11 k hk9⟩
/-- a row with one act less, or one injection more -/
theorem WF.row {w w' : Nat → Int32} {nw nt ni na ni' na' : Nat} {nd : Nat → Nat} (h : WF w nw nt ni na nd) (hw : ∀ i, i < 106 → i ≠ 6 → w' i = w i) (h6 : w' 6 = nI na') (hn : ni' - na' = ni - na ∧ na' ≤ ni' ∧ na' ≤ 11) (h0 : ni = 0 → ni' = 0) (hi : ∀ i, i < ni' → (∃ v j, w' (106 + 5 * i) = nI 5 ∧ w' (106 + 5 * i + 1) = nI v ∧ v < nw ∧ w' (106 + 5 * i + 2) = nI j ∧ j < 200 ∧ w' (106 + 5 * i + 3) = -1 ∧ w' (106 + 5 * i + 4) = -1) ∨
    ∃ k t j tm, w' (106 + 5 * i) = nI k ∧ k ≤ 4 ∧ w' (106 + 5 * i + 1) = nI t ∧ t < nt ∧ w' (106 + 5 * i + 2) = nI j ∧ j ≤ 50 ∧ ((k = 4 ∧ w' (106 + 5 * i + 3) = -1) ∨ k < 4 ∧ ∃ n, n < nd t ∧ w' (106 + 5 * i + 3) = nI n) ∧ w' (106 + 5 * i + 4) = nI tm ∧ 1 ≤ tm ∧ tm ≤ 9) : WF w' nw nt ni' na' nd := by
  obtain ⟨⟨a1, a2⟩, ⟨b1, b2⟩, ⟨c1, c2, c3, c4, c5⟩, ⟨hh, cy, lo, ln, e1, e2, e3, e4, e5, e6, e7, e8, e9, e10⟩, f, g, -⟩ := h
  refine ⟨⟨by rw [hw 3 (by omega) (by omega)]; exact a1, a2⟩, ⟨by rw [hw 4 (by omega) (by omega)]; exact b1, b2⟩, ⟨by rw [hw 5 (by omega) (by omega), hn.1]; exact c1, h6, hn.2.1, by omega, hn.2.2⟩, ⟨hh, cy, lo, ln, by rw [hw 0 (by omega) (by omega)]; exact e1, e2, by rw [hw 1 (by omega) (by omega)]; exact e3, e4, by rw [hw 2 (by omega) (by omega)]; exact e5, e6, by rw [hw 7 (by omega) (by omega)]; exact e7, e8, e9, fun z => ?_⟩, fun v hv => ?_, fun t ht => ?_, hi⟩
  · obtain ⟨z1, z2, z3⟩ := e10 z
    exact ⟨z1, z2, h0 z3⟩
  · rw [hw 8 (by omega) (by omega), hw (8 + v) (by omega) (by omega)]
    exact f v hv
  · obtain ⟨⟨g1, g2, g3⟩, ⟨x1, x2, x3, x4, x5, x6, y1, y2, y3, y4, y5, y6, y7, y8, y9, z1, z2, z3, z4, z5, z6⟩, gn⟩ := g t ht
    refine ⟨⟨g1, g2, by rw [hw _ (by omega) (by omega)]; exact g3⟩, ⟨x1, x2, x3, x4, x5, x6, by rw [hw _ (by omega) (by omega)]; exact y1, y2, by rw [hw _ (by omega) (by omega)]; exact y3, y4, y5, by rw [hw _ (by omega) (by omega)]; exact y6, y7, by rw [hw _ (by omega) (by omega)]; exact y8, y9, z1, by rw [hw _ (by omega) (by omega)]; exact z2, z3, by rw [hw _ (by omega) (by omega)]; exact z4, z5, z6⟩, fun n hn => ?_⟩
    rw [hw (46 + 2 * (6 * t + n)) (by omega) (by omega), hw (46 + 2 * (6 * t + n) + 1) (by omega) (by omega)]
    exact gn n hn
