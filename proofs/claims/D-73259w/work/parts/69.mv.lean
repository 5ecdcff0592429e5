/-! THE PLAIN LAW: what keeps a Told, what keeps the relation -/
set_option maxRecDepth 100000
theorem adr_58 {S : Sp} (hF : WsFix S) {a n : Nat} (h : S.1[a]? = some (58, n)) : (1 ≤ a ∧ a < 7) ∨ 35 ≤ a := by
  by_cases ha : a < 35
  · rw [hF.1 a ha] at h
    left
    have key : ∀ i, i < 35 → (WsL[i]?).map Prod.fst = some 58 → 1 ≤ i ∧ i < 7 := by decide +kernel
    exact key a ha (by rw [h]; rfl)
  · exact Or.inr (Nat.not_lt.mp ha)
/-- a Told is kept where only other rows change: x a list, y a list's array that are none of its -/
theorem TdOk.mv {S S' : Sp} {d d' : Dt} {w : Nat → Int32} {q : TdP} (x y : Nat) (h : TdOk S d w q) (hF : WsFix S) (n1 : q.lt ≠ x) (n2 : q.li ≠ x) (n3 : q.et ≠ y) (n4 : q.ei ≠ y) (hk : ∀ a sh, S.1[a]? = some sh → (1 ≤ a ∧ a < 7) ∨ 35 ≤ a → ¬ (a = x ∧ sh = (16, 0)) → ¬ (a = y ∧ sh.1 = 58) → S'.1[a]? = some sh ∧ S'.2.1 a = S.2.1 a ∧ d'.1 a = d.1 a) : TdOk S' d' w q := by
  obtain ⟨ta, t0, t1, t2, ⟨to, o1, o2⟩, ⟨l1, l2, l3, l4, l5, l6, l7⟩, ⟨m1, m2, m3, m4, m5, m6, m7⟩, c1, c2, hT, hI, hO, v3, v4, v5, v6, v7, v8, hW⟩ := h
  obtain ⟨a1, a2, a3⟩ := hk _ _ ta (adr_of hF (by decide) ta) (fun z => absurd z.2 (by decide)) (fun z => absurd z.2 (by decide))
  obtain ⟨b1, b2, b3⟩ := hk _ _ l1 (adr_of hF (by decide) l1) (fun z => n1 z.1) (fun z => absurd z.2 (by decide))
  obtain ⟨e1, e2, e3⟩ := hk _ _ l3 (adr_58 hF l3) (fun z => absurd (congrArg Prod.fst z.2) (show ¬ (58 : Nat) = 16 by decide)) (fun z => n3 z.1)
  obtain ⟨f1, f2, f3⟩ := hk _ _ m1 (adr_of hF (by decide) m1) (fun z => n2 z.1) (fun z => absurd z.2 (by decide))
  obtain ⟨g1, g2, g3⟩ := hk _ _ m3 (adr_58 hF m3) (fun z => absurd (congrArg Prod.fst z.2) (show ¬ (58 : Nat) = 16 by decide)) (fun z => n4 z.1)
  obtain ⟨p1, p2, p3⟩ := hk _ _ to (adr_ov hF to o1 o2) (fun z => absurd z.2 (by decide)) (fun z => absurd z.2 (by decide))
  refine ⟨a1, by rw [a2]; exact t0, by rw [a2]; exact t1, by rw [a2]; exact t2, ⟨p1, o1, o2⟩, ⟨b1, by rw [b2]; exact l2, e1, by rw [b3]; exact l4, l5, fun i hi => by rw [e2]; exact l6 i hi, fun i hi hj => by rw [e2]; exact l7 i hi hj⟩, ⟨f1, by rw [f2]; exact m2, g1, by rw [f3]; exact m4, m5, fun i hi => by rw [g2]; exact m6 i hi, fun i hi hj => by rw [g2]; exact m7 i hi hj⟩, c1, c2, fun t ht => ?_, fun i hi => ?_, fun v hv => by rw [p3]; exact hO v hv, by rw [a3]; exact v3, by rw [a3]; exact v4, by rw [a3]; exact v5, by rw [a3]; exact v6, by rw [a3]; exact v7, by rw [a3]; exact v8, hW⟩
  · obtain ⟨s1, s2, s3, s4, s5, u, b, s6, s7, s8, s9, s10, s11⟩ := hT t ht
    obtain ⟨u1, u2, u3⟩ := hk _ _ s1 (adr_of hF (by decide) s1) (fun z => absurd z.2 (by decide)) (fun z => absurd z.2 (by decide))
    obtain ⟨v1, v2, v3⟩ := hk _ _ s8 (adr_of hF (by decide) s8) (fun z => absurd z.2 (by decide)) (fun z => absurd z.2 (by decide))
    obtain ⟨x1, x2, x3⟩ := hk _ _ s9 (adr_of hF (by decide) s9) (fun z => absurd z.2 (by decide)) (fun z => absurd z.2 (by decide))
    exact ⟨u1, fun f hf => by rw [u3]; exact s2 f hf, by rw [u3]; exact s3, s4, s5, u, b, by rw [u2]; exact s6, by rw [u2]; exact s7, v1, x1, fun n hn => by rw [v3]; exact s10 n hn, fun k hk9 => by rw [x3]; exact s11 k hk9⟩
  · obtain ⟨s1, s2⟩ := hI i hi
    obtain ⟨u1, u2, u3⟩ := hk _ _ s1 (adr_of hF (by decide) s1) (fun z => absurd z.2 (by decide)) (fun z => absurd z.2 (by decide))
    exact ⟨u1, fun f hf => by rw [u3]; exact s2 f hf⟩
/-- memories that grow: what there was is as it was -/
def Ext (S S' : Sp) : Prop := (∀ i, i < S.1.length → S'.1[i]? = S.1[i]?) ∧ (∀ a, a < S.1.length → S'.2.1 a = S.2.1 a) ∧ S.1.length ≤ S'.1.length
theorem Ext.rf {S : Sp} : Ext S S := ⟨fun _ _ => rfl, fun _ _ => rfl, Nat.le_refl _⟩
theorem Ext.tr {S T U : Sp} (h : Ext S T) (g : Ext T U) : Ext S U := ⟨fun i hi => (g.1 i (Nat.lt_of_lt_of_le hi h.2.2)).trans (h.1 i hi), fun a ha => (g.2.1 a (Nat.lt_of_lt_of_le ha h.2.2)).trans (h.2.1 a ha), Nat.le_trans h.2.2 g.2.2⟩
theorem Ext.new {S : Sp} {sh : Nat × Nat} {k : Nat} : Ext S (mmNew S sh k) := ⟨fun i hi => by show (S.1 ++ [sh])[i]? = S.1[i]?; rw [List.getElem?_append_left hi], fun a ha => z2_row (Nat.ne_of_lt ha), by simp [mmNew]⟩
/-- the same with a reference of a new cell set -/
theorem Ext.sR {S T : Sp} (h : Ext S T) {v k : Nat} {o : Option Nat} (hv : S.1.length ≤ v) : Ext S (sR T v k o) := ⟨h.1, fun a ha => (u2_row (by omega)).trans (h.2.1 a ha), h.2.2⟩
theorem Ws_len {S : Sp} (hF : WsFix S) : 35 ≤ S.1.length := by
  have h : S.1[34]? = some (8, 0) := Ws_at0 hF (by omega) rfl
  exact (List.getElem?_eq_some_iff.mp h).1
theorem WsFix.ext {S S' : Sp} (hF : WsFix S) (he : Ext S S') : WsFix S' := by
  have hl := Ws_len hF
  obtain ⟨h1, h2, h3, h4, h5⟩ := hF
  refine ⟨fun i hi => (he.1 i (by omega)).trans (h1 i hi), fun k hk h0 => by rw [he.2.1 0 (by omega)]; exact h2 k hk h0, fun j hj => by rw [he.2.1 11 (by omega)]; exact h3 j hj, fun a ha k hk => by rw [he.2.1 (12 + a) (by omega)]; exact h4 a ha k hk, fun t ht => by rw [he.2.1 16 (by omega)]; exact h5 t ht⟩
theorem TdOk.lt {S : Sp} {d : Dt} {w : Nat → Int32} {q : TdP} (h : TdOk S d w q) : q.lt < S.1.length ∧ q.li < S.1.length ∧ q.et < S.1.length ∧ q.ei < S.1.length ∧ q.a < S.1.length := by
  obtain ⟨ta, t0, t1, t2, -, ⟨l1, l2, l3, -⟩, ⟨m1, m2, m3, -⟩, -⟩ := h
  exact ⟨(List.getElem?_eq_some_iff.mp l1).1, (List.getElem?_eq_some_iff.mp m1).1, (List.getElem?_eq_some_iff.mp l3).1, (List.getElem?_eq_some_iff.mp m3).1, (List.getElem?_eq_some_iff.mp ta).1⟩
/-- what the plain law's steps leave of a Told's rows -/
def Kp (S : Sp) (d d' : Dt) : Prop := ∀ a, a < S.1.length → (1 ≤ a ∧ a < 7) ∨ 35 ≤ a → d'.1 a = d.1 a
theorem TdOk.go {S S' : Sp} {d d' : Dt} {w : Nat → Int32} {q : TdP} (h : TdOk S d w q) (hF : WsFix S) (he : Ext S S') (hk : Kp S d d') : TdOk S' d' w q := by
  obtain ⟨z1, z2, z3, z4, -⟩ := h.lt
  refine h.mv S.1.length S.1.length hF (by omega) (by omega) (by omega) (by omega) (fun a sh ha hr _ _ => ?_)
  have hl := (List.getElem?_eq_some_iff.mp ha).1
  exact ⟨(he.1 a hl).trans ha, he.2.1 a hl, hk a hl hr⟩
/-- the relation but for the windows -/
def RelW (S : Sp) (d1 d2 : Dt) (q : TdP) : Prop :=
  S.2.1 0 0 = some q.1.1 ∧ TdOk S d1 (mw d2) q ∧ (q.1.2.2.2.2.1 ≠ q.1.2.1 ∧ q.1.2.2.2.2.2.1 ≠ q.1.2.2.1 ∧ q.2.2.2.1.2.2.2 ≤ 10) ∧
  (∀ k, k < 3 → (d2.1 3 k = 0 ∧ S.2.1 7 k = none) ∨ (d2.1 3 k = 1 ∧ ∃ r, S.2.1 7 k = some r.1.1 ∧ TdOk S d1 (fun i => d2.1 2 (201 * k + i)) r ∧ TdSep q r)) ∧
  (∃ tp, tp ≤ 1000 ∧ d1.1 0 3 = nI tp ∧ d2.1 0 5 = nI tp) ∧ (∀ i, i < 1000 → d1.1 8 i = d2.1 4 i ∧ ByteR (d2.1 4 i)) ∧ d1.1 0 4 = d2.1 0 12 ∧ d1.1 0 5 = d2.1 0 13 ∧ d1.1 0 6 = -1
def RelO (d1 d2 : Dt) (q : TdP) : Prop := ∀ t, t < q.2.2.2.1.2.1 → d1.1 25 t = mw d2 (11 + 7 * t + 2) ∧ d1.1 26 t = mw d2 (11 + 7 * t + 3)
theorem RelN_iff {S : Sp} {d1 d2 : Dt} {q : TdP} : RelN S d1 d2 q ↔ RelW S d1 d2 q ∧ RelO d1 d2 q := by
  unfold RelN RelW RelO
  constructor
  · rintro ⟨a1, a2, a3, a4, a5, a6, a7, a8, a9, a10⟩
    exact ⟨⟨a1, a2, a3, a4, a5, a6, a7, a8, a9⟩, a10⟩
  · rintro ⟨⟨a1, a2, a3, a4, a5, a6, a7, a8, a9⟩, a10⟩
    exact ⟨a1, a2, a3, a4, a5, a6, a7, a8, a9, a10⟩
theorem RelW.ce {S : Sp} {d1 d2 : Dt} {q : TdP} (h : RelW S d1 d2 q) (hF : WsFix S) : CE S d1 (mw d2) q := ⟨hF, h.1, h.2.1⟩
theorem RelN.ce {S : Sp} {d1 d2 : Dt} {q : TdP} (h : RelN S d1 d2 q) (hF : WsFix S) : CE S d1 (mw d2) q := ⟨hF, h.1, h.2.1⟩
/-- the component's rows that the relation reads, besides a Told's -/
def Kc (d d' : Dt) : Prop := d'.1 8 = d.1 8 ∧ ∀ k, 3 ≤ k → k < 7 → d'.1 0 k = d.1 0 k
/-- the model's -/
def Km (d d' : Dt) : Prop := (∀ a, 1 ≤ a → a < 5 → d'.1 a = d.1 a) ∧ d'.1 0 5 = d.1 0 5 ∧ d'.1 0 12 = d.1 0 12 ∧ d'.1 0 13 = d.1 0 13
theorem RelW.go {S S' : Sp} {d1 d2 d1' d2' : Dt} {q : TdP} (h : RelW S d1 d2 q) (hF : WsFix S) (he : Ext S S') (k1 : Kp S d1 d1') (k2 : Kc d1 d1') (k3 : Km d2 d2') : RelW S' d1' d2' q := by
  obtain ⟨a1, a2, a3, a4, ⟨tp, b1, b2, b3⟩, a6, a7, a8, a9⟩ := h
  obtain ⟨m1, m2, m3, m4⟩ := k3
  have hl := Ws_len hF
  have e1 : mw d2' = mw d2 := m1 1 (by omega) (by omega)
  have e2 := m1 2 (by omega) (by omega)
  have e3 := m1 3 (by omega) (by omega)
  have e4 := m1 4 (by omega) (by omega)
  refine ⟨by rw [he.2.1 0 (by omega)]; exact a1, by rw [e1]; exact a2.go hF he k1, a3, fun k hk => ?_, ⟨tp, b1, by rw [k2.2 3 (by omega) (by omega)]; exact b2, by rw [m2]; exact b3⟩, fun i hi => by rw [k2.1, e4]; exact a6 i hi, by rw [k2.2 4 (by omega) (by omega), m3]; exact a7, by rw [k2.2 5 (by omega) (by omega), m4]; exact a8, by rw [k2.2 6 (by omega) (by omega)]; exact a9⟩
  rw [e3, he.2.1 7 (by omega), e2]
  rcases a4 k hk with z | ⟨z1, r, z2, z3, z4⟩
  · exact Or.inl z
  · exact Or.inr ⟨z1, r, z2, z3.go hF he k1, z4⟩
theorem RelO.go {d1 d2 d1' d2' : Dt} {q : TdP} (h : RelO d1 d2 q) (e1 : d1'.1 25 = d1.1 25) (e2 : d1'.1 26 = d1.1 26) (e3 : d2'.1 1 = d2.1 1) : RelO d1' d2' q := by
  intro t ht
  obtain ⟨z1, z2⟩ := h t ht
  show _ = d2'.1 1 _ ∧ _ = d2'.1 1 _
  rw [e1, e2, e3]
  exact ⟨z1, z2⟩
/-- the relation is kept by a call that changes scratch rows alone -/
theorem Rel.go {n : Nat} {S S' : Sp} {d1 d2 d1' d2' : Dt} (h : Rel n S d1 MoS d2) (he : Ext S S') (hc : S'.2.2.1 ≤ S.2.2.1 + 17000 ∧ S'.2.2.2 ≤ S.2.2.2 + 76000 ∧ S'.1.length + S.2.2.1 ≤ S'.2.2.1 + S.1.length) (k1 : Kp S d1 d1') (k2 : Kc d1 d1') (k3 : Km d2 d2') (e1 : d1'.1 25 = d1.1 25) (e2 : d1'.1 26 = d1.1 26) : Rel (n + 1) S' d1' MoS d2' := by
  obtain ⟨-, hF, ⟨c1, c2, c3⟩, q, hN⟩ := h
  obtain ⟨hW, hO⟩ := RelN_iff.mp hN
  exact ⟨rfl, hF.ext he, ⟨by omega, by omega, by omega⟩, q, RelN_iff.mpr ⟨hW.go hF he k1 k2 k3, hO.go e1 e2 (k3.1 1 (by omega) (by omega))⟩⟩
theorem Kp.rf {S : Sp} {d : Dt} : Kp S d d := fun _ _ _ => rfl
theorem Kp.tr {S : Sp} {d d' d'' : Dt} (h : Kp S d d') (g : Kp S d' d'') : Kp S d d'' := fun a ha hr => (g a ha hr).trans (h a ha hr)
theorem Kp.dI {S : Sp} {d d' : Dt} (h : Kp S d d') {v k : Nat} {x : Int32} (hv : v = 0 ∨ (7 ≤ v ∧ v < 35) ∨ S.1.length ≤ v) : Kp S d (dI d' v k x) := fun a ha hr => (dI_ne (by omega)).trans (h a ha hr)
theorem Kp.new {S T : Sp} {d d' : Dt} (h : Kp S d d') (hl : S.1.length ≤ T.1.length) : Kp S d (mmNewD T d') := fun a ha hr => (z2_row (by omega)).trans (h a ha hr)
theorem Kc.rf {d : Dt} : Kc d d := ⟨rfl, fun _ _ _ => rfl⟩
theorem Kc.tr {d d' d'' : Dt} (h : Kc d d') (g : Kc d' d'') : Kc d d'' := ⟨g.1.trans h.1, fun k a b => (g.2 k a b).trans (h.2 k a b)⟩
theorem Kc.dI {d d' : Dt} (h : Kc d d') {v k : Nat} {x : Int32} (hv : v ≠ 8) (h0 : v ≠ 0 ∨ k < 3 ∨ 7 ≤ k) : Kc d (dI d' v k x) := ⟨(dI_ne (fun e => hv e.symm)).trans h.1, fun j a b => (dI_nk (by omega)).trans (h.2 j a b)⟩
theorem Kc.new {T : Sp} {d d' : Dt} (h : Kc d d') (hl : 9 ≤ T.1.length) : Kc d (mmNewD T d') := ⟨(z2_row (by omega)).trans h.1, fun k a b => (congrFun (z2_row (show (0 : Nat) ≠ T.1.length by omega)) k).trans (h.2 k a b)⟩
theorem Km.rf {d : Dt} : Km d d := ⟨fun _ _ _ => rfl, rfl, rfl, rfl⟩
theorem Km.tr {d d' d'' : Dt} (h : Km d d') (g : Km d' d'') : Km d d'' := ⟨fun a x y => (g.1 a x y).trans (h.1 a x y), g.2.1.trans h.2.1, g.2.2.1.trans h.2.2.1, g.2.2.2.trans h.2.2.2⟩
theorem Km.dI {d d' : Dt} (h : Km d d') {v k : Nat} {x : Int32} (hv : 5 ≤ v ∨ (v = 0 ∧ k ≠ 5 ∧ k ≠ 12 ∧ k ≠ 13)) : Km d (dI d' v k x) := ⟨fun a y z => (dI_ne (by omega)).trans (h.1 a y z), (dI_nk (by omega)).trans h.2.1, (dI_nk (by omega)).trans h.2.2.1, (dI_nk (by omega)).trans h.2.2.2⟩
