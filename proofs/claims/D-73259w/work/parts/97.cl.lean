/-! THE RUN: restarts and wakings -/
set_option maxRecDepth 100000
/-- whether v is under a, or is it -/
def und (w : Nat → Int32) (a : Nat) : Nat → Nat → Bool
  | 0, _ => false
  | f + 1, v => if v = a then true else if v = 0 then false else und w a f (w (8 + v)).toNatClampNeg
/-- the tick of the next start -/
def nxS (w : Nat → Int32) (k t : Nat) : Nat := (k / pN w t + 1) * pN w t
/-- what a restart makes of a life -/
def rst (x : Nat) (f : Nat → Int32) : Nat → Int32 := fun j => if j = 0 then 0 else if j = 1 then 1 else if j = 5 then nI x else if j = 6 then nI x - 1 else if j = 8 then 1 else f j
theorem rst_rst (x : Nat) (f : Nat → Int32) : rst x (rst x f) = rst x f := by
  funext j
  unfold rst
  split
  · rfl
  · split
    · rfl
    · split
      · rfl
      · split
        · rfl
        · split <;> rfl
/-- the component's tasks in P are restarted, its watchers in V woken -/
def RsC (w : Nat → Int32) (q : TdP) (k : Nat) (P V : Nat → Prop) (d d' : Dt) : Prop := (∀ t, t < q.nt → P t → d'.1 (30 + t) = rst (nxS w k t) (d.1 (30 + t))) ∧ (∀ t, t < q.nt → ¬ P t → d'.1 (30 + t) = d.1 (30 + t)) ∧ (∀ v, V v → d'.1 18 v = nI k) ∧ (∀ v, ¬ V v → d'.1 18 v = d.1 18 v) ∧ (∀ a, a ≠ 18 → (a < 30 ∨ 30 + q.nt ≤ a) → d'.1 a = d.1 a) ∧ d'.2 = d.2
/-- the injection i has a sleeper in V asleep by now -/
def WkI (w : Nat → Int32) (q : TdP) (k : Nat) (V : Nat → Prop) (i : Nat) : Prop := w (106 + 5 * i) = 5 ∧ ∃ v j, w (106 + 5 * i + 1) = nI v ∧ w (106 + 5 * i + 2) = nI j ∧ v < q.nw ∧ V v ∧ j ≤ k
/-- the model's -/
def RsM (w : Nat → Int32) (q : TdP) (k : Nat) (P V : Nat → Prop) (d d' : Dt) : Prop := (∀ t, t < q.nt → P t → d'.1 14 t = nI (nxS w k t) ∧ d'.1 15 t = -1 ∧ d'.1 19 t = 1 ∧ d'.1 20 t = nI (nxS w k t) - 1 ∧ d'.1 21 t = 0) ∧ (∀ t, t < q.nt → ¬ P t → d'.1 14 t = d.1 14 t ∧ d'.1 15 t = d.1 15 t ∧ d'.1 19 t = d.1 19 t ∧ d'.1 20 t = d.1 20 t ∧ d'.1 21 t = d.1 21 t) ∧ (∀ i, i < q.ni → WkI w q k V i → d'.1 34 i = 1) ∧ (∀ i, i < q.ni → ¬ WkI w q k V i → d'.1 34 i = d.1 34 i) ∧ (∀ a, a ≠ 14 → a ≠ 15 → a ≠ 19 → a ≠ 20 → a ≠ 21 → a ≠ 34 → d'.1 a = d.1 a) ∧ d'.2 = d.2
section
variable {w : Nat → Int32} {q : TdP} {u k kh kg r b t : Nat} {kj : Nat → Nat} {S0 S S' : Sp} {d0 m0 d e f e1 e2 f1 f2 : Dt} {op cl : Nat → Nat} {W : Int32} {F0 : Int32 × (Nat → Int32)} {P V P' V' : Nat → Prop}
theorem RsC.tr (h : RsC w q k P V d e) (g : RsC w q k P' V' e f) : RsC w q k (fun t => P t ∨ P' t) (fun v => V v ∨ V' v) d f := by
  obtain ⟨a1, a2, a3, a4, a5, a6⟩ := h
  obtain ⟨b1, b2, b3, b4, b5, b6⟩ := g
  refine ⟨fun t ht hp => ?_, fun t ht hp => (b2 t ht (fun z => hp (Or.inr z))).trans (a2 t ht (fun z => hp (Or.inl z))), fun v hv => ?_, fun v hv => (b4 v (fun z => hv (Or.inr z))).trans (a4 v (fun z => hv (Or.inl z))), fun a h1 h2 => (b5 a h1 h2).trans (a5 a h1 h2), b6.trans a6⟩
  · by_cases hp' : P' t
    · rw [b1 t ht hp']
      by_cases hq : P t
      · rw [a1 t ht hq, rst_rst]
      · rw [a2 t ht hq]
    · rw [b2 t ht hp', a1 t ht (hp.resolve_right hp')]
  · by_cases hv' : V' v
    · exact b3 v hv'
    · exact (b4 v hv').trans (a3 v (hv.resolve_right hv'))
theorem RsC.rf : RsC w q k (fun _ => False) (fun _ => False) d d := ⟨fun _ _ z => z.elim, fun _ _ _ => rfl, fun _ z => z.elim, fun _ _ => rfl, fun _ _ _ => rfl, rfl⟩
theorem RsC.iff (h : RsC w q k P V d e) (hp : ∀ t, t < q.nt → (P t ↔ P' t)) (hv : ∀ v, V v ↔ V' v) : RsC w q k P' V' d e := by
  obtain ⟨a1, a2, a3, a4, a5⟩ := h
  exact ⟨fun t ht z => a1 t ht ((hp t ht).mpr z), fun t ht z => a2 t ht (fun y => z ((hp t ht).mp y)), fun v z => a3 v ((hv v).mpr z), fun v z => a4 v (fun y => z ((hv v).mp y)), a5⟩
theorem WkI.or {i : Nat} : WkI w q k (fun v => V v ∨ V' v) i ↔ WkI w q k V i ∨ WkI w q k V' i := by
  constructor
  · rintro ⟨a, v, j, b1, b2, b3, b4 | b4, b5⟩
    · exact Or.inl ⟨a, v, j, b1, b2, b3, b4, b5⟩
    · exact Or.inr ⟨a, v, j, b1, b2, b3, b4, b5⟩
  · rintro (⟨a, v, j, b1, b2, b3, b4, b5⟩ | ⟨a, v, j, b1, b2, b3, b4, b5⟩)
    · exact ⟨a, v, j, b1, b2, b3, Or.inl b4, b5⟩
    · exact ⟨a, v, j, b1, b2, b3, Or.inr b4, b5⟩
theorem RsM.tr (h : RsM w q k P V d e) (g : RsM w q k P' V' e f) : RsM w q k (fun t => P t ∨ P' t) (fun v => V v ∨ V' v) d f := by
  obtain ⟨a1, a2, a3, a4, a5, a6⟩ := h
  obtain ⟨b1, b2, b3, b4, b5, b6⟩ := g
  refine ⟨fun t ht hp => ?_, fun t ht hp => ?_, fun v hl hv => ?_, fun v hl hv => ?_, fun a h1 h2 h3 h4 h5 h6 => (b5 a h1 h2 h3 h4 h5 h6).trans (a5 a h1 h2 h3 h4 h5 h6), b6.trans a6⟩
  · by_cases hp' : P' t
    · exact b1 t ht hp'
    · obtain ⟨c1, c2, c3, c4, c5⟩ := b2 t ht hp'
      rw [c1, c2, c3, c4, c5]
      exact a1 t ht (hp.resolve_right hp')
  · obtain ⟨c1, c2, c3, c4, c5⟩ := b2 t ht (fun z => hp (Or.inr z))
    rw [c1, c2, c3, c4, c5]
    exact a2 t ht (fun z => hp (Or.inl z))
  · by_cases hv' : WkI w q k V' v
    · exact b3 v hl hv'
    · exact (b4 v hl hv').trans (a3 v hl ((WkI.or.mp hv).resolve_right hv'))
  · exact (b4 v hl (fun z => hv (WkI.or.mpr (Or.inr z)))).trans (a4 v hl (fun z => hv (WkI.or.mpr (Or.inl z))))
theorem WkI.no {i : Nat} : ¬ WkI w q k (fun _ => False) i := fun ⟨_, _, _, _, _, _, z, _⟩ => z
theorem RsM.rf : RsM w q k (fun _ => False) (fun _ => False) d d := ⟨fun _ _ z => z.elim, fun _ _ _ => ⟨rfl, rfl, rfl, rfl, rfl⟩, fun _ _ z => (WkI.no z).elim, fun _ _ _ => rfl, fun _ _ _ _ _ _ _ => rfl, rfl⟩
theorem RsM.iff (h : RsM w q k P V d e) (hp : ∀ t, t < q.nt → (P t ↔ P' t)) (hv : ∀ v, v < q.nw → (V v ↔ V' v)) : RsM w q k P' V' d e := by
  obtain ⟨a1, a2, a3, a4, a5⟩ := h
  have hw : ∀ i, WkI w q k V i ↔ WkI w q k V' i := fun i => ⟨fun ⟨a, v, j, b1, b2, b3, b4, b5⟩ => ⟨a, v, j, b1, b2, b3, (hv v b3).mp b4, b5⟩, fun ⟨a, v, j, b1, b2, b3, b4, b5⟩ => ⟨a, v, j, b1, b2, b3, (hv v b3).mpr b4, b5⟩⟩
  exact ⟨fun t ht z => a1 t ht ((hp t ht).mpr z), fun t ht z => a2 t ht (fun y => z ((hp t ht).mp y)), fun i hi z => a3 i hi ((hw i).mpr z), fun i hi z => a4 i hi (fun y => z ((hw i).mp y)), a5⟩
theorem CE.ovr (h : CE S d w q) {v : Nat} (hv : v < q.nw) : aix S 50 (S.2.1 q.a 2) (nI v) = some (q.ov, v) ∧ d.1 q.ov v = w (8 + v) ∧ ((v = 0 ∧ w 8 = -1) ∨ ∃ x, x < v ∧ w (8 + v) = nI x) := by
  have h3 := h.nw3
  have hw := h.wf.2.2.2.2.1 v hv
  obtain ⟨-, -, -, -, -, t2, ⟨to, -⟩, -, -, -, -, -, -, hO, -⟩ := h
  exact ⟨by rw [t2]; exact aix_nI to (by omega) (by omega), hO v hv, hw⟩
theorem CE.nwF (h : CE S d w q) : d.1 q.a 6 = nI q.nw := by
  have := h.wf.1.1
  obtain ⟨-, -, -, -, -, -, -, -, -, -, -, -, -, -, -, -, -, v6, -⟩ := h
  exact v6.trans this
theorem und_C {a : Nat} (h : CE S d w q) (ha : a < 3) {p1 : Int32} : ∀ f v F, v < f → v < q.nw → f + 1 ≤ F → To_isUnder_h2 q.a p1 (nI a) S d F (nI v) = some (if und w a f v = true then 1 else 0) := by
  have h3 := h.nw3
  intro f
  induction f with
  | zero => intro v F h1; omega
  | succ f ih =>
    intro v F h1 hv hF
    obtain ⟨G, rfl⟩ : ∃ G, F = G + 1 := ⟨F - 1, by omega⟩
    obtain ⟨o1, o2, o3⟩ := h.ovr hv
    have hT : isK S 1 (some q.a) = some q.a := by have := h.T; rwa [h.2.1] at this
    rw [To_isUnder_h2, if_neg (m1_pos (by omega)), und]
    by_cases c1 : v = a
    · subst c1
      rw [if_neg (fun z => z rfl), if_pos rfl, if_pos rfl]
    · rw [if_pos (fun z => c1 ((nI_eq (by omega) (by omega)).mp z)), if_neg c1, hT, Option.bind_some, o1, Option.bind_some, Option.bind_some, o2]
      rcases o3 with ⟨rfl, o4⟩ | ⟨x, o4, o5⟩
      · rw [if_pos rfl, show w (8 + 0) = -1 from o4]
        obtain ⟨H, rfl⟩ : ∃ H, G = H + 1 := ⟨G - 1, by omega⟩
        rw [To_isUnder_h2, if_pos rfl, if_neg (by decide)]
      · rw [if_neg (show ¬ v = 0 by omega), o5, nI_clamp (by omega)]
        exact ih x G (by omega) (by omega) (by omega)
theorem und_M {a : Nat} (h : RE S e1 e2 w q op cl) (ha : a < 3) {p1 : Int32} : ∀ f v F, v < f → v < q.nw → f ≤ F → Mo_isUnder_h2 0 p1 (nI a) MoS e2 F (nI v) = some (if und w a f v = true then 1 else 0) := by
  have h3 := h.C.nw3
  intro f
  induction f with
  | zero => intro v F h1; omega
  | succ f ih =>
    intro v F h1 hv hF
    obtain ⟨G, rfl⟩ : ∃ G, F = G + 1 := ⟨F - 1, by omega⟩
    obtain ⟨-, -, o3⟩ := h.C.ovr hv
    rw [Mo_isUnder_h2, und]
    by_cases c1 : v = a
    · subst c1
      rw [if_pos rfl, if_pos rfl, if_pos rfl]
      unfold Mo_isUnder_b24
      rw [if_neg (fun z => z rfl)]
    · have c1' : ¬ nI v = nI a := fun z => c1 ((nI_eq (by omega) (by omega)).mp z)
      rw [if_neg c1', if_neg c1]
      rcases o3 with ⟨rfl, o4⟩ | ⟨x, o4, o5⟩
      · rw [if_pos (show nI 0 ≤ 0 by decide), if_pos rfl, if_neg (by decide)]
        unfold Mo_isUnder_b24
        rw [if_pos c1']
      · rw [if_neg (nI_nle (by omega) (by omega)), if_neg (show ¬ v = 0 by omega), Mo_K, Option.bind_some, show (8 : Int32) + nI v = nI (8 + v) from nI_add 8 v, Mw _ (by omega), Option.bind_some, Option.bind_some, show e2.1 1 (8 + v) = w (8 + v) from h.row (by omega), o5, nI_clamp (by omega)]
        exact ih x G (by omega) (by omega) (by omega)
/-- v is under a -/
abbrev U (w : Nat → Int32) (a v : Nat) : Bool := und w a 4 v
theorem CE.under {a v : Nat} (h : CE S d w q) (ha : a < 3) (hv : v < q.nw) : To_isUnder q.a (nI v) (nI a) S d = some (if U w a v = true then 1 else 0) := by
  have h3 := h.nw3
  exact und_C h ha 4 v FU (by omega) hv (by decide)
theorem RE.under {a v : Nat} (h : RE S e1 e2 w q op cl) (ha : a < 3) (hv : v < q.nw) : Mo_isUnder 0 (nI v) (nI a) MoS e2 = some (if U w a v = true then 1 else 0) := by
  have h3 := h.C.nw3
  exact und_M h ha 4 v FU (by omega) hv (by decide)
theorem und_root (h : CE S d w q) : ∀ f v, v < f → v < q.nw → und w 0 f v = true := by
  have h3 := h.nw3
  intro f
  induction f with
  | zero => intro v h1; omega
  | succ f ih =>
    intro v h1 hv
    rw [und]
    by_cases c1 : v = 0
    · rw [if_pos c1]
    · rw [if_neg c1, if_neg c1]
      obtain ⟨-, -, o3⟩ := h.ovr hv
      rcases o3 with ⟨rfl, -⟩ | ⟨x, o4, o5⟩
      · exact absurd rfl c1
      · rw [o5, nI_clamp (by omega)]
        exact ih x (by omega) (by omega)
theorem CE.wat (h : CE S d w q) (ht : t < q.nt) : ∃ a, a < q.nw ∧ w (11 + 7 * t) = nI a ∧ d.1 (q.tk t) 0 = nI a := by
  obtain ⟨-, ⟨a, p, o, c, le, mo, h1, h2, -⟩, -⟩ := h.wf.2.2.2.2.2.1 t ht
  exact ⟨a, h2, h1, ((h.task ht).2.1 0 (by omega)).trans h1⟩
/-- the rungs -/
theorem CE.rg (h : CE S d w q) {a : Nat} (ha : a < 4) : S.1[12 + a]? = some (2 + a, 0) := by
  rw [h.F.1 (12 + a) (by omega)]
  match a, ha with
  | 0, _ => rfl
  | 1, _ => rfl
  | 2, _ => rfl
  | 3, _ => rfl
theorem CE.rgK (h : CE S d w q) {a c : Nat} (ha : a < 4) (hc : c ≤ 2 + a) : isRg S c (some (12 + a)) = some (12 + a) := isRg_of (h.rg ha) hc (by omega)
theorem CE.rgO (h : CE S d w q) {a k : Nat} (ha : a < 4) (hk : k ≤ a) : isK S 0 (S.2.1 (12 + a) k) = some 0 := by
  rw [h.F.2.2.2.1 a ha k hk]; exact h.K
theorem RsC.ce (h : CE S d w q) (hr : RsC w q k P V d e) : CE S e w q := h.go (fun a ha hx => hr.2.2.2.2.1 a (by omega) (by have := h.nt5; omega))
theorem nxS_lt (h : CE S d w q) (ht : t < q.nt) (hk : k < 200) : k < nxS w k t ∧ nxS w k t ≤ 260 := by
  obtain ⟨-, h4, h60⟩ := h.per ht
  unfold nxS
  have e := Nat.div_add_mod k (pN w t)
  have e2 := Nat.mod_lt k (show 0 < pN w t by omega)
  have : (k / pN w t + 1) * pN w t = pN w t * (k / pN w t) + pN w t := by rw [Nat.add_mul, Nat.mul_comm]; omega
  rw [this]
  omega
theorem ru_eq (h : CE S d w q) (hT : d.1 0 25 = nI k) (hk : k < 200) (ht : t < q.nt) {a : Nat} (ha : a < 4) {p2 : Int32} : ∃ e, Ru_acts (12 + a) (nI t) p2 S d = some ((), e) ∧ RsC w q k (fun s => s = t) (fun _ => False) d e := by
  have h5 := h.nt5
  obtain ⟨hpw, hp4, hp60⟩ := h.per ht
  have htf := (h.task ht).2.1 1 (by omega)
  have hx := nxS_lt h ht hk
  unfold Ru_acts Ru_restarts Li_begins
  rw [h.rgK ha (by omega), Option.bind_some, Option.bind_some, h.rgO ha (by omega), Option.bind_some, cr12 h.F, ca16 h.F (show t < 5 by omega), Option.bind_some, h.taskOf ht, Option.bind_some, h.tK ht, Option.bind_some, htf, hpw, gz_ok (nI_ne0 (by omega) (by omega)), Option.bind_some, Option.bind_some, h.tK ht, Option.bind_some, cl_r h.F (show t < 5 by omega), cl_K h.F (show t < 5 by omega), Option.bind_some, htf, hpw, hT, pk_div (by omega) (by omega) (by omega), nI_1, nI_mul, cl_K h.F (show t < 5 by omega)]
  refine ⟨_, rfl, fun s hs e => ?_, fun s hs e => ?_, fun v z => z.elim, fun v _ => ?_, fun a h1 h2 => ?_, rfl⟩
  · subst e
    funext j
    show _ = rst (nxS w k s) (d.1 (30 + s)) j
    unfold rst nxS
    by_cases j0 : j = 0
    · subst j0; simp [dI, u2]
    by_cases j1 : j = 1
    · subst j1; simp [dI, u2]
    by_cases j5 : j = 5
    · subst j5; simp [dI, u2]
    by_cases j6 : j = 6
    · subst j6; simp [dI, u2]
    by_cases j8 : j = 8
    · subst j8; simp [dI, u2]
    simp [dI, u2, j0, j1, j5, j6, j8]
  · funext j
    simp [dI, u2, e]
  · have : ¬ 18 = 30 + t := by omega
    simp [dI, u2, this]
  · have : ¬ a = 30 + t := by omega
    funext j
    simp [dI, u2, this]
end
