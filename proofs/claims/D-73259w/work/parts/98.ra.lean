/-! READING: bytes, tokens -/
set_option maxRecDepth 100000
theorem loop2_mu {α β R Q : Type} {X : Nat → α → Option R} {Y : Nat → β → Option Q} {Inv : α → β → Prop} {μ : α → Nat} {P : Option R → Option Q → Prop} (hs : ∀ f g x y, Inv x y → (∃ x' y', X (f + 1) x = X f x' ∧ Y (g + 1) y = Y g y' ∧ Inv x' y' ∧ μ x' < μ x) ∨ P (X (f + 1) x) (Y (g + 1) y)) : ∀ n x y f g, Inv x y → μ x ≤ n → n < f → n < g → P (X f x) (Y g y) := by
  intro n
  induction n with
  | zero =>
    intro x y f g hI hm hf hg
    obtain ⟨f', rfl⟩ : ∃ f', f = f' + 1 := ⟨f - 1, by omega⟩
    obtain ⟨g', rfl⟩ : ∃ g', g = g' + 1 := ⟨g - 1, by omega⟩
    rcases hs f' g' x y hI with ⟨x', y', h1, h2, h3, h4⟩ | h
    · omega
    · exact h
  | succ n ih =>
    intro x y f g hI hm hf hg
    obtain ⟨f', rfl⟩ : ∃ f', f = f' + 1 := ⟨f - 1, by omega⟩
    obtain ⟨g', rfl⟩ : ∃ g', g = g' + 1 := ⟨g - 1, by omega⟩
    rcases hs f' g' x y hI with ⟨x', y', h1, h2, h3, h4⟩ | h
    · rw [h1, h2]
      exact ih x' y' f' g' h3 (by omega) (by omega) (by omega)
    · exact h
abbrev ByteF (x : Int32) : Prop := inI (x &&& 255) 97 122 = inI x 97 122 ∧ inI (x &&& 255) 48 57 = inI x 48 57 ∧ (x &&& 255 = 32 ↔ inI x 32 32 = 1) ∧ (x &&& 255 = 10 ↔ inI x 10 10 = 1) ∧ (x &&& 255 = 59 ↔ inI x 59 59 = 1) ∧ (¬ x &&& 255 = -1) ∧ (inI x 48 57 = 1 → x &&& 255 = x ∧ 48 ≤ x.toInt ∧ x.toInt ≤ 57)
theorem byte_tab : ∀ k : Nat, k < 256 → ByteF (Int32.ofInt ((k : Int) - 128)) := by decide +kernel
theorem byte_f {x : Int32} (h : ByteR x) : ByteF x := by
  obtain ⟨h1, h2⟩ := h
  have e : (((x.toInt + 128).toNat : Int) - 128) = x.toInt := by omega
  have := byte_tab (x.toInt + 128).toNat (by omega)
  rw [e, Int32.ofInt_toInt] at this
  exact this
/-- a reader at rd in the component's memory -/
def RdS (S : Sp) (rd : Nat) : Prop := WsFix S ∧ 35 ≤ rd ∧ S.1[rd]? = some (10, 0) ∧ S.2.1 rd 0 = some (rd + 1) ∧ S.2.1 rd 1 = some 8 ∧ S.2.1 rd 3 = some (rd + 2) ∧ S.1[rd + 1]? = some (59, 6) ∧ ∀ k, k < 6 → S.2.1 (rd + 1) k = some (OPQ + k)
/-- both are at one place of one text -/
def Lx0 (rd sz ap : Nat) (d m : Dt) : Prop := sz ≤ 1000 ∧ ap ≤ sz ∧ d.1 rd 2 = nI sz ∧ m.1 0 7 = nI sz ∧ d.1 rd 4 = nI ap ∧ m.1 0 8 = nI ap ∧ ∀ i, i < 1000 → d.1 8 i = m.1 4 i ∧ ByteR (m.1 4 i)
/-- what reading a token leaves -/
def Nx (rd : Nat) (d m d' m' : Dt) : Prop := (∀ a, a ≠ rd → d'.1 a = d.1 a) ∧ (∀ f, f < 4 → d'.1 rd f = d.1 rd f) ∧ (∀ a, a ≠ 0 → m'.1 a = m.1 a) ∧ ∀ k, k < 8 ∨ 11 < k → m'.1 0 k = m.1 0 k
/-- both behind a token -/
def Lx1 (rd sz ap tk : Nat) (d m : Dt) : Prop := Lx0 rd sz ap d m ∧ (∃ bg, bg ≤ ap ∧ d.1 rd 5 = nI bg ∧ m.1 0 9 = nI bg) ∧ tk ≤ 4 ∧ d.1 rd 6 = nI tk ∧ m.1 0 10 = nI tk ∧ (tk = 2 → ∃ v, v ≤ 99999 ∧ d.1 rd 7 = nI v ∧ m.1 0 11 = nI v)
section
variable {S : Sp} {d m d' m' d'' m'' x y : Dt} {rd sz ap tk a : Nat}
theorem Nx.rf : Nx rd d m d m := ⟨fun _ _ => rfl, fun _ _ => rfl, fun _ _ => rfl, fun _ _ => rfl⟩
theorem Nx.tr (h : Nx rd d m d' m') (g : Nx rd d' m' d'' m'') : Nx rd d m d'' m'' := ⟨fun a b => (g.1 a b).trans (h.1 a b), fun f b => (g.2.1 f b).trans (h.2.1 f b), fun a b => (g.2.2.1 a b).trans (h.2.2.1 a b), fun k b => (g.2.2.2 k b).trans (h.2.2.2 k b)⟩
theorem Nx.sc {f : Nat} {v : Int32} (hf : 4 ≤ f) : Nx rd d m (dI d rd f v) m := ⟨fun a b => dI_ne b, fun j b => dI_nk (by omega), fun _ _ => rfl, fun _ _ => rfl⟩
theorem Nx.sm {k : Nat} {v : Int32} (hk : 8 ≤ k ∧ k ≤ 11) : Nx rd d m d (dI m 0 k v) := ⟨fun _ _ => rfl, fun _ _ => rfl, fun a b => dI_ne b, fun j b => dI_nk (by omega)⟩
theorem RdS.K (h : RdS S rd) : isK S 10 (some rd) = some rd := isK_of h.2.2.1
theorem RdS.F (h : RdS S rd) : WsFix S := h.1
theorem RdS.ext {T : Sp} (h : RdS S rd) (he : Ext S T) : RdS T rd := by
  obtain ⟨h1, h2, h3, h4, h5, h6, h7, h8⟩ := h
  have l1 := (List.getElem?_eq_some_iff.mp h3).1
  have l2 := (List.getElem?_eq_some_iff.mp h7).1
  exact ⟨h1.ext he, h2, (he.1 rd l1).trans h3, by rw [he.2.1 rd l1]; exact h4, by rw [he.2.1 rd l1]; exact h5, by rw [he.2.1 rd l1]; exact h6, (he.1 _ l2).trans h7, fun k hk => by rw [he.2.1 _ l2]; exact h8 k hk⟩
theorem Lx0.keep (h : Lx0 rd sz ap d m) (a2 : d'.1 rd 2 = d.1 rd 2) (a4 : d'.1 rd 4 = d.1 rd 4) (a8 : d'.1 8 = d.1 8) (b4 : m'.1 4 = m.1 4) (b7 : m'.1 0 7 = m.1 0 7) (b8 : m'.1 0 8 = m.1 0 8) : Lx0 rd sz ap d' m' := by
  obtain ⟨h1, h2, h3, h4, h5, h6, h7⟩ := h
  exact ⟨h1, h2, a2.trans h3, b7.trans h4, a4.trans h5, b8.trans h6, fun i hi => by rw [a8, b4]; exact h7 i hi⟩
theorem Lx0.next (h : Lx0 rd sz ap d m) (hrd : 35 ≤ rd) (hlt : ap < sz) (a2 : d'.1 rd 2 = d.1 rd 2) (a4 : d'.1 rd 4 = nI (ap + 1)) (a8 : d'.1 8 = d.1 8) (b4 : m'.1 4 = m.1 4) (b7 : m'.1 0 7 = m.1 0 7) (b8 : m'.1 0 8 = nI (ap + 1)) : Lx0 rd sz (ap + 1) d' m' := by
  obtain ⟨h1, h2, h3, h4, h5, h6, h7⟩ := h
  exact ⟨h1, by omega, a2.trans h3, b7.trans h4, a4, b8, fun i hi => by rw [a8, b4]; exact h7 i hi⟩
theorem isAt_eq (hS : RdS S rd) (h : Lx0 rd sz ap d m) (lo hi : Int32) : Re_isAt rd lo hi S d = some (if ap < sz then inI (m.1 4 ap) lo hi else 0) := by
  obtain ⟨h1, h2, h3, h4, h5, h6, h7⟩ := h
  unfold Re_isAt
  rw [hS.K, Option.bind_some, h3, h5]
  by_cases c : ap < sz
  · rw [if_neg (nI_ge c (by omega)), if_pos c, hS.2.2.2.2.1, ca8 hS.F (show ap < 1000 by omega), Option.bind_some, (h7 ap (by omega)).1, Ws_in_eq, Option.bind_some]
    rcases inI_01 (m.1 4 ap) lo hi with e | e
    · rw [e, if_pos rfl]
    · rw [e, if_neg (show ¬ (1 : Int32) = 0 by decide)]
  · rw [if_pos (nI_le (by omega) (by omega)), if_neg c]
theorem see_eq (h : Lx0 rd sz ap d m) : Mo_see 0 (nI ap) MoS m = some (if ap < sz then m.1 4 ap &&& 255 else -1) := by
  obtain ⟨h1, h2, h3, h4, h5, h6, h7⟩ := h
  unfold Mo_see
  rw [Mo_K, Option.bind_some, h4]
  by_cases c : ap < sz
  · rw [if_neg (nI_ge c (by omega)), if_pos c, MoS_R0_4, ma4 (show ap < 1000 by omega), Option.bind_some]
  · rw [if_pos (nI_le (by omega) (by omega)), if_neg c]
theorem Lx0.mu (h : Lx0 rd sz ap d m) : (d.1 rd 4).toNatClampNeg = ap := by
  obtain ⟨h1, h2, h3, h4, h5, h6, h7⟩ := h
  rw [h5, nI_clamp (by omega)]
/-- a word's letters -/
theorem word_eq (hS : RdS S rd) (h : Lx0 rd sz ap d m) : ∃ d' m' a, Re_next_h83 rd S FU d = some ((), d') ∧ Mo_advance_h83 0 MoS FU m = some ((), m') ∧ Lx0 rd sz a d' m' ∧ ap ≤ a ∧ (a < sz → inI (m'.1 4 a) 97 122 = 0) ∧ (∀ b, b ≠ rd → d'.1 b = d.1 b) ∧ (∀ f, f ≠ 4 → d'.1 rd f = d.1 rd f) ∧ (∀ b, b ≠ 0 → m'.1 b = m.1 b) ∧ (∀ k, k ≠ 8 → k ≠ 10 → m'.1 0 k = m.1 0 k) ∧ m'.1 0 10 = 1 := by
  have hrd := hS.2.1
  have hsz := h.1
  refine loop2_mu (X := fun F x => Re_next_h83 rd S F x) (Y := fun F y => Mo_advance_h83 0 MoS F y) (Inv := fun x y => ∃ a, Lx0 rd sz a x y ∧ ap ≤ a ∧ (∀ b, b ≠ rd → x.1 b = d.1 b) ∧ (∀ f, f ≠ 4 → x.1 rd f = d.1 rd f) ∧ (∀ b, b ≠ 0 → y.1 b = m.1 b) ∧ (∀ k, k ≠ 8 → y.1 0 k = m.1 0 k)) (μ := fun x => sz - (x.1 rd 4).toNatClampNeg) (P := fun o p => ∃ d' m' a, o = some ((), d') ∧ p = some ((), m') ∧ Lx0 rd sz a d' m' ∧ ap ≤ a ∧ (a < sz → inI (m'.1 4 a) 97 122 = 0) ∧ (∀ b, b ≠ rd → d'.1 b = d.1 b) ∧ (∀ f, f ≠ 4 → d'.1 rd f = d.1 rd f) ∧ (∀ b, b ≠ 0 → m'.1 b = m.1 b) ∧ (∀ k, k ≠ 8 → k ≠ 10 → m'.1 0 k = m.1 0 k) ∧ m'.1 0 10 = 1) ?_ 1000 d m FU FU ⟨ap, h, Nat.le_refl _, fun _ _ => rfl, fun _ _ => rfl, fun _ _ => rfl, fun _ _ => rfl⟩ (by omega) (by show _ < 10000; omega) (by show _ < 10000; omega)
  rintro F G x y ⟨a, hx, g1, g2, g3, g4, g5⟩
  have hx8 : y.1 0 8 = nI a := hx.2.2.2.2.2.1
  have hx4 : x.1 rd 4 = nI a := hx.2.2.2.2.1
  have hmu := hx.mu
  by_cases ca : a < sz
  · have hbf := byte_f (hx.2.2.2.2.2.2 a (by omega)).2
    rcases inI_01 (y.1 4 a) 97 122 with e | e
    · have hX : Re_next_h83 rd S (F + 1) x = some ((), x) := by
        rw [Re_next_h83, hS.K, Option.bind_some, isAt_eq hS hx, Option.bind_some, if_pos ca, e, if_pos rfl]
      have hY : Mo_advance_h83 0 MoS (G + 1) y = some ((), dI y 0 10 1) := by
        rw [Mo_advance_h83, Mo_K, Option.bind_some, hx8, see_eq hx, Option.bind_some, if_pos ca, show (97 : Int64) = (97 : Int32).toInt64 from rfl, show (122 : Int64) = (122 : Int32).toInt64 from rfl, Mo_in_eq, Option.bind_some, hbf.1, e, if_pos rfl, Option.bind_some]
      exact Or.inr ⟨x, _, a, hX, hY, hx.keep rfl rfl rfl (dI_ne (by omega)) (dI_nk (by omega)) (dI_nk (by omega)), g1, fun _ => by rw [dI_ne (by omega)]; exact e, g2, g3, fun b hb => (dI_ne hb).trans (g4 b hb), fun k k1 k2 => (dI_nk (by omega)).trans (g5 k k1), dI_at⟩
    · have hX : Re_next_h83 rd S (F + 1) x = Re_next_h83 rd S F (dI x rd 4 (nI (a + 1))) := by
        rw [Re_next_h83, hS.K, Option.bind_some, isAt_eq hS hx, Option.bind_some, if_pos ca, e, if_neg (show ¬ (1 : Int32) = 0 by decide), Option.bind_some, hx4, nI_1]
      have hY : Mo_advance_h83 0 MoS (G + 1) y = Mo_advance_h83 0 MoS G (dI y 0 8 (nI (a + 1))) := by
        rw [Mo_advance_h83, Mo_K, Option.bind_some, hx8, see_eq hx, Option.bind_some, if_pos ca, show (97 : Int64) = (97 : Int32).toInt64 from rfl, show (122 : Int64) = (122 : Int32).toInt64 from rfl, Mo_in_eq, Option.bind_some, hbf.1, e, if_neg (show ¬ (1 : Int32) = 0 by decide), Option.bind_some, nI_1]
      refine Or.inl ⟨_, _, hX, hY, ⟨a + 1, hx.next hrd ca (dI_nk (by omega)) dI_at (dI_ne (by omega)) (dI_ne (by omega)) (dI_nk (by omega)) dI_at, by omega, fun b hb => (dI_ne hb).trans (g2 b hb), fun f hf => (dI_nk (by omega)).trans (g3 f hf), fun b hb => (dI_ne hb).trans (g4 b hb), fun k hk => (dI_nk (by omega)).trans (g5 k hk)⟩, ?_⟩
      show sz - ((dI x rd 4 (nI (a + 1))).1 rd 4).toNatClampNeg < sz - (x.1 rd 4).toNatClampNeg
      rw [dI_at, hmu, nI_clamp (by omega)]
      omega
  · have hX : Re_next_h83 rd S (F + 1) x = some ((), x) := by
      rw [Re_next_h83, hS.K, Option.bind_some, isAt_eq hS hx, Option.bind_some, if_neg ca, if_pos rfl]
    have hY : Mo_advance_h83 0 MoS (G + 1) y = some ((), dI y 0 10 1) := by
      rw [Mo_advance_h83, Mo_K, Option.bind_some, hx8, see_eq hx, Option.bind_some, if_neg ca, show (97 : Int64) = (97 : Int32).toInt64 from rfl, show (122 : Int64) = (122 : Int32).toInt64 from rfl, Mo_in_eq, Option.bind_some, show inI (-1) 97 122 = 0 by decide, if_pos rfl, Option.bind_some]
    exact Or.inr ⟨x, _, a, hX, hY, hx.keep rfl rfl rfl (dI_ne (by omega)) (dI_nk (by omega)) (dI_nk (by omega)), g1, fun z => absurd z ca, g2, g3, fun b hb => (dI_ne hb).trans (g4 b hb), fun k k1 k2 => (dI_nk (by omega)).trans (g5 k k1), dI_at⟩
theorem digit_step {v : Nat} {c : Int32} (hv : v ≤ 99999) (h1 : 48 ≤ c.toInt) (h2 : c.toInt ≤ 57) : ∃ v', v' ≤ 99999 ∧ imin 99999 ((10 * nI v + c) - 48) = nI v' := by
  obtain ⟨k, hk⟩ : ∃ k : Nat, c.toInt = k := ⟨c.toInt.toNat, by omega⟩
  have hc : c = nI k := Int32.toInt_inj.mp (by rw [nI_toInt (by omega)]; exact hk)
  subst hc
  rw [nI_toInt (by omega)] at h1 h2
  rw [show (10 : Int32) * nI v = nI (10 * v) from by rw [nlit, nI_mul], nI_add, show (48 : Int32) = nI 48 from rfl, nI_sub (by omega)]
  unfold imin
  by_cases c9 : 10 * v + k - 48 < 99999
  · rw [if_pos (show nI (10 * v + k - 48) < 99999 from nI_lt (b := 99999) c9 (by omega))]
    exact ⟨_, by omega, rfl⟩
  · rw [if_neg (show ¬ nI (10 * v + k - 48) < 99999 from nI_nlt (b := 99999) (by omega) (by omega))]
    exact ⟨99999, by omega, rfl⟩
/-- a number's digits -/
theorem digits_eq (hS : RdS S rd) (h : Lx0 rd sz ap d m) (hv0 : d.1 rd 7 = 0) (hv1 : m.1 0 11 = 0) : ∃ d' m' a, Re_next_h123 rd S FU d = some ((), d') ∧ Mo_advance_h144 0 MoS FU m = some ((), m') ∧ Lx0 rd sz a d' m' ∧ ap ≤ a ∧ (a < sz → inI (m'.1 4 a) 48 57 = 0) ∧ (∃ v, v ≤ 99999 ∧ d'.1 rd 7 = nI v ∧ m'.1 0 11 = nI v) ∧ (∀ b, b ≠ rd → d'.1 b = d.1 b) ∧ (∀ f, f ≠ 4 → f ≠ 7 → d'.1 rd f = d.1 rd f) ∧ (∀ b, b ≠ 0 → m'.1 b = m.1 b) ∧ (∀ k, k ≠ 8 → k ≠ 10 → k ≠ 11 → m'.1 0 k = m.1 0 k) ∧ m'.1 0 10 = 2 := by
  have hrd := hS.2.1
  have hsz := h.1
  refine loop2_mu (X := fun F x => Re_next_h123 rd S F x) (Y := fun F y => Mo_advance_h144 0 MoS F y) (Inv := fun x y => ∃ a, Lx0 rd sz a x y ∧ ap ≤ a ∧ (∃ v, v ≤ 99999 ∧ x.1 rd 7 = nI v ∧ y.1 0 11 = nI v) ∧ (∀ b, b ≠ rd → x.1 b = d.1 b) ∧ (∀ f, f ≠ 4 → f ≠ 7 → x.1 rd f = d.1 rd f) ∧ (∀ b, b ≠ 0 → y.1 b = m.1 b) ∧ (∀ k, k ≠ 8 → k ≠ 11 → y.1 0 k = m.1 0 k)) (μ := fun x => sz - (x.1 rd 4).toNatClampNeg) (P := fun o p => ∃ d' m' a, o = some ((), d') ∧ p = some ((), m') ∧ Lx0 rd sz a d' m' ∧ ap ≤ a ∧ (a < sz → inI (m'.1 4 a) 48 57 = 0) ∧ (∃ v, v ≤ 99999 ∧ d'.1 rd 7 = nI v ∧ m'.1 0 11 = nI v) ∧ (∀ b, b ≠ rd → d'.1 b = d.1 b) ∧ (∀ f, f ≠ 4 → f ≠ 7 → d'.1 rd f = d.1 rd f) ∧ (∀ b, b ≠ 0 → m'.1 b = m.1 b) ∧ (∀ k, k ≠ 8 → k ≠ 10 → k ≠ 11 → m'.1 0 k = m.1 0 k) ∧ m'.1 0 10 = 2) ?_ 1000 d m FU FU ⟨ap, h, Nat.le_refl _, ⟨0, by omega, hv0, hv1⟩, fun _ _ => rfl, fun _ _ _ => rfl, fun _ _ => rfl, fun _ _ _ => rfl⟩ (by omega) (by show _ < 10000; omega) (by show _ < 10000; omega)
  rintro F G x y ⟨a, hx, g1, ⟨v, v1, v2, v3⟩, g2, g3, g4, g5⟩
  have hx8 : y.1 0 8 = nI a := hx.2.2.2.2.2.1
  have hx4 : x.1 rd 4 = nI a := hx.2.2.2.2.1
  have hmu := hx.mu
  by_cases ca : a < sz
  · obtain ⟨hb1, hb2⟩ := hx.2.2.2.2.2.2 a (by omega)
    have hbf := byte_f hb2
    rcases inI_01 (y.1 4 a) 48 57 with e | e
    · have hX : Re_next_h123 rd S (F + 1) x = some ((), x) := by
        rw [Re_next_h123, hS.K, Option.bind_some, isAt_eq hS hx, Option.bind_some, if_pos ca, e, if_pos rfl]
      have hY : Mo_advance_h144 0 MoS (G + 1) y = some ((), dI y 0 10 2) := by
        rw [Mo_advance_h144, Mo_K, Option.bind_some, hx8, see_eq hx, Option.bind_some, if_pos ca, show (48 : Int64) = (48 : Int32).toInt64 from rfl, show (57 : Int64) = (57 : Int32).toInt64 from rfl, Mo_in_eq, Option.bind_some, hbf.2.1, e, if_pos rfl, Option.bind_some]
      exact Or.inr ⟨x, _, a, hX, hY, hx.keep rfl rfl rfl (dI_ne (by omega)) (dI_nk (by omega)) (dI_nk (by omega)), g1, fun _ => by rw [dI_ne (by omega)]; exact e, ⟨v, v1, v2, (dI_nk (by omega)).trans v3⟩, g2, g3, fun b hb => (dI_ne hb).trans (g4 b hb), fun k k1 k2 k3 => (dI_nk (by omega)).trans (g5 k k1 k3), dI_at⟩
    · obtain ⟨z1, z2, z3⟩ := hbf.2.2.2.2.2.2 e
      obtain ⟨v', w1, w2⟩ := digit_step v1 z2 z3
      have hX : Re_next_h123 rd S (F + 1) x = Re_next_h123 rd S F (dI (dI x rd 7 (nI v')) rd 4 (nI (a + 1))) := by
        rw [Re_next_h123, hS.K, Option.bind_some, isAt_eq hS hx, Option.bind_some, if_pos ca, e, if_neg (show ¬ (1 : Int32) = 0 by decide), hx4, hS.2.2.2.2.1, ca8 hS.F (show a < 1000 by omega), Option.bind_some, Option.bind_some, hb1, v2, w2, Option.bind_some, dI_nk (show ¬ (rd = rd ∧ 4 = 7) by omega), hx4, nI_1]
      have hY : Mo_advance_h144 0 MoS (G + 1) y = Mo_advance_h144 0 MoS G (dI (dI y 0 11 (nI v')) 0 8 (nI (a + 1))) := by
        rw [Mo_advance_h144, Mo_K, Option.bind_some, hx8, see_eq hx, Option.bind_some, if_pos ca, show (48 : Int64) = (48 : Int32).toInt64 from rfl, show (57 : Int64) = (57 : Int32).toInt64 from rfl, Mo_in_eq, Option.bind_some, hbf.2.1, e, if_neg (show ¬ (1 : Int32) = 0 by decide), Option.bind_some, z1, v3, w2, Option.bind_some, Option.bind_some, dI_nk (show ¬ ((0 : Nat) = 0 ∧ 8 = 11) by omega), hx8, nI_1]
      refine Or.inl ⟨_, _, hX, hY, ⟨a + 1, hx.next hrd ca ?_ dI_at ?_ ?_ ?_ dI_at, by omega, ⟨v', w1, ?_, ?_⟩, fun b hb => ?_, fun f f1 f2 => ?_, fun b hb => ?_, fun k k1 k2 => ?_⟩, ?_⟩
      · rw [dI_nk (by omega), dI_nk (by omega)]
      · rw [dI_ne (by omega), dI_ne (by omega)]
      · rw [dI_ne (by omega), dI_ne (by omega)]
      · rw [dI_nk (by omega), dI_nk (by omega)]
      · rw [dI_nk (by omega), dI_at]
      · rw [dI_nk (by omega), dI_at]
      · rw [dI_ne hb, dI_ne hb]; exact g2 b hb
      · rw [dI_nk (by omega), dI_nk (by omega)]; exact g3 f f1 f2
      · rw [dI_ne hb, dI_ne hb]; exact g4 b hb
      · rw [dI_nk (by omega), dI_nk (by omega)]; exact g5 k k1 k2
      · show sz - ((dI (dI x rd 7 (nI v')) rd 4 (nI (a + 1))).1 rd 4).toNatClampNeg < sz - (x.1 rd 4).toNatClampNeg
        rw [dI_at, hmu, nI_clamp (by omega)]
        omega
  · have hX : Re_next_h123 rd S (F + 1) x = some ((), x) := by
      rw [Re_next_h123, hS.K, Option.bind_some, isAt_eq hS hx, Option.bind_some, if_neg ca, if_pos rfl]
    have hY : Mo_advance_h144 0 MoS (G + 1) y = some ((), dI y 0 10 2) := by
      rw [Mo_advance_h144, Mo_K, Option.bind_some, hx8, see_eq hx, Option.bind_some, if_neg ca, show (48 : Int64) = (48 : Int32).toInt64 from rfl, show (57 : Int64) = (57 : Int32).toInt64 from rfl, Mo_in_eq, Option.bind_some, show inI (-1) 48 57 = 0 by decide, if_pos rfl, Option.bind_some]
    exact Or.inr ⟨x, _, a, hX, hY, hx.keep rfl rfl rfl (dI_ne (by omega)) (dI_nk (by omega)) (dI_nk (by omega)), g1, fun z => absurd z ca, ⟨v, v1, v2, (dI_nk (by omega)).trans v3⟩, g2, g3, fun b hb => (dI_ne hb).trans (g4 b hb), fun k k1 k2 k3 => (dI_nk (by omega)).trans (g5 k k1 k3), dI_at⟩
/-- a token -/
theorem next_eq (hS : RdS S rd) (h : Lx0 rd sz ap d m) : ∃ d' m' a tk, Re_next rd S d = some ((), d') ∧ Mo_advance 0 MoS m = some ((), m') ∧ Lx1 rd sz a tk d' m' ∧ ap ≤ a ∧ (tk ≠ 0 → ap < a) ∧ Nx rd d m d' m' := by
  have hrd := hS.2.1
  have hsz := h.1
  unfold Re_next Mo_advance
  refine loop2_mu (X := fun F x => Re_next_h0 rd S F x) (Y := fun F y => Mo_advance_h0 0 MoS F y) (Inv := fun x y => ∃ a, Lx0 rd sz a x y ∧ ap ≤ a ∧ Nx rd d m x y) (μ := fun x => sz - (x.1 rd 4).toNatClampNeg) (P := fun o p => ∃ d' m' a tk, o = some ((), d') ∧ p = some ((), m') ∧ Lx1 rd sz a tk d' m' ∧ ap ≤ a ∧ (tk ≠ 0 → ap < a) ∧ Nx rd d m d' m') ?_ 1000 d m FU FU ⟨ap, h, Nat.le_refl _, Nx.rf⟩ (by omega) (by show _ < 10000; omega) (by show _ < 10000; omega)
  rintro F G x y ⟨a, hx, g1, g2⟩
  have hx8 : y.1 0 8 = nI a := hx.2.2.2.2.2.1
  have hx4 : x.1 rd 4 = nI a := hx.2.2.2.2.1
  have hx2 : x.1 rd 2 = nI sz := hx.2.2.1
  have hmu := hx.mu
  have hskip : ∀ (X : Option (Unit × Dt)) (Y : Option (Unit × Dt)), a < sz → X = Re_next_b22 rd S (Re_next_h0 rd S F) x → Y = Mo_advance_b26 0 MoS (Mo_advance_h0 0 MoS G) y → ∃ x' y', X = Re_next_h0 rd S F x' ∧ Y = Mo_advance_h0 0 MoS G y' ∧ (∃ a, Lx0 rd sz a x' y' ∧ ap ≤ a ∧ Nx rd d m x' y') ∧ sz - (x'.1 rd 4).toNatClampNeg < sz - (x.1 rd 4).toNatClampNeg := by
    intro X Y ca hX hY
    refine ⟨dI x rd 4 (nI (a + 1)), dI y 0 8 (nI (a + 1)), ?_, ?_, ⟨a + 1, hx.next hrd ca (dI_nk (by omega)) dI_at (dI_ne (by omega)) (dI_ne (by omega)) (dI_nk (by omega)) dI_at, by omega, g2.tr ((Nx.sc (by omega)).tr (Nx.sm (by omega)))⟩, ?_⟩
    · rw [hX]
      unfold Re_next_b22
      rw [hS.K, Option.bind_some, hx4, nI_1, Option.bind_some]
    · rw [hY]
      unfold Mo_advance_b26
      rw [Mo_K, Option.bind_some, hx8, nI_1, Option.bind_some]
    · rw [dI_at, hmu, nI_clamp (by omega)]
      omega
  have hlx5 : Lx0 rd sz a (dI (dI x rd 5 (nI a)) rd 7 0) (dI y 0 9 (nI a)) := hx.keep (by rw [dI_nk (by omega), dI_nk (by omega)]) (by rw [dI_nk (by omega), dI_nk (by omega)]) (by rw [dI_ne (by omega), dI_ne (by omega)]) (dI_ne (by omega)) (dI_nk (by omega)) (dI_nk (by omega))
  have d54 : (dI (dI x rd 5 (nI a)) rd 7 0).1 rd 4 = nI a := by rw [dI_nk (by omega), dI_nk (by omega)]; exact hx4
  have d52 : (dI (dI x rd 5 (nI a)) rd 7 0).1 rd 2 = nI sz := by rw [dI_nk (by omega), dI_nk (by omega)]; exact hx2
  have d55 : (dI (dI x rd 5 (nI a)) rd 7 0).1 rd 5 = nI a := by rw [dI_nk (by omega), dI_at]
  have d57 : (dI (dI x rd 5 (nI a)) rd 7 0).1 rd 7 = 0 := dI_at
  have m49 : (dI y 0 9 (nI a)).1 0 9 = nI a := dI_at
  have m48 : (dI y 0 9 (nI a)).1 0 8 = nI a := by rw [dI_nk (by omega)]; exact hx8
  have m44 : (dI y 0 9 (nI a)).1 4 = y.1 4 := dI_ne (by omega)
  have hn5 : Nx rd d m (dI (dI x rd 5 (nI a)) rd 7 0) (dI y 0 9 (nI a)) := g2.tr (((Nx.sc (by omega)).tr (Nx.sc (by omega))).tr (Nx.sm (by omega)))
  obtain ⟨d5, hd5⟩ : ∃ d5, dI (dI x rd 5 (nI a)) rd 7 0 = d5 := ⟨_, rfl⟩
  obtain ⟨m4, hm4⟩ : ∃ m4, dI y 0 9 (nI a) = m4 := ⟨_, rfl⟩
  have hlx6 : Lx0 rd sz a d5 m4 := by rw [← hd5, ← hm4]; exact hlx5
  have e54 : d5.1 rd 4 = nI a := by rw [← hd5]; exact d54
  have e55 : d5.1 rd 5 = nI a := by rw [← hd5]; exact d55
  have e57 : d5.1 rd 7 = 0 := by rw [← hd5]; exact d57
  have n49 : m4.1 0 9 = nI a := by rw [← hm4]; exact m49
  have n48 : m4.1 0 8 = nI a := by rw [← hm4]; exact m48
  have n44 : m4.1 4 = y.1 4 := by rw [← hm4]; exact m44
  have hn6 : Nx rd d m d5 m4 := by rw [← hd5, ← hm4]; exact hn5
  by_cases ca : a < sz
  · have hbf := byte_f (hx.2.2.2.2.2.2 a (by omega)).2
    obtain ⟨b1, b2, b3, b4, b5, b6, b7⟩ := hbf
    by_cases c32 : inI (y.1 4 a) 32 32 = 1
    · left
      refine hskip _ _ ca ?_ ?_
      · rw [Re_next_h0, hS.K, Option.bind_some, isAt_eq hS hx, Option.bind_some, if_pos ca, c32, if_pos (show ¬ (1 : Int32) = 0 by decide)]
      · rw [Mo_advance_h0, Mo_K, Option.bind_some, hx8, see_eq hx, Option.bind_some, if_pos ca, if_pos (b3.mpr c32)]
    have c32' : inI (y.1 4 a) 32 32 = 0 := (inI_01 _ _ _).resolve_right c32
    by_cases c10 : inI (y.1 4 a) 10 10 = 1
    · left
      refine hskip _ _ ca ?_ ?_
      · rw [Re_next_h0, hS.K, Option.bind_some, isAt_eq hS hx, Option.bind_some, if_pos ca, c32', if_neg (show ¬ ¬ (0 : Int32) = 0 from fun z => z rfl), isAt_eq hS hx, Option.bind_some, if_pos ca, c10, if_neg (show ¬ (1 : Int32) = 0 by decide)]
      · rw [Mo_advance_h0, Mo_K, Option.bind_some, hx8, see_eq hx, Option.bind_some, if_pos ca, if_neg (fun z => c32 (b3.mp z)), Option.bind_some, if_neg (show ¬ ¬ y.1 4 a &&& 255 = 10 from fun z => z (b4.mpr c10))]
    have c10' : inI (y.1 4 a) 10 10 = 0 := (inI_01 _ _ _).resolve_right c10
    have hne : ¬ nI a = nI sz := fun z => by
      have := (nI_eq (by omega) (by omega)).mp z
      omega
    right
    rcases inI_01 (y.1 4 a) 97 122 with e | e
    · rcases inI_01 (y.1 4 a) 48 57 with e2 | e2
      · have hpt : ∃ tk, (if inI (y.1 4 a) 59 59 = 0 then (4 : Int32) else 3) = nI tk ∧ (if ¬ y.1 4 a &&& 255 = 59 then (4 : Int32) else 3) = nI tk ∧ (tk = 3 ∨ tk = 4) := by
          rcases inI_01 (y.1 4 a) 59 59 with e3 | e3
          · rw [e3, if_pos rfl, if_pos (fun z => by have := b5.mp z; rw [e3] at this; exact absurd this (by decide))]
            exact ⟨4, rfl, rfl, Or.inr rfl⟩
          · rw [e3, if_neg (show ¬ (1 : Int32) = 0 by decide), if_neg (fun z => z (b5.mpr e3))]
            exact ⟨3, rfl, rfl, Or.inl rfl⟩
        obtain ⟨tk, t1, t2, t3⟩ := hpt
        have hX : Re_next_h0 rd S (F + 1) x = some ((), dI (dI d5 rd 6 (nI tk)) rd 4 (nI (a + 1))) := by
          rw [Re_next_h0, hS.K, Option.bind_some, isAt_eq hS hx, Option.bind_some, if_pos ca, c32', if_neg (show ¬ ¬ (0 : Int32) = 0 from fun z => z rfl), isAt_eq hS hx, Option.bind_some, if_pos ca, c10', if_pos rfl, hx4, Option.bind_some, Option.bind_some, d54, d52, if_pos hne, hd5, isAt_eq hS hlx6, Option.bind_some, if_pos ca, n44, e, if_pos rfl, isAt_eq hS hlx6, Option.bind_some, if_pos ca, n44, e2, if_pos rfl, isAt_eq hS hlx6, Option.bind_some, if_pos ca, n44, t1]
          unfold Re_next_b193
          rw [hS.K, Option.bind_some, Option.bind_some, Option.bind_some, dI_nk (show ¬ (rd = rd ∧ 4 = 6) by omega), e54, nI_1, Option.bind_some]
        have hY : Mo_advance_h0 0 MoS (G + 1) y = some ((), dI (dI m4 0 10 (nI tk)) 0 8 (nI (a + 1))) := by
          rw [Mo_advance_h0, Mo_K, Option.bind_some, hx8, see_eq hx, Option.bind_some, if_pos ca, if_neg (fun z => c32 (b3.mp z)), Option.bind_some, if_pos (show ¬ y.1 4 a &&& 255 = 10 from fun z => c10 (b4.mp z)), Option.bind_some, m48, see_eq hlx5, Option.bind_some, if_pos ca, m44, if_pos b6, show (97 : Int64) = (97 : Int32).toInt64 from rfl, show (122 : Int64) = (122 : Int32).toInt64 from rfl, Mo_in_eq, Option.bind_some, b1, hm4, e, if_pos rfl, show (48 : Int64) = (48 : Int32).toInt64 from rfl, show (57 : Int64) = (57 : Int32).toInt64 from rfl, Mo_in_eq, Option.bind_some, b2, e2, if_pos rfl, t2]
          unfold Mo_advance_b226
          rw [Mo_K, Option.bind_some, Option.bind_some, Option.bind_some, dI_nk (show ¬ ((0 : Nat) = 0 ∧ 8 = 10) by omega), n48, nI_1, Option.bind_some]
        refine ⟨_, _, a + 1, tk, hX, hY, ⟨hlx6.next hrd ca ?_ dI_at ?_ ?_ ?_ dI_at, ⟨a, by omega, ?_, ?_⟩, by omega, ?_, ?_, fun z => by omega⟩, by omega, fun _ => by omega, hn6.tr (((Nx.sc (by omega)).tr (Nx.sc (by omega))).tr ((Nx.sm (by omega)).tr (Nx.sm (by omega))))⟩
        · rw [dI_nk (by omega), dI_nk (by omega)]
        · rw [dI_ne (by omega), dI_ne (by omega)]
        · rw [dI_ne (by omega), dI_ne (by omega)]
        · rw [dI_nk (by omega), dI_nk (by omega)]
        · rw [dI_nk (by omega), dI_nk (by omega)]; exact e55
        · rw [dI_nk (by omega), dI_nk (by omega)]; exact n49
        · rw [dI_nk (by omega), dI_at]
        · rw [dI_nk (by omega), dI_at]
      · have hlx7 : Lx0 rd sz a (dI d5 rd 6 2) (dI m4 0 11 0) := hlx6.keep (dI_nk (by omega)) (dI_nk (by omega)) (dI_ne (by omega)) (dI_ne (by omega)) (dI_nk (by omega)) (dI_nk (by omega))
        obtain ⟨d', m', a', z1, z2, z3, z4, z5, z6, z7, z8, z9, z10, z11⟩ := digits_eq hS hlx7 ((dI_nk (by omega)).trans e57) dI_at
        have hX : Re_next_h0 rd S (F + 1) x = some ((), d') := by
          rw [Re_next_h0, hS.K, Option.bind_some, isAt_eq hS hx, Option.bind_some, if_pos ca, c32', if_neg (show ¬ ¬ (0 : Int32) = 0 from fun z => z rfl), isAt_eq hS hx, Option.bind_some, if_pos ca, c10', if_pos rfl, hx4, Option.bind_some, Option.bind_some, d54, d52, if_pos hne, hd5, isAt_eq hS hlx6, Option.bind_some, if_pos ca, n44, e, if_pos rfl, isAt_eq hS hlx6, Option.bind_some, if_pos ca, n44, e2, if_neg (show ¬ (1 : Int32) = 0 by decide), Option.bind_some]
          exact z1
        have hY : Mo_advance_h0 0 MoS (G + 1) y = some ((), m') := by
          rw [Mo_advance_h0, Mo_K, Option.bind_some, hx8, see_eq hx, Option.bind_some, if_pos ca, if_neg (fun z => c32 (b3.mp z)), Option.bind_some, if_pos (show ¬ y.1 4 a &&& 255 = 10 from fun z => c10 (b4.mp z)), Option.bind_some, m48, see_eq hlx5, Option.bind_some, if_pos ca, m44, if_pos b6, show (97 : Int64) = (97 : Int32).toInt64 from rfl, show (122 : Int64) = (122 : Int32).toInt64 from rfl, Mo_in_eq, Option.bind_some, b1, hm4, e, if_pos rfl, show (48 : Int64) = (48 : Int32).toInt64 from rfl, show (57 : Int64) = (57 : Int32).toInt64 from rfl, Mo_in_eq, Option.bind_some, b2, e2, if_neg (show ¬ (1 : Int32) = 0 by decide), Option.bind_some]
          exact z2
        have hlt : a < a' := by
          by_cases cc : a = a'
          · subst cc
            have := z5 ca
            rw [z9 4 (by omega), dI_ne (by omega), n44, e2] at this
            exact absurd this (by decide)
          · omega
        refine ⟨d', m', a', 2, hX, hY, ⟨z3, ⟨a, z4, ?_, ?_⟩, by omega, ?_, z11, fun _ => z6⟩, by omega, fun _ => by omega, hn6.tr ⟨fun b hb => (z7 b hb).trans (dI_ne hb), fun f hf => (z8 f (by omega) (by omega)).trans (dI_nk (by omega)), fun b hb => (z9 b hb).trans (dI_ne hb), fun k hk => (z10 k (by omega) (by omega) (by omega)).trans (dI_nk (by omega))⟩⟩
        · rw [z8 5 (by omega) (by omega), dI_nk (by omega)]; exact e55
        · rw [z10 9 (by omega) (by omega) (by omega), dI_nk (by omega)]; exact n49
        · rw [z8 6 (by omega) (by omega), dI_at]; rfl
    · have hlx7 : Lx0 rd sz a (dI d5 rd 6 1) m4 := hlx6.keep (dI_nk (by omega)) (dI_nk (by omega)) (dI_ne (by omega)) rfl rfl rfl
      obtain ⟨d', m', a', z1, z2, z3, z4, z5, z7, z8, z9, z10, z11⟩ := word_eq hS hlx7
      have hX : Re_next_h0 rd S (F + 1) x = some ((), d') := by
        rw [Re_next_h0, hS.K, Option.bind_some, isAt_eq hS hx, Option.bind_some, if_pos ca, c32', if_neg (show ¬ ¬ (0 : Int32) = 0 from fun z => z rfl), isAt_eq hS hx, Option.bind_some, if_pos ca, c10', if_pos rfl, hx4, Option.bind_some, Option.bind_some, d54, d52, if_pos hne, hd5, isAt_eq hS hlx6, Option.bind_some, if_pos ca, n44, e, if_neg (show ¬ (1 : Int32) = 0 by decide), Option.bind_some]
        exact z1
      have hY : Mo_advance_h0 0 MoS (G + 1) y = some ((), m') := by
        rw [Mo_advance_h0, Mo_K, Option.bind_some, hx8, see_eq hx, Option.bind_some, if_pos ca, if_neg (fun z => c32 (b3.mp z)), Option.bind_some, if_pos (show ¬ y.1 4 a &&& 255 = 10 from fun z => c10 (b4.mp z)), Option.bind_some, m48, see_eq hlx5, Option.bind_some, if_pos ca, m44, if_pos b6, show (97 : Int64) = (97 : Int32).toInt64 from rfl, show (122 : Int64) = (122 : Int32).toInt64 from rfl, Mo_in_eq, Option.bind_some, b1, hm4, e, if_neg (show ¬ (1 : Int32) = 0 by decide)]
        exact z2
      have hlt : a < a' := by
        by_cases cc : a = a'
        · subst cc
          have := z5 ca
          rw [z9 4 (by omega), n44, e] at this
          exact absurd this (by decide)
        · omega
      refine ⟨d', m', a', 1, hX, hY, ⟨z3, ⟨a, z4, ?_, ?_⟩, by omega, ?_, z11, fun z => by omega⟩, by omega, fun _ => by omega, hn6.tr ⟨fun b hb => (z7 b hb).trans (dI_ne hb), fun f hf => (z8 f (by omega)).trans (dI_nk (by omega)), fun b hb => z9 b hb, fun k hk => z10 k (by omega) (by omega)⟩⟩
      · rw [z8 5 (by omega), dI_nk (by omega)]; exact e55
      · rw [z10 9 (by omega) (by omega)]; exact n49
      · rw [z8 6 (by omega), dI_at]; rfl
  · have hasz : a = sz := by have := hx.2.1; omega
    have hX : Re_next_h0 rd S (F + 1) x = some ((), dI d5 rd 6 0) := by
      rw [Re_next_h0, hS.K, Option.bind_some, isAt_eq hS hx, Option.bind_some, if_neg ca, if_neg (show ¬ ¬ (0 : Int32) = 0 from fun z => z rfl), isAt_eq hS hx, Option.bind_some, if_neg ca, if_pos rfl, hx4, Option.bind_some, Option.bind_some, d54, d52, hasz, if_neg (show ¬ ¬ nI sz = nI sz from fun z => z rfl), Option.bind_some, ← hasz, hd5]
    have hY : Mo_advance_h0 0 MoS (G + 1) y = some ((), dI m4 0 10 0) := by
      rw [Mo_advance_h0, Mo_K, Option.bind_some, hx8, see_eq hx, Option.bind_some, if_neg ca, if_neg (show ¬ (-1 : Int32) = 32 by decide), Option.bind_some, if_pos (show ¬ (-1 : Int32) = 10 by decide), Option.bind_some, m48, see_eq hlx5, Option.bind_some, if_neg ca, if_neg (show ¬ ¬ (-1 : Int32) = -1 from fun z => z rfl), Option.bind_some, hm4]
    exact Or.inr ⟨_, _, a, 0, hX, hY, ⟨hlx6.keep (dI_nk (by omega)) (dI_nk (by omega)) (dI_ne (by omega)) (dI_ne (by omega)) (dI_nk (by omega)) (dI_nk (by omega)), ⟨a, Nat.le_refl _, (dI_nk (by omega)).trans e55, (dI_nk (by omega)).trans n49⟩, by omega, dI_at, dI_at, fun z => by omega⟩, g1, fun z => absurd rfl z, hn6.tr ((Nx.sc (by omega)).tr (Nx.sm (by omega)))⟩
end
