/-! THE RUN: the model's climbs -/
set_option maxRecDepth 100000
section
variable {w : Nat → Int32} {q : TdP} {u k kh kg r b t : Nat} {kj : Nat → Nat} {S0 S S' : Sp} {d0 m0 d e f e1 e2 f1 f2 : Dt} {op cl : Nat → Nat} {W : Int32} {F0 : Int32 × (Nat → Int32)} {P V P' V' : Nat → Prop}
theorem RE.m (h : RE S e1 e w q op cl) (k : KrM e f) : RE S e1 f w q op cl := h.go Ext.rf KrC.rf k
theorem RsM.kr (hr : RsM w q k P V e f) : KrM e f := ⟨fun a h1 h2 => hr.2.2.2.2.1 a (by omega) (by omega) (by omega) (by omega) (by omega) (by omega), fun j _ => by rw [hr.2.2.2.2.1 0 (by omega) (by omega) (by omega) (by omega) (by omega) (by omega)]⟩
theorem RsM.re (h : RE S e1 e w q op cl) (hr : RsM w q k P V e f) : RE S e1 f w q op cl := h.m hr.kr
theorem mr_eq (h : RE S e1 e w q op cl) (hk : k < 200) (ht : t < q.nt) : ∃ f, Mo_restarts 0 (nI t) (nI k) MoS e = some ((), f) ∧ RsM w q k (fun s => s = t) (fun _ => False) e f := by
  have h5 := h.C.nt5
  obtain ⟨hpw, hp4, hp60⟩ := h.C.per ht
  have hR : RE S e1 (dI e 15 t (-1)) w q op cl := h.m (KrM.rf.dI (by omega))
  unfold Mo_restarts
  rw [Mo_K, Option.bind_some, MoS_R0_29, ma15 (show t < 5 by omega), Option.bind_some, Option.bind_some, hR.per ht, Option.bind_some, gz_ok (nI_ne0 (by omega) (by omega)), Option.bind_some, Option.bind_some, MoS_R0_28, ma14 (show t < 5 by omega), Option.bind_some, Option.bind_some, MoS_R0_33, ma19 (show t < 5 by omega), Option.bind_some, Option.bind_some, MoS_R0_34, ma20 (show t < 5 by omega), Option.bind_some, Option.bind_some, MoS_R0_35, ma21 (show t < 5 by omega), Option.bind_some, Option.bind_some, pk_div (by omega) (by omega) (by omega), nI_1, nI_mul]
  refine ⟨_, rfl, fun s hs e => ?_, fun s hs e => ?_, fun i _ z => (WkI.no z).elim, fun i _ _ => ?_, fun a h1 h2 h3 h4 h5 h6 => ?_, rfl⟩
  · subst e
    unfold nxS
    refine ⟨?_, ?_, ?_, ?_, ?_⟩
    all_goals simp [dI, u2]
    decide
  · simp [dI, u2, e]
  · simp [dI, u2]
  · funext j
    simp [dI, u2, h1, h2, h3, h4, h5]
theorem mk_eq (h : RE S e1 e w q op cl) (hk : k < 200) {v : Nat} (hv : v < q.nw) : ∃ f, Mo_wakes 0 (nI v) (nI k) MoS e = some ((), f) ∧ RsM w q k (fun _ => False) (fun s => s = v) e f := by
  have hni := h.C.ni18
  have h3 := h.C.nw3
  unfold Mo_wakes
  refine loop_FU (X := fun F (x : Int32 × Dt) => Mo_wakes_h2 0 (nI v) (nI k) MoS F x.1 x.2) (Inv := fun i x => x.1 = nI i ∧ (∀ j, j < i → WkI w q k (fun s => s = v) j → x.2.1 34 j = 1) ∧ (∀ j, ¬ (j < i ∧ WkI w q k (fun s => s = v) j) → x.2.1 34 j = e.1 34 j) ∧ (∀ a, a ≠ 34 → x.2.1 a = e.1 a) ∧ x.2.2 = e.2) (P := fun o => ∃ f, o = some ((), f) ∧ RsM w q k (fun _ => False) (fun s => s = v) e f) (x := (0, e)) q.ni (by omega) ⟨rfl, fun j hj => absurd hj (by omega), fun _ _ => rfl, fun _ _ => rfl, rfl⟩ ?_ ?_
  · rintro i hi F ⟨x, y⟩ ⟨hx, g1, g2, g3, g4⟩
    have hx' : x = nI i := hx
    subst hx'
    have g3' : ∀ a, a ≠ 34 → y.1 a = e.1 a := g3
    have hR : RE S e1 y w q op cl := h.m ⟨fun a _ _ => g3' a (by omega), fun j _ => by rw [g3' 0 (by omega)]⟩
    have hno : ¬ WkI w q k (fun s => s = v) i → ∃ x' : Int32 × Dt, Mo_wakes_h2 0 (nI v) (nI k) MoS F (nI (i + 1)) y = Mo_wakes_h2 0 (nI v) (nI k) MoS F x'.1 x'.2 ∧ x'.1 = nI (i + 1) ∧ (∀ j, j < i + 1 → WkI w q k (fun s => s = v) j → x'.2.1 34 j = 1) ∧ (∀ j, ¬ (j < i + 1 ∧ WkI w q k (fun s => s = v) j) → x'.2.1 34 j = e.1 34 j) ∧ (∀ a, a ≠ 34 → x'.2.1 a = e.1 a) ∧ x'.2.2 = e.2 := fun hW => ⟨(nI (i + 1), y), rfl, rfl, fun j hj z => by
      by_cases c : j = i
      · subst c; exact absurd z hW
      · exact g1 j (by omega) z, fun j z => g2 j (fun z' => z ⟨by omega, z'.2⟩), g3, g4⟩
    show ∃ x' : Int32 × Dt, Mo_wakes_h2 0 (nI v) (nI k) MoS (F + 1) (nI i) y = _ ∧ _
    rw [Mo_wakes_h2, Mo_K, Option.bind_some, hR.inj, Option.bind_some, if_neg (nI_ge hi (by omega)), hR.of0 hi, Option.bind_some, nI_1]
    by_cases c1 : w (106 + 5 * i) = 5
    · rw [if_neg (fun z => z c1), show Mo_of 0 (nI i) 1 MoS y = _ from hR.of hi (f := 1) (by omega), Option.bind_some]
      by_cases c2 : w (106 + 5 * i + 1) = nI v
      · rw [if_neg (fun z => z c2), show Mo_of 0 (nI i) 2 MoS y = _ from hR.of hi (f := 2) (by omega), Option.bind_some]
        obtain ⟨j, hj, hj9⟩ : ∃ j, w (106 + 5 * i + 2) = nI j ∧ j < 1000 := by
          rcases hR.C.iw hi with ⟨v', j, k0, k1, k2, k3, k4, k5, k6⟩ | ⟨k, s, j, tm, k0, k1, k2, k3, k4, k5, k6, k7, k8, k9⟩
          · exact ⟨j, k3, by omega⟩
          · exact ⟨j, k4, by omega⟩
        rw [hj]
        by_cases c3 : k < j
        · rw [if_pos (nI_lt c3 (by omega))]
          refine hno (fun ⟨_, v', j', z1, z2, _, _, z3⟩ => ?_)
          have hh := hj.symm.trans z2
          have := (nI_eq (by omega) (by omega)).mp hh
          omega
        · rw [if_neg (nI_nlt (by omega) (by omega)), MoS_R0_48, ma34 (show i < 19 by omega), Option.bind_some, Option.bind_some]
          have hW : WkI w q k (fun s => s = v) i := ⟨c1, v, j, c2, hj, hv, rfl, by omega⟩
          refine ⟨(nI (i + 1), _), rfl, rfl, fun o ho z => ?_, fun o z => ?_, fun a ha => (u2_row ha).trans (g3 a ha), g4⟩
          · by_cases c : o = i
            · subst c
              exact dI_at.trans (by decide)
            · exact (dI_nk (by omega)).trans (g1 o (by omega) z)
          · by_cases c : o = i
            · subst c
              exact absurd ⟨by omega, hW⟩ z
            · exact (dI_nk (by omega)).trans (g2 o (fun z' => z ⟨by omega, z'.2⟩))
      · rw [if_pos c2]
        refine hno (fun ⟨_, v', j', z1, z2, z4, z5, z3⟩ => ?_)
        exact c2 (z1.trans (congrArg nI z5))
    · rw [if_pos c1]
      exact hno (fun z => c1 z.1)
  · rintro F ⟨x, y⟩ ⟨hx, g1, g2, g3, g4⟩
    have hx' : x = nI q.ni := hx
    subst hx'
    have g3' : ∀ a, a ≠ 34 → y.1 a = e.1 a := g3
    have hR : RE S e1 y w q op cl := h.m ⟨fun a _ _ => g3' a (by omega), fun j _ => by rw [g3' 0 (by omega)]⟩
    show ∃ f, Mo_wakes_h2 0 (nI v) (nI k) MoS (F + 1) (nI q.ni) y = _ ∧ _
    rw [Mo_wakes_h2, Mo_K, Option.bind_some, hR.inj, Option.bind_some, if_pos (nI_le (Nat.le_refl _) (by omega))]
    exact ⟨y, rfl, fun _ _ z => z.elim, fun t _ _ => ⟨by rw [g3' 14 (by omega)], by rw [g3' 15 (by omega)], by rw [g3' 19 (by omega)], by rw [g3' 20 (by omega)], by rw [g3' 21 (by omega)]⟩, fun i hi z => g1 i hi z, fun i hi z => g2 i (fun y => z y.2), fun a _ _ _ _ _ ha => g3 a ha, g4⟩
theorem rs_loop (h : RE S e1 e w q op cl) (hk : k < 200) {X : Nat → Int32 → Dt → Option (Unit × Dt)} {Q : Nat → Prop} (cont : Dt → Option (Unit × Dt)) (hs : ∀ F i y, i < q.nt → RE S e1 y w q op cl → (Q i → ∀ f, Mo_restarts 0 (nI i) (nI k) MoS y = some ((), f) → X (F + 1) (nI i) y = X F (nI (i + 1)) f) ∧ (¬ Q i → X (F + 1) (nI i) y = X F (nI (i + 1)) y)) (he : ∀ F y, RE S e1 y w q op cl → X (F + 1) (nI q.nt) y = cont y) : ∃ f, X FU 0 e = cont f ∧ RsM w q k Q (fun _ => False) e f := by
  have h5 := h.C.nt5
  refine loop_FU (X := fun F (x : Int32 × Dt) => X F x.1 x.2) (Inv := fun i x => x.1 = nI i ∧ RsM w q k (fun s => s < i ∧ Q s) (fun _ => False) e x.2) (P := fun o => ∃ f, o = cont f ∧ RsM w q k Q (fun _ => False) e f) (x := (0, e)) q.nt (by omega) ⟨rfl, RsM.rf.iff (fun t ht => ⟨fun z => z.elim, fun z => absurd z.1 (by omega)⟩) (fun _ _ => Iff.rfl)⟩ ?_ ?_
  · rintro i hi F ⟨x, y⟩ ⟨hx, g⟩
    have hx' : x = nI i := hx
    subst hx'
    have g' : RsM w q k (fun s => s < i ∧ Q s) (fun _ => False) e y := g
    have hR := g'.re h
    obtain ⟨s1, s2⟩ := hs F i y hi hR
    by_cases c : Q i
    · obtain ⟨f, r1, r2⟩ := mr_eq hR hk hi
      refine ⟨(nI (i + 1), f), s1 c f r1, rfl, (g'.tr r2).iff (fun s hs => ?_) (fun _ _ => ⟨fun z => z.elim id id, fun z => Or.inl z⟩)⟩
      constructor
      · rintro (⟨z1, z2⟩ | z1)
        · exact ⟨by omega, z2⟩
        · subst z1
          exact ⟨by omega, c⟩
      · rintro ⟨z1, z2⟩
        by_cases z3 : s = i
        · exact Or.inr z3
        · exact Or.inl ⟨by omega, z2⟩
    · refine ⟨(nI (i + 1), y), s2 c, rfl, g'.iff (fun s hs => ?_) (fun _ _ => Iff.rfl)⟩
      constructor
      · rintro ⟨z1, z2⟩
        exact ⟨by omega, z2⟩
      · rintro ⟨z1, z2⟩
        refine ⟨?_, z2⟩
        by_cases z3 : s = i
        · subst z3
          exact absurd z2 c
        · omega
  · rintro F ⟨x, y⟩ ⟨hx, g⟩
    have hx' : x = nI q.nt := hx
    subst hx'
    have g' : RsM w q k (fun s => s < q.nt ∧ Q s) (fun _ => False) e y := g
    exact ⟨y, he F y (g'.re h), g'.iff (fun s hs => ⟨fun z => z.2, fun z => ⟨hs, z⟩⟩) (fun _ _ => Iff.rfl)⟩
theorem wk_loop (h : RE S e1 e w q op cl) (hk : k < 200) {X : Nat → Int32 → Dt → Option (Unit × Dt)} {Q : Nat → Prop} (cont : Dt → Option (Unit × Dt)) (hs : ∀ F i y, i < q.nw → RE S e1 y w q op cl → (Q i → ∀ f, Mo_wakes 0 (nI i) (nI k) MoS y = some ((), f) → X (F + 1) (nI i) y = X F (nI (i + 1)) f) ∧ (¬ Q i → X (F + 1) (nI i) y = X F (nI (i + 1)) y)) (he : ∀ F y, RE S e1 y w q op cl → X (F + 1) (nI q.nw) y = cont y) : ∃ f, X FU 0 e = cont f ∧ RsM w q k (fun _ => False) Q e f := by
  have h5 := h.C.nw3
  refine loop_FU (X := fun F (x : Int32 × Dt) => X F x.1 x.2) (Inv := fun i x => x.1 = nI i ∧ RsM w q k (fun _ => False) (fun s => s < i ∧ Q s) e x.2) (P := fun o => ∃ f, o = cont f ∧ RsM w q k (fun _ => False) Q e f) (x := (0, e)) q.nw (by omega) ⟨rfl, RsM.rf.iff (fun _ _ => Iff.rfl) (fun t ht => ⟨fun z => z.elim, fun z => absurd z.1 (by omega)⟩)⟩ ?_ ?_
  · rintro i hi F ⟨x, y⟩ ⟨hx, g⟩
    have hx' : x = nI i := hx
    subst hx'
    have g' : RsM w q k (fun _ => False) (fun s => s < i ∧ Q s) e y := g
    have hR := g'.re h
    obtain ⟨s1, s2⟩ := hs F i y hi hR
    by_cases c : Q i
    · obtain ⟨f, r1, r2⟩ := mk_eq hR hk hi
      refine ⟨(nI (i + 1), f), s1 c f r1, rfl, (g'.tr r2).iff (fun _ _ => ⟨fun z => z.elim id id, fun z => Or.inl z⟩) (fun s hs => ?_)⟩
      constructor
      · rintro (⟨z1, z2⟩ | z1)
        · exact ⟨by omega, z2⟩
        · subst z1
          exact ⟨by omega, c⟩
      · rintro ⟨z1, z2⟩
        by_cases z3 : s = i
        · exact Or.inr z3
        · exact Or.inl ⟨by omega, z2⟩
    · refine ⟨(nI (i + 1), y), s2 c, rfl, g'.iff (fun _ _ => Iff.rfl) (fun s hs => ?_)⟩
      constructor
      · rintro ⟨z1, z2⟩
        exact ⟨by omega, z2⟩
      · rintro ⟨z1, z2⟩
        refine ⟨?_, z2⟩
        by_cases z3 : s = i
        · subst z3
          exact absurd z2 c
        · omega
  · rintro F ⟨x, y⟩ ⟨hx, g⟩
    have hx' : x = nI q.nw := hx
    subst hx'
    have g' : RsM w q k (fun _ => False) (fun s => s < q.nw ∧ Q s) e y := g
    exact ⟨y, he F y (g'.re h), g'.iff (fun _ _ => Iff.rfl) (fun s hs => ⟨fun z => z.2, fun z => ⟨hs, z⟩⟩)⟩
theorem mc0 (h : RE S e1 e w q op cl) (hk : k < 200) (ht : t < q.nt) {p3 : Int32} : ∃ f, Mo_climbs 0 0 (nI t) p3 (nI k) MoS e = some ((), f) ∧ RsM w q k (fun s => s = t) (fun _ => False) e f := by
  obtain ⟨f, r1, r2⟩ := mr_eq h hk ht
  refine ⟨f, ?_, r2⟩
  unfold Mo_climbs Mo_climbs_b11 Mo_climbs_b55 Mo_climbs_b67
  rw [if_neg (fun z => z rfl), Mo_K, Option.bind_some, r1, bind2_some, if_pos (by decide), if_pos (by decide), if_neg (by decide)]
theorem mc1 (h : RE S e1 e w q op cl) (hk : k < 200) {v : Nat} {p2 : Int32} : ∃ f, Mo_climbs 0 1 p2 (nI v) (nI k) MoS e = some ((), f) ∧ RsM w q k (fun s => w (11 + 7 * s) = nI v) (fun _ => False) e f := by
  have h5 := h.C.nt5
  unfold Mo_climbs
  rw [if_pos (by decide)]
  unfold Mo_climbs_b11
  rw [if_neg (by decide)]
  refine rs_loop h hk (X := fun F x y => Mo_climbs_h19 0 1 p2 (nI v) (nI k) MoS F x y) (fun y => some ((), y)) (fun F i y hi hR => ?_) (fun F y hR => ?_)
  · have hb : Mo_climbs_h19 0 1 p2 (nI v) (nI k) MoS (F + 1) (nI i) y = (if ¬ w (11 + 7 * i) = nI v then Mo_climbs_h19 0 1 p2 (nI v) (nI k) MoS F (nI (i + 1)) y else bind2 (Mo_restarts 0 (nI i) (nI k) MoS y) fun _ d11 => Mo_climbs_h19 0 1 p2 (nI v) (nI k) MoS F (nI (i + 1)) d11) := by
      rw [Mo_climbs_h19, Mo_K, Option.bind_some, hR.m4.1, Option.bind_some, hR.m4.2, if_neg (nI_ge hi (by omega)), show Mo_toldOf 0 (nI i) 0 MoS y = _ from hR.told hi (f := 0) (by omega), Option.bind_some, nI_1]
      rfl
    refine ⟨fun c f hf => ?_, fun c => ?_⟩
    · show Mo_climbs_h19 0 1 p2 (nI v) (nI k) MoS (F + 1) (nI i) y = _
      rw [hb, if_neg (fun z => z c), hf, bind2_some]
    · show Mo_climbs_h19 0 1 p2 (nI v) (nI k) MoS (F + 1) (nI i) y = _
      rw [hb, if_pos c]
  · show Mo_climbs_h19 0 1 p2 (nI v) (nI k) MoS (F + 1) (nI q.nt) y = _
    rw [Mo_climbs_h19, Mo_K, Option.bind_some, hR.m4.1, Option.bind_some, hR.m4.2, if_pos (nI_le (Nat.le_refl _) (by omega))]
    unfold Mo_climbs_b55 Mo_climbs_b67
    rw [if_pos (by decide), if_neg (by decide)]
theorem mc2 (h : RE S e1 e w q op cl) (hk : k < 200) {c : Nat} (hc : c < 3) {p2 : Int32} : ∃ f, Mo_climbs 0 2 p2 (nI c) (nI k) MoS e = some ((), f) ∧ RsM w q k (fun s => ∃ v, v < q.nw ∧ U w c v = true ∧ w (11 + 7 * s) = nI v) (fun v => v < q.nw ∧ U w c v = true) e f := by
  have h5 := h.C.nt5
  have h3 := h.C.nw3
  obtain ⟨f, r1, r2⟩ := rs_loop h hk (X := fun F x y => Mo_resets_h2 0 (nI c) (nI k) MoS F x y) (Q := fun s => ∃ v, v < q.nw ∧ U w c v = true ∧ w (11 + 7 * s) = nI v) (fun y => Mo_resets_h40 0 (nI c) (nI k) MoS FU 0 y) (fun F i y hi hR => by
    obtain ⟨a, a1, a2, -⟩ := hR.C.wat hi
    have hb : Mo_resets_h2 0 (nI c) (nI k) MoS (F + 1) (nI i) y = (if U w c a = true then bind2 (Mo_restarts 0 (nI i) (nI k) MoS y) fun _ d11 => Mo_resets_h2 0 (nI c) (nI k) MoS F (nI (i + 1)) d11 else Mo_resets_h2 0 (nI c) (nI k) MoS F (nI (i + 1)) y) := by
      rw [Mo_resets_h2, Mo_K, Option.bind_some, hR.m4.1, Option.bind_some, hR.m4.2, if_neg (nI_ge hi (by omega)), show Mo_toldOf 0 (nI i) 0 MoS y = _ from hR.told hi (f := 0) (by omega), Option.bind_some, show w (11 + 7 * i + 0) = nI a from a2, hR.under hc a1, Option.bind_some, nI_1]
      by_cases c4 : U w c a = true
      · rw [if_pos c4, if_pos c4, if_neg (by decide)]
      · rw [if_neg c4, if_neg c4, if_pos rfl]
    refine ⟨fun ⟨v, v1, v2, v3⟩ f hf => ?_, fun z => ?_⟩
    · have hva : v = a := (nI_eq (by omega) (by omega)).mp (v3.symm.trans a2)
      subst hva
      show Mo_resets_h2 0 (nI c) (nI k) MoS (F + 1) (nI i) y = _
      rw [hb, if_pos v2, hf, bind2_some]
    · show Mo_resets_h2 0 (nI c) (nI k) MoS (F + 1) (nI i) y = _
      rw [hb, if_neg (fun z' => z ⟨a, a1, z', a2⟩)]) (fun F y hR => by
    show Mo_resets_h2 0 (nI c) (nI k) MoS (F + 1) (nI q.nt) y = _
    rw [Mo_resets_h2, Mo_K, Option.bind_some, hR.m4.1, Option.bind_some, hR.m4.2, if_pos (nI_le (Nat.le_refl _) (by omega))])
  have hR2 := r2.re h
  obtain ⟨f', r3, r4⟩ := wk_loop hR2 hk (X := fun F x y => Mo_resets_h40 0 (nI c) (nI k) MoS F x y) (Q := fun v => v < q.nw ∧ U w c v = true) (fun y => some ((), y)) (fun F i y hi hR => by
    have hb : Mo_resets_h40 0 (nI c) (nI k) MoS (F + 1) (nI i) y = (if U w c i = true then bind2 (Mo_wakes 0 (nI i) (nI k) MoS y) fun _ d11 => Mo_resets_h40 0 (nI c) (nI k) MoS F (nI (i + 1)) d11 else Mo_resets_h40 0 (nI c) (nI k) MoS F (nI (i + 1)) y) := by
      rw [Mo_resets_h40, Mo_K, Option.bind_some, hR.m3.1, Option.bind_some, hR.m3.2, if_neg (nI_ge hi (by omega)), hR.under hc hi, Option.bind_some, nI_1]
      by_cases c4 : U w c i = true
      · rw [if_pos c4, if_pos c4, if_neg (by decide)]
      · rw [if_neg c4, if_neg c4, if_pos rfl]
    refine ⟨fun ⟨_, v2⟩ f hf => ?_, fun z => ?_⟩
    · show Mo_resets_h40 0 (nI c) (nI k) MoS (F + 1) (nI i) y = _
      rw [hb, if_pos v2, hf, bind2_some]
    · show Mo_resets_h40 0 (nI c) (nI k) MoS (F + 1) (nI i) y = _
      rw [hb, if_neg (fun z' => z ⟨hi, z'⟩)]) (fun F y hR => by
    show Mo_resets_h40 0 (nI c) (nI k) MoS (F + 1) (nI q.nw) y = _
    rw [Mo_resets_h40, Mo_K, Option.bind_some, hR.m3.1, Option.bind_some, hR.m3.2, if_pos (nI_le (Nat.le_refl _) (by omega))])
  have hr : Mo_resets 0 (nI c) (nI k) MoS e = some ((), f') := by
    unfold Mo_resets
    exact r1.trans r3
  refine ⟨f', ?_, (r2.tr r4).iff (fun s _ => ⟨fun z => z.elim id (fun y => y.elim), fun z => Or.inl z⟩) (fun v _ => ⟨fun z => z.elim (fun y => y.elim) id, fun z => Or.inr z⟩)⟩
  unfold Mo_climbs
  rw [if_pos (by decide)]
  unfold Mo_climbs_b11
  rw [if_pos (by decide)]
  unfold Mo_climbs_b55
  rw [if_neg (by decide), Mo_K, Option.bind_some, hr, bind2_some]
  unfold Mo_climbs_b67
  rw [if_neg (by decide)]
theorem mc3 (h : RE S e1 e w q op cl) (hk : k < 200) (hb : e.1 0 57 = nI b) (hb3 : b < 3) {p2 p3 : Int32} : ∃ f d2, Mo_climbs 0 3 p2 p3 (nI k) MoS e = some ((), f) ∧ RsM w q k (fun _ => True) (fun v => v < q.nw) e d2 ∧ (∀ a, a ≠ 0 → f.1 a = d2.1 a) ∧ (∀ j, j ≠ 57 → j ≠ 58 → j ≠ 59 → f.1 0 j = d2.1 0 j) ∧ f.1 0 57 = nI (b + 1) ∧ f.1 0 58 = 1 ∧ f.1 0 59 = (if b + 1 = 3 then nI k else e.1 0 59) ∧ f.2 = d2.2 := by
  have h5 := h.C.nt5
  have h3 := h.C.nw3
  obtain ⟨d1, r1, r2⟩ := rs_loop h hk (X := fun F x y => Mo_climbs_h76 0 3 p2 p3 (nI k) MoS F x y) (Q := fun s => True) (fun y => Mo_climbs_h104 0 3 p2 p3 (nI k) MoS FU 0 y) (fun F i y hi hR => by
    refine ⟨fun _ f hf => ?_, fun z => absurd trivial z⟩
    show Mo_climbs_h76 0 3 p2 p3 (nI k) MoS (F + 1) (nI i) y = _
    rw [Mo_climbs_h76, Mo_K, Option.bind_some, hR.m4.1, Option.bind_some, hR.m4.2, if_neg (nI_ge hi (by omega)), hf, bind2_some, nI_1]) (fun F y hR => by
    show Mo_climbs_h76 0 3 p2 p3 (nI k) MoS (F + 1) (nI q.nt) y = _
    rw [Mo_climbs_h76, Mo_K, Option.bind_some, hR.m4.1, Option.bind_some, hR.m4.2, if_pos (nI_le (Nat.le_refl _) (by omega))])
  have hR2 := r2.re h
  obtain ⟨d2, r3, r4⟩ := wk_loop hR2 hk (X := fun F x y => Mo_climbs_h104 0 3 p2 p3 (nI k) MoS F x y) (Q := fun v => v < q.nw) (fun y => (some (dI y 0 58 1)).bind fun d21 => (some (dI d21 0 57 ((d21.1 0 57) + 1))).bind fun d22 => if ¬ (d22.1 0 57) = 3 then some ((), d22) else (some (dI d22 0 59 (nI k))).bind fun d23 => some ((), d23)) (fun F i y hi hR => by
    refine ⟨fun _ f hf => ?_, fun z => absurd hi z⟩
    show Mo_climbs_h104 0 3 p2 p3 (nI k) MoS (F + 1) (nI i) y = _
    rw [Mo_climbs_h104, Mo_K, Option.bind_some, hR.m3.1, Option.bind_some, hR.m3.2, if_neg (nI_ge hi (by omega)), hf, bind2_some, nI_1]) (fun F y hR => by
    show Mo_climbs_h104 0 3 p2 p3 (nI k) MoS (F + 1) (nI q.nw) y = _
    rw [Mo_climbs_h104, Mo_K, Option.bind_some, hR.m3.1, Option.bind_some, hR.m3.2, if_pos (nI_le (Nat.le_refl _) (by omega))])
  have r5 : RsM w q k (fun _ => True) (fun v => v < q.nw) e d2 := (r2.tr r4).iff (fun s _ => ⟨fun _ => trivial, fun z => Or.inl z⟩) (fun v _ => ⟨fun z => z.elim (fun y => y.elim) id, fun z => Or.inr z⟩)
  have e0 : d2.1 0 = e.1 0 := r5.2.2.2.2.1 0 (by omega) (by omega) (by omega) (by omega) (by omega) (by omega)
  have hfin : Mo_climbs 0 3 p2 p3 (nI k) MoS e = (some (dI d2 0 58 1)).bind fun d21 => (some (dI d21 0 57 ((d21.1 0 57) + 1))).bind fun d22 => if ¬ (d22.1 0 57) = 3 then some ((), d22) else (some (dI d22 0 59 (nI k))).bind fun d23 => some ((), d23) := by
    rw [← r3, ← r1]
    unfold Mo_climbs
    rw [if_pos (by decide)]
    unfold Mo_climbs_b11
    rw [if_pos (by decide)]
    unfold Mo_climbs_b55
    rw [if_pos (by decide)]
    unfold Mo_climbs_b67
    rw [if_pos (by decide)]
  rw [hfin, Option.bind_some, dI_nk (by omega), e0, hb, nI_1, Option.bind_some, dI_at]
  by_cases c3 : b + 1 = 3
  · rw [if_neg (fun z => z (by rw [c3]; rfl)), Option.bind_some]
    refine ⟨_, d2, rfl, r5, fun v h0 => ?_, fun f f1 f2 f3 => ?_, ?_, ?_, ?_, rfl⟩
    · rw [dI_ne h0, dI_ne h0, dI_ne h0]
    · rw [dI_nk (by omega), dI_nk (by omega), dI_nk (by omega)]
    · rw [dI_nk (by omega), dI_at]
    · rw [dI_nk (by omega), dI_nk (by omega), dI_at]
    · rw [dI_at, if_pos c3]
  · rw [if_pos (show ¬ nI (b + 1) = 3 from fun z => c3 ((nI_eq (b := 3) (by omega) (by omega)).mp z))]
    refine ⟨_, d2, rfl, r5, fun v h0 => ?_, fun f f1 f2 f3 => ?_, ?_, ?_, ?_, rfl⟩
    · rw [dI_ne h0, dI_ne h0]
    · rw [dI_nk (by omega), dI_nk (by omega)]
    · rw [dI_at]
    · rw [dI_nk (by omega), dI_at]
    · rw [dI_nk (by omega), dI_nk (by omega), if_neg c3, e0]
end
