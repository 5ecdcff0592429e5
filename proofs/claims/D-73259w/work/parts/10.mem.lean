/-! MEMORY: a pure picture of all the program's cells, and the kit's world of it -/
set_option maxRecDepth 100000
abbrev Sp : Type := List (Nat × Nat) × (Nat → Nat → Option Nat) × Nat × Nat
abbrev Dt : Type := (Nat → Nat → Int32) × (Nat → Nat → UInt32) × (Nat → Nat → UInt64)
def OPQ : Nat := 1000000000
/-- one place of a table changed; a whole row of it made anew -/
def u2 {α : Type} (f : Nat → Nat → α) (a k : Nat) (x : α) : Nat → Nat → α := fun b j => if b = a ∧ j = k then x else f b j
def z2 {α : Type} (f : Nat → Nat → α) (a : Nat) (x : α) : Nat → Nat → α := fun b j => if b = a then x else f b j
theorem u2_at {α : Type} {f : Nat → Nat → α} {a k : Nat} {x : α} : u2 f a k x a k = x := if_pos ⟨rfl, rfl⟩
theorem u2_ne {α : Type} {f : Nat → Nat → α} {a k b j : Nat} {x : α} (h : ¬ (b = a ∧ j = k)) : u2 f a k x b j = f b j := if_neg h
theorem u2_ap {α : Type} (f : Nat → Nat → α) (a k : Nat) (x : α) (b j : Nat) : u2 f a k x b j = if b = a ∧ j = k then x else f b j := rfl
theorem z2_ap {α : Type} (f : Nat → Nat → α) (a : Nat) (x : α) (b j : Nat) : z2 f a x b j = if b = a then x else f b j := rfl
/-! classes and array classes, by number -/
def TN_ : u_T := fun _ => ("", "", "", false)
def tyN_ : Nat → FieldType := fun _ => .int
abbrev mmCl : List vw_C := [(RX0, TX0, 36), (RX1, TX1, 9), (RX2, TX2, 1), (RX3, TX3, 2), (RX4, TX4, 3), (RX5, TX5, 4), (RX7, TN_, 0), (RX8, TN_, 0), (RX9, TX9, 20), (RX10, TX10, 62), (RX11, TX11, 8), (RX12, TX12, 8), (RX13, TX13, 9), (RX14, TX14, 5), (RX15, TX15, 6), (RX16, TX16, 2), (RJ2, TJ2, 3), (RJ17, TJ17, 6)]
def mmN (c : Nat) : Nat := match mmCl[c]? with
  | some q => q.2.2
  | none => 0
def mmTy (c : Nat) : Nat → FieldType := match c with
  | 0 => tyX0 | 1 => tyX1 | 2 => tyX2 | 3 => tyX3 | 4 => tyX4 | 5 => tyX5 | 6 => tyN_ | 7 => tyN_ | 8 => tyX9 | 9 => tyX10 | 10 => tyX11 | 11 => tyX12 | 12 => tyX13 | 13 => tyX14 | 14 => tyX15 | 15 => tyX16 | 16 => tyJ2 | _ => tyJ17
/-- the array classes: int, boolean, byte, float, double, Told, Rung, Life, Object, String, TaskNote, WatcherNote -/
abbrev mmA : List FieldType := [.int, .boolean, .byte, .float, .double, .object "WatchStack$Told", .object "WatchStack$Rung", .object "WatchStack$Life", .object "java/lang/Object", .object "java/lang/String", .object "WatchStack$TaskNote", .object "WatchStack$WatcherNote"]
def mmAt (t : Nat) : FieldType := mmA.getD t .int
/-- where a value of a type lies: 0 ints, 1 floats, 2 doubles, 3 references -/
def mmK (t : FieldType) : Nat := match t with
  | .float => 1
  | .double => 2
  | .object _ => 3
  | .array _ => 3
  | _ => 0
/-- the value at place k of the cell v -/
def mmV (t : Nat) (ρ : Nat → Nat) (S : Sp) (d : Dt) (v k : Nat) : Value := match t with
  | 0 => .int (d.1 v k)
  | 1 => .float (d.2.1 v k)
  | 2 => .double (d.2.2 v k)
  | _ => va_rf ((S.2.1 v k).map ρ)
def mmC (t : Nat) (ρ : Nat → Nat) (S : Sp) (d : Dt) (v : Nat) : (Nat → Int32) ⊕ (Nat → Int64) ⊕ (Nat → UInt32) ⊕ (Nat → UInt64) ⊕ (Nat → Option Nat) := match t with
  | 0 => .inl (d.1 v)
  | 1 => .inr (.inr (.inl (d.2.1 v)))
  | 2 => .inr (.inr (.inr (.inl (d.2.2 v))))
  | _ => .inr (.inr (.inr (.inr (fun j => (S.2.1 v j).map ρ))))
/-- a rung's fields are all its WatchStack -/
def mmF (c : Nat) (ρ : Nat → Nat) (S : Sp) (d : Dt) (v : Nat) : List Value :=
  if 50 ≤ c ∧ c ≤ 5 then (List.range (mmN c)).map (fun _ => va_rf ((S.2.1 v 0).map ρ)) else (List.range (mmN c)).map (fun k => mmV (mmK (mmTy c k)) ρ S d v k)
/-- shape (c, _), c < 50: an object of class c; (50 + t, n): an array of class t, of length n -/
def mmE (dA : Nat → ClassId) (ρ : Nat → Nat) (S : Sp) (d : Dt) (v : Nat) (sh : Nat × Nat) : va_E :=
  if sh.1 < 50 then .inr (sh.1, mmF sh.1 ρ S d v)
  else .inl (dA (sh.1 - 50), sh.2, mmC (mmK (mmAt (sh.1 - 50))) ρ S d v)
def mmW (dA : Nat → ClassId) (ρ : Nat → Nat) (S : Sp) (d : Dt) : va_W := S.1.mapIdx (fun v sh => (ρ v, mmE dA ρ S d v sh))
theorem mmW_get {dA : Nat → ClassId} {ρ : Nat → Nat} {S : Sp} {d : Dt} {v : Nat} {sh : Nat × Nat} (h : S.1[v]? = some sh) : (mmW dA ρ S d)[v]? = some (ρ v, mmE dA ρ S d v sh) := by
  simp [mmW, h]
theorem mmW_inv {dA : Nat → ClassId} {ρ : Nat → Nat} {S : Sp} {d : Dt} {v : Nat} {q : Nat × va_E} (h : (mmW dA ρ S d)[v]? = some q) : ∃ sh, S.1[v]? = some sh ∧ q = (ρ v, mmE dA ρ S d v sh) := by
  simp only [mmW, List.getElem?_mapIdx, Option.map_eq_some_iff] at h
  obtain ⟨sh, h1, h2⟩ := h
  exact ⟨sh, h1, h2.symm⟩
theorem mmW_len {dA : Nat → ClassId} {ρ : Nat → Nat} {S : Sp} {d : Dt} : (mmW dA ρ S d).length = S.1.length := by simp [mmW]
/-- one cell of the world changed -/
theorem mmW_set {dA : Nat → ClassId} {ρ : Nat → Nat} {S S' : Sp} {d d' : Dt} {v : Nat} {sh : Nat × Nat} {E : va_E} (hv : S.1[v]? = some sh) (hS : S'.1 = S.1) (ho : ∀ i sh', S.1[i]? = some sh' → i ≠ v → mmE dA ρ S' d' i sh' = mmE dA ρ S d i sh') (he : mmE dA ρ S' d' v sh = E) :
    mmW dA ρ S' d' = (mmW dA ρ S d).set v (ρ v, E) := by
  apply List.ext_getElem?
  intro i
  by_cases hi : i = v
  · subst hi
    have hl : i < (mmW dA ρ S d).length := by
      rw [mmW_len]
      exact (List.getElem?_eq_some_iff.mp hv).1
    rw [List.getElem?_set_self hl, mmW_get (S := S') (sh := sh) (by rw [hS]; exact hv), he]
  · rw [List.getElem?_set_ne (Ne.symm hi)]
    simp only [mmW, List.getElem?_mapIdx, hS]
    cases hq : S.1[i]? with
    | none => rfl
    | some sh' =>
      show some (ρ i, mmE dA ρ S' d' i sh') = some (ρ i, mmE dA ρ S d i sh')
      rw [ho i sh' hq hi]
/-! the four stores -/
theorem mmV_i0 {t : Nat} {ρ : Nat → Nat} {S : Sp} {d : Dt} {v k i j : Nat} {x : Int32} (h : ¬ (i = v ∧ j = k)) : mmV t ρ S (u2 d.1 v k x, d.2) i j = mmV t ρ S d i j := by
  unfold mmV
  split <;> simp [u2_ne h]
theorem mmV_f0 {t : Nat} {ρ : Nat → Nat} {S : Sp} {d : Dt} {v k i j : Nat} {x : UInt32} (h : ¬ (i = v ∧ j = k)) : mmV t ρ S (d.1, u2 d.2.1 v k x, d.2.2) i j = mmV t ρ S d i j := by
  unfold mmV
  split <;> simp [u2_ne h]
theorem mmV_d0 {t : Nat} {ρ : Nat → Nat} {S : Sp} {d : Dt} {v k i j : Nat} {x : UInt64} (h : ¬ (i = v ∧ j = k)) : mmV t ρ S (d.1, d.2.1, u2 d.2.2 v k x) i j = mmV t ρ S d i j := by
  unfold mmV
  split <;> simp [u2_ne h]
theorem mmV_r0 {t : Nat} {ρ : Nat → Nat} {S : Sp} {d : Dt} {v k i j : Nat} {x : Option Nat} (h : ¬ (i = v ∧ j = k)) : mmV t ρ (S.1, u2 S.2.1 v k x, S.2.2) d i j = mmV t ρ S d i j := by
  unfold mmV
  split <;> simp [u2_ne h]
/-- another cell than v: as it was, where nothing but v's row differs -/
theorem mmE_ne {dA : Nat → ClassId} {ρ : Nat → Nat} {S S' : Sp} {d d' : Dt} {i : Nat} {sh : Nat × Nat} (h1 : d'.1 i = d.1 i) (h2 : d'.2.1 i = d.2.1 i) (h3 : d'.2.2 i = d.2.2 i) (h4 : S'.2.1 i = S.2.1 i) : mmE dA ρ S' d' i sh = mmE dA ρ S d i sh := by
  unfold mmE
  split
  · congr 2
    unfold mmF
    split
    · rw [h4]
    · apply List.map_congr_left
      intro k _
      unfold mmV
      split <;> simp [h1, h2, h3, h4]
  · congr 3
    unfold mmC
    split <;> simp [h1, h2, h3, h4]
theorem u2_row {α : Type} {f : Nat → Nat → α} {a k i : Nat} {x : α} (h : i ≠ a) : u2 f a k x i = f i := by
  funext j
  exact u2_ne (fun q => h q.1)
theorem mm_range_set {n k : Nat} {f g : Nat → Value} {x : Value} (hk : k < n) (he : g k = x) (ho : ∀ j, j ≠ k → g j = f j) : (List.range n).map g = ((List.range n).map f).set k x := by
  apply List.ext_getElem?
  intro j
  by_cases hj : j = k
  · subst hj
    rw [List.getElem?_set_self (by simpa using hk)]
    simp [hk, he]
  · rw [List.getElem?_set_ne (Ne.symm hj)]
    simp only [List.getElem?_map]
    cases hq : (List.range n)[j]? with
    | none => rfl
    | some q =>
      have : q = j := by
        have h1 := List.getElem?_eq_some_iff.mp hq
        obtain ⟨h2, h3⟩ := h1
        rw [List.getElem_range] at h3
        exact h3.symm
      subst this
      simp [ho _ hj]
theorem mmF_get {c k : Nat} {ρ : Nat → Nat} {S : Sp} {d : Dt} {v : Nat} (hk : k < mmN c) (hc : ¬ (50 ≤ c ∧ c ≤ 5)) : (mmF c ρ S d v)[k]? = some (mmV (mmK (mmTy c k)) ρ S d v k) := by
  unfold mmF
  rw [if_neg hc]
  simp [hk]
theorem mmF_getR {c k : Nat} {ρ : Nat → Nat} {S : Sp} {d : Dt} {v : Nat} (hk : k < mmN c) (hc : 50 ≤ c ∧ c ≤ 5) : (mmF c ρ S d v)[k]? = some (va_rf ((S.2.1 v 0).map ρ)) := by
  unfold mmF
  rw [if_pos hc]
  simp [hk]
theorem mmF_len {c : Nat} {ρ : Nat → Nat} {S : Sp} {d : Dt} {v : Nat} : (mmF c ρ S d v).length = mmN c := by
  unfold mmF
  split <;> simp
theorem mmE_obj {dA : Nat → ClassId} {ρ : Nat → Nat} {S : Sp} {d : Dt} {v c n : Nat} (h : c < 50) : mmE dA ρ S d v (c, n) = .inr (c, mmF c ρ S d v) := if_pos h
theorem mmE_arr {dA : Nat → ClassId} {ρ : Nat → Nat} {S : Sp} {d : Dt} {v t n : Nat} : mmE dA ρ S d v (50 + t, n) = .inl (dA t, n, mmC (mmK (mmAt t)) ρ S d v) := by
  unfold mmE
  rw [if_neg (by simp)]
  simp
section
variable {dA : Nat → ClassId} {ρ : Nat → Nat} {S : Sp} {d : Dt} {v k c n t : Nat}
theorem mmW_putI {x : Int32} (hv : S.1[v]? = some (c, n)) (hc : c < 50) (hr : ¬ (50 ≤ c ∧ c ≤ 5)) (hk : k < mmN c) (ht : mmK (mmTy c k) = 0) : mmW dA ρ S (u2 d.1 v k x, d.2) = (mmW dA ρ S d).set v (ρ v, .inr (c, (mmF c ρ S d v).set k (.int x))) := by
  refine mmW_set hv rfl (fun i sh' _ hi => mmE_ne (u2_row hi) rfl rfl rfl) ?_
  rw [mmE_obj hc]
  congr 2
  unfold mmF
  rw [if_neg hr, if_neg hr]
  exact mm_range_set hk (by rw [ht]; simp [mmV, u2_at]) (fun j hj => mmV_i0 (fun q => hj q.2))
theorem mmW_putF {x : UInt32} (hv : S.1[v]? = some (c, n)) (hc : c < 50) (hr : ¬ (50 ≤ c ∧ c ≤ 5)) (hk : k < mmN c) (ht : mmK (mmTy c k) = 1) : mmW dA ρ S (d.1, u2 d.2.1 v k x, d.2.2) = (mmW dA ρ S d).set v (ρ v, .inr (c, (mmF c ρ S d v).set k (.float x))) := by
  refine mmW_set hv rfl (fun i sh' _ hi => mmE_ne rfl (u2_row hi) rfl rfl) ?_
  rw [mmE_obj hc]
  congr 2
  unfold mmF
  rw [if_neg hr, if_neg hr]
  exact mm_range_set hk (by rw [ht]; simp [mmV, u2_at]) (fun j hj => mmV_f0 (fun q => hj q.2))
theorem mmW_putD {x : UInt64} (hv : S.1[v]? = some (c, n)) (hc : c < 50) (hr : ¬ (50 ≤ c ∧ c ≤ 5)) (hk : k < mmN c) (ht : mmK (mmTy c k) = 2) : mmW dA ρ S (d.1, d.2.1, u2 d.2.2 v k x) = (mmW dA ρ S d).set v (ρ v, .inr (c, (mmF c ρ S d v).set k (.double x))) := by
  refine mmW_set hv rfl (fun i sh' _ hi => mmE_ne rfl rfl (u2_row hi) rfl) ?_
  rw [mmE_obj hc]
  congr 2
  unfold mmF
  rw [if_neg hr, if_neg hr]
  exact mm_range_set hk (by rw [ht]; simp [mmV, u2_at]) (fun j hj => mmV_d0 (fun q => hj q.2))
theorem mmW_putR {x : Option Nat} (hv : S.1[v]? = some (c, n)) (hc : c < 50) (hr : ¬ (50 ≤ c ∧ c ≤ 5)) (hk : k < mmN c) (ht : mmK (mmTy c k) = 3) : mmW dA ρ (S.1, u2 S.2.1 v k x, S.2.2) d = (mmW dA ρ S d).set v (ρ v, .inr (c, (mmF c ρ S d v).set k (va_rf (x.map ρ)))) := by
  refine mmW_set hv rfl (fun i sh' _ hi => mmE_ne rfl rfl rfl (u2_row hi)) ?_
  rw [mmE_obj hc]
  congr 2
  unfold mmF
  rw [if_neg hr, if_neg hr]
  exact mm_range_set hk (by rw [ht]; simp [mmV, u2_at]) (fun j hj => mmV_r0 (fun q => hj q.2))
theorem mmW_astI {x : Int32} (hv : S.1[v]? = some (50 + t, n)) (ht : mmK (mmAt t) = 0) : mmW dA ρ S (u2 d.1 v k x, d.2) = (mmW dA ρ S d).set v (ρ v, .inl (dA t, n, .inl (upd (d.1 v) k x))) := by
  refine mmW_set hv rfl (fun i sh' _ hi => mmE_ne (u2_row hi) rfl rfl rfl) ?_
  rw [mmE_arr, ht]
  refine congrArg (fun z : ((Nat → Int32) ⊕ (Nat → Int64) ⊕ (Nat → UInt32) ⊕ (Nat → UInt64) ⊕ (Nat → Option Nat)) => (Sum.inl (dA t, n, z) : va_E)) ?_
  refine congrArg (fun z => (Sum.inl z : ((Nat → Int32) ⊕ (Nat → Int64) ⊕ (Nat → UInt32) ⊕ (Nat → UInt64) ⊕ (Nat → Option Nat)))) (funext fun j => ?_)
  by_cases hj : j = k
  · subst hj; simp [u2_at, upd]
  · simp [u2, upd, hj]
theorem mmW_astF {x : UInt32} (hv : S.1[v]? = some (50 + t, n)) (ht : mmK (mmAt t) = 1) : mmW dA ρ S (d.1, u2 d.2.1 v k x, d.2.2) = (mmW dA ρ S d).set v (ρ v, .inl (dA t, n, .inr (.inr (.inl (vf_upd (d.2.1 v) k x))))) := by
  refine mmW_set hv rfl (fun i sh' _ hi => mmE_ne rfl (u2_row hi) rfl rfl) ?_
  rw [mmE_arr, ht]
  refine congrArg (fun z : ((Nat → Int32) ⊕ (Nat → Int64) ⊕ (Nat → UInt32) ⊕ (Nat → UInt64) ⊕ (Nat → Option Nat)) => (Sum.inl (dA t, n, z) : va_E)) ?_
  refine congrArg (fun z => (Sum.inr (Sum.inr (Sum.inl z)) : ((Nat → Int32) ⊕ (Nat → Int64) ⊕ (Nat → UInt32) ⊕ (Nat → UInt64) ⊕ (Nat → Option Nat)))) (funext fun j => ?_)
  by_cases hj : j = k
  · subst hj; simp [u2_at, vf_upd]
  · simp [u2, vf_upd, hj]
theorem mmW_astD {x : UInt64} (hv : S.1[v]? = some (50 + t, n)) (ht : mmK (mmAt t) = 2) : mmW dA ρ S (d.1, d.2.1, u2 d.2.2 v k x) = (mmW dA ρ S d).set v (ρ v, .inl (dA t, n, .inr (.inr (.inr (.inl (vf_upd (d.2.2 v) k x)))))) := by
  refine mmW_set hv rfl (fun i sh' _ hi => mmE_ne rfl rfl (u2_row hi) rfl) ?_
  rw [mmE_arr, ht]
  refine congrArg (fun z : ((Nat → Int32) ⊕ (Nat → Int64) ⊕ (Nat → UInt32) ⊕ (Nat → UInt64) ⊕ (Nat → Option Nat)) => (Sum.inl (dA t, n, z) : va_E)) ?_
  refine congrArg (fun z => (Sum.inr (Sum.inr (Sum.inr (Sum.inl z))) : ((Nat → Int32) ⊕ (Nat → Int64) ⊕ (Nat → UInt32) ⊕ (Nat → UInt64) ⊕ (Nat → Option Nat)))) (funext fun j => ?_)
  by_cases hj : j = k
  · subst hj; simp [u2_at, vf_upd]
  · simp [u2, vf_upd, hj]
theorem mmW_astR {x : Option Nat} (hv : S.1[v]? = some (50 + t, n)) (ht : mmK (mmAt t) = 3) : mmW dA ρ (S.1, u2 S.2.1 v k x, S.2.2) d = (mmW dA ρ S d).set v (ρ v, .inl (dA t, n, .inr (.inr (.inr (.inr (va_up (fun j => (S.2.1 v j).map ρ) k (x.map ρ))))))) := by
  refine mmW_set hv rfl (fun i sh' _ hi => mmE_ne rfl rfl rfl (u2_row hi)) ?_
  rw [mmE_arr, ht]
  refine congrArg (fun z : ((Nat → Int32) ⊕ (Nat → Int64) ⊕ (Nat → UInt32) ⊕ (Nat → UInt64) ⊕ (Nat → Option Nat)) => (Sum.inl (dA t, n, z) : va_E)) ?_
  refine congrArg (fun z => (Sum.inr (Sum.inr (Sum.inr (Sum.inr z))) : ((Nat → Int32) ⊕ (Nat → Int64) ⊕ (Nat → UInt32) ⊕ (Nat → UInt64) ⊕ (Nat → Option Nat)))) (funext fun j => ?_)
  by_cases hj : j = k
  · subst hj; simp [u2_at, va_up]
  · simp [u2, va_up, hj]
end
/-! references: which are of this memory -/
def okR (S : Sp) (t : Nat) : Prop := t < S.1.length ∨ OPQ ≤ t
def okO (S : Sp) (o : Option Nat) : Prop := ∀ t, o = some t → okR S t
def okV (S : Sp) (x : Value) : Prop := ∀ t, x = .ref t → okR S t
def Cl (S : Sp) : Prop := ∀ v k t, S.2.1 v k = some t → okR S t
def cvV (ρ : Nat → Nat) (x : Value) : Value := match x with
  | .ref a => .ref (ρ a)
  | y => y
theorem cvV_rf {ρ : Nat → Nat} (o : Option Nat) : cvV ρ (va_rf o) = va_rf (o.map ρ) := by cases o <;> rfl
theorem okV_rf {S : Sp} {o : Option Nat} : okV S (va_rf o) ↔ okO S o := by
  cases o with
  | none => exact ⟨fun _ _ h => (by cases h), fun _ _ h => (by cases h)⟩
  | some a => exact ⟨fun h t e => h t (by cases e; rfl), fun h t e => h t (by cases e; rfl)⟩
theorem okV_int {S : Sp} {x : Int32} : okV S (.int x) := fun _ h => nomatch h
theorem okV_long {S : Sp} {x : Int64} : okV S (.long x) := fun _ h => nomatch h
theorem okV_float {S : Sp} {x : UInt32} : okV S (.float x) := fun _ h => nomatch h
theorem okV_double {S : Sp} {x : UInt64} : okV S (.double x) := fun _ h => nomatch h
theorem okO_none {S : Sp} : okO S none := fun _ h => nomatch h
theorem okO_some {S : Sp} {t : Nat} (h : okR S t) : okO S (some t) := fun _ e => by cases e; exact h
/-- memories that follow: no shape is lost, the room only grows -/
def Le (S S' : Sp) : Prop := S.1 <+: S'.1 ∧ S.2.2.1 ≤ S'.2.2.1 ∧ S.2.2.2 ≤ S'.2.2.2
theorem Le.rf {S : Sp} : Le S S := ⟨List.prefix_refl _, Nat.le_refl _, Nat.le_refl _⟩
theorem Le.tr {S T U : Sp} (h : Le S T) (g : Le T U) : Le S U := ⟨h.1.trans g.1, Nat.le_trans h.2.1 g.2.1, Nat.le_trans h.2.2 g.2.2⟩
theorem Le.len {S T : Sp} (h : Le S T) : S.1.length ≤ T.1.length := h.1.length_le
theorem Le.ok {S T : Sp} (h : Le S T) {t : Nat} (k : okR S t) : okR T t := k.elim (fun q => Or.inl (Nat.lt_of_lt_of_le q h.len)) Or.inr
theorem Le.okV {S T : Sp} (h : Le S T) {x : Value} (k : okV S x) : okV T x := fun t e => h.ok (k t e)
theorem Le.at {S T : Sp} (h : Le S T) {v : Nat} {sh : Nat × Nat} (k : S.1[v]? = some sh) : T.1[v]? = some sh := by
  obtain ⟨w, hw⟩ := h.1
  rw [← hw, List.getElem?_append_left (List.getElem?_eq_some_iff.mp k).1]
  exact k
theorem mm_map_congr {S : Sp} {ρ ρ' : Nat → Nat} (h : ∀ t, okR S t → ρ' t = ρ t) {o : Option Nat} (ho : okO S o) : o.map ρ' = o.map ρ := by
  cases o with
  | none => rfl
  | some a => simp [h a (ho a rfl)]
theorem cvV_congr {S : Sp} {ρ ρ' : Nat → Nat} (h : ∀ t, okR S t → ρ' t = ρ t) {x : Value} (ho : okV S x) : cvV ρ' x = cvV ρ x := by
  cases x <;> try rfl
  case ref a => simp [cvV, h a (ho a rfl)]
theorem cvV_list {S : Sp} {ρ ρ' : Nat → Nat} (h : ∀ t, okR S t → ρ' t = ρ t) {l : List Value} (ho : ∀ x ∈ l, okV S x) : l.map (cvV ρ') = l.map (cvV ρ) := List.map_congr_left (fun x hx => cvV_congr h (ho x hx))
theorem mmE_congr {dA : Nat → ClassId} {S S' : Sp} {ρ ρ' : Nat → Nat} {d d' : Dt} (h : ∀ t, okR S t → ρ' t = ρ t) (hC : Cl S) {v : Nat} {sh : Nat × Nat} (h1 : d'.1 v = d.1 v) (h2 : d'.2.1 v = d.2.1 v) (h3 : d'.2.2 v = d.2.2 v) (h4 : S'.2.1 v = S.2.1 v) : mmE dA ρ' S' d' v sh = mmE dA ρ S d v sh := by
  have hm : ∀ k, (S.2.1 v k).map ρ' = (S.2.1 v k).map ρ := fun k => mm_map_congr h (fun t e => hC v k t e)
  rw [mmE_ne (S := S) (d := d) h1 h2 h3 h4]
  unfold mmE
  split
  · congr 2
    unfold mmF
    split
    · simp [hm]
    · apply List.map_congr_left
      intro k _
      unfold mmV
      split <;> simp [hm]
  · congr 3
    unfold mmC
    split <;> simp [hm]
/-- a new cell at the end -/
def mmNew (S : Sp) (sh : Nat × Nat) (k : Nat) : Sp := (S.1 ++ [sh], z2 S.2.1 S.1.length none, S.2.2.1 + 1, S.2.2.2 + k)
def mmNewD (S : Sp) (d : Dt) : Dt := (z2 d.1 S.1.length 0, z2 d.2.1 S.1.length 0, z2 d.2.2 S.1.length 0)
def mmRho (S : Sp) (ρ : Nat → Nat) (q : Nat) : Nat → Nat := fun x => if x = S.1.length then q else ρ x
theorem mmNew_le {S : Sp} {sh : Nat × Nat} {k : Nat} : Le S (mmNew S sh k) := ⟨List.prefix_append _ _, Nat.le_succ _, Nat.le_add_right _ _⟩
theorem mmNew_at {S : Sp} {sh : Nat × Nat} {k : Nat} : (mmNew S sh k).1[S.1.length]? = some sh := by simp [mmNew]
theorem mmNew_ok {S : Sp} {sh : Nat × Nat} {k : Nat} : okR (mmNew S sh k) S.1.length := Or.inl (by simp [mmNew])
theorem mmRho_eq {S : Sp} {ρ : Nat → Nat} {q : Nat} (hn : S.1.length < OPQ) : ∀ t, okR S t → mmRho S ρ q t = ρ t := by
  intro t ht
  refine if_neg (fun e => ?_)
  rcases ht with h | h <;> omega
theorem mmRho_at {S : Sp} {ρ : Nat → Nat} {q : Nat} : mmRho S ρ q S.1.length = q := if_pos rfl
theorem mmNew_cl {S : Sp} {sh : Nat × Nat} {k : Nat} (h : Cl S) : Cl (mmNew S sh k) := by
  intro v j t e
  simp only [mmNew, z2] at e
  split at e
  · cases e
  · exact mmNew_le.ok (h v j t e)
theorem z2_row {α : Type} {f : Nat → Nat → α} {a i : Nat} {x : α} (h : i ≠ a) : z2 f a x i = f i := by
  funext j
  exact if_neg h
theorem mmW_new {dA : Nat → ClassId} {ρ : Nat → Nat} {S : Sp} {d : Dt} {sh : Nat × Nat} {k q : Nat} {E : va_E} (hC : Cl S) (hn : S.1.length < OPQ) (hE : mmE dA (mmRho S ρ q) (mmNew S sh k) (mmNewD S d) S.1.length sh = E) : mmW dA (mmRho S ρ q) (mmNew S sh k) (mmNewD S d) = mmW dA ρ S d ++ [(q, E)] := by
  apply List.ext_getElem?
  intro i
  by_cases hi : i < S.1.length
  · rw [List.getElem?_append_left (by rw [mmW_len]; exact hi)]
    obtain ⟨sh', hs⟩ : ∃ sh', S.1[i]? = some sh' := ⟨_, List.getElem?_eq_some_iff.mpr ⟨hi, rfl⟩⟩
    rw [mmW_get hs, mmW_get (mmNew_le.at hs), mmRho_eq hn i (Or.inl hi)]
    have hne : i ≠ S.1.length := Nat.ne_of_lt hi
    rw [mmE_congr (S := S) (ρ := ρ) (d := d) (mmRho_eq hn) hC (z2_row hne) (z2_row hne) (z2_row hne) (z2_row hne)]
  · by_cases hi2 : i = S.1.length
    · subst hi2
      rw [mmW_get (mmNew_at (S := S) (sh := sh) (k := k)), hE, mmRho_at, ← mmW_len (dA := dA) (ρ := ρ) (S := S) (d := d)]
      simp
    · rw [List.getElem?_eq_none (by rw [mmW_len]; simp [mmNew]; omega), List.getElem?_eq_none (by simp [mmW_len]; omega)]
