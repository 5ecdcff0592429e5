/-! THE PLAIN LAW: what the component reads of a Told, what the model reads of its row -/
set_option maxRecDepth 100000
/-- names of a Told's places -/
abbrev TdP.nw (q : TdP) : Nat := q.2.2.2.1.1
abbrev TdP.nt (q : TdP) : Nat := q.2.2.2.1.2.1
abbrev TdP.ni (q : TdP) : Nat := q.2.2.2.1.2.2.1
abbrev TdP.na (q : TdP) : Nat := q.2.2.2.1.2.2.2
abbrev TdP.nd (q : TdP) : Nat → Nat := q.2.2.2.2
abbrev TdP.tk (q : TdP) : Nat → Nat := q.2.1
abbrev TdP.ij (q : TdP) : Nat → Nat := q.2.2.1
abbrev TdP.a (q : TdP) : Nat := q.1.1
abbrev TdP.lt (q : TdP) : Nat := q.1.2.1
abbrev TdP.et (q : TdP) : Nat := q.1.2.2.1
abbrev TdP.li (q : TdP) : Nat := q.1.2.2.2.2.1
abbrev TdP.ei (q : TdP) : Nat := q.1.2.2.2.2.2.1
abbrev TdP.ci (q : TdP) : Nat := q.1.2.2.2.2.2.2.1
abbrev TdP.ov (q : TdP) : Nat := q.1.2.2.2.2.2.2.2
/-- the component's memory has the Told q now; it tells the row w -/
def CE (S : Sp) (d : Dt) (w : Nat → Int32) (q : TdP) : Prop := WsFix S ∧ S.2.1 0 0 = some q.a ∧ TdOk S d w q
section
variable {S : Sp} {d : Dt} {w : Nat → Int32} {q : TdP}
theorem CE.F (h : CE S d w q) : WsFix S := h.1
theorem CE.K (h : CE S d w q) : isK S 0 (some 0) = some 0 := Ws_K h.1
theorem CE.T (h : CE S d w q) : isK S 1 (S.2.1 0 0) = some q.a := by rw [h.2.1]; exact isK_of h.2.2.1
theorem CE.wf (h : CE S d w q) : WF w q.nw q.nt q.ni q.na q.nd := by
  obtain ⟨-, -, ta, t0, t1, t2, -, -, -, -, -, -, -, -, -, -, -, -, -, -, hW⟩ := h
  exact hW
theorem CE.kL (h : CE S d w q) : isK S 16 (S.2.1 q.a 0) = some q.lt := by
  obtain ⟨-, -, ta, t0, t1, t2, -, ⟨l1, -⟩, -⟩ := h
  rw [t0]
  exact isK_of l1
theorem CE.kM (h : CE S d w q) : isK S 16 (S.2.1 q.a 1) = some q.li := by
  obtain ⟨-, -, ta, t0, t1, t2, -, -, ⟨m1, -⟩, -⟩ := h
  rw [t1]
  exact isK_of m1
theorem CE.tasks (h : CE S d w q) : Ws_tasks 0 S d = some (nI q.nt) := by
  have hL := isK_s h.kL
  unfold Ws_tasks Jl_size
  rw [h.K, Option.bind_some, h.T, Option.bind_some, h.kL, Option.bind_some, hL, Option.bind_some]
  obtain ⟨-, -, ta, t0, t1, t2, -, ⟨l1, -, -, l2, -⟩, -⟩ := h
  rw [l2]
  rfl
theorem CE.injs (h : CE S d w q) : Jl_size q.li S d = some (nI q.ni) := by
  have hM := isK_s h.kM
  unfold Jl_size
  rw [hM, Option.bind_some]
  obtain ⟨-, -, ta, t0, t1, t2, -, -, ⟨m1, -, -, m2, -⟩, -⟩ := h
  rw [m2]
theorem CE.nt5 (h : CE S d w q) : q.nt ≤ 5 := h.wf.2.1.2
theorem CE.nw3 (h : CE S d w q) : q.nw ≤ 3 := h.wf.1.2
theorem CE.ni18 (h : CE S d w q) : q.ni ≤ 19 := by
  obtain ⟨-, -, ⟨-, -, h1, h2, h3⟩, -⟩ := h.wf
  omega
theorem Jo_ok {i n : Nat} (hi : i < n) (hn : n < 2 ^ 31) : Jo_checkIndex (nI i) (nI n) S d = some (nI i) := by
  unfold Jo_checkIndex Jp_checkIndex
  rw [if_neg (nI_pos (by omega)), if_pos (nI_lt hi hn), Option.bind_some]
theorem list_get {l e cap n : Nat} {el : Nat → Nat} (h : ListT S d l e cap n el) {i : Nat} (hi : i < n) (hn : n < 2 ^ 31) : Jl_get l (nI i) S d = some (some (el i)) := by
  obtain ⟨l1, l2, l3, l4, l5, l6, -⟩ := h
  unfold Jl_get Jl_elementData
  rw [isK_of l1]
  simp only [Option.bind_some]
  rw [l4, Jo_ok hi (by omega), Option.bind_some, l2, aix_nI l3 (by omega) (by omega), Option.bind_some, Option.bind_some]
  exact congrArg some (l6 i hi)
theorem CE.task (h : CE S d w q) {t : Nat} (ht : t < q.nt) : TaskT S d w t (q.nd t) (q.tk t) := by
  obtain ⟨-, -, ta, t0, t1, t2, -, -, -, -, -, hT, -⟩ := h
  exact hT t ht
theorem CE.inj (h : CE S d w q) {i : Nat} (hi : i < q.ni) : InjT S d w i (q.ij i) := by
  obtain ⟨-, -, ta, t0, t1, t2, -, -, -, -, -, -, hI, -⟩ := h
  exact hI i hi
theorem CE.cap (h : CE S d w q) : ListT S d q.lt q.et q.1.2.2.2.1 q.nt q.tk ∧ ListT S d q.li q.ei q.ci q.ni q.ij := by
  obtain ⟨-, -, ta, t0, t1, t2, -, h1, h2, -⟩ := h
  exact ⟨h1, h2⟩
theorem CE.tK (h : CE S d w q) {t : Nat} (ht : t < q.nt) : isK S 12 (some (q.tk t)) = some (q.tk t) := isK_of (h.task ht).1
theorem CE.iK (h : CE S d w q) {i : Nat} (hi : i < q.ni) : isK S 13 (some (q.ij i)) = some (q.ij i) := isK_of (h.inj hi).1
end
