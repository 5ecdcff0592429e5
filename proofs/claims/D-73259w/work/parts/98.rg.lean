/-! READING: injections -/
set_option maxRecDepth 100000
/-- a task's injection behind its task's number -/
def InjRest (rd : Nat) (p1 r41 : Int32) (S42 : Sp) (d43 : Dt) : Option ((Unit ⊕ Nat) × Sp × Dt) :=
  (isK S42 10 (some rd)).bind fun z44 =>
  bindE (Re_number rd (some (OPQ + 22)) 0 50 S42 d43) (fun v9 S9 d9 => some (.inr v9, S9, d9)) fun r45 S46 d47 =>
  if ¬ p1 = 4 then
    (isK S46 10 (some rd)).bind fun z48 =>
    (isK S46 1 (S46.2.1 z48 3)).bind fun z49 =>
    (isK S46 16 (S46.2.1 z49 0)).bind fun z50 =>
    (Jl_get z50 r41 S46 d47).bind fun r51 =>
    (isK S46 12 r51).bind fun z52 =>
    bindE (Re_number rd (some (OPQ + 19)) 0 ((d47.1 z52 8) - 1) S46 d47) (fun v9 S9 d9 => some (.inr v9, S9, d9)) fun r53 S54 d55 =>
    Re_injectionLine_b194 rd p1 r41 r45 r53 S54 d55
  else
    Re_injectionLine_b194 rd p1 r41 r45 ((-1)) S46 d47
section
variable {S0 S S' T : Sp} {d0 m0 d m d' m' d'' m'' x y : Dt} {rd sz ap tk a c z nw nt ni n t0 L B : Nat} {nd tks ij : Nat → Nat} {w w' : Nat → Int32} {lo hi p1 g0 g1 g2 g3 g4 : Int32}
/-- an injection is noted -/
theorem inj_fin (hT1 : T = mmNew S (13, 0) 5) (hL : L = S.1.length) (h : Rs S0 d0 m0 rd sz c ap tk T d m) (hp : PT S d'' w rd nw nt ni nd tks ij) (hr : S.1[rd]? = some (10, 0)) (hd : ∀ b, b < L → b ≠ rd → d.1 b = d''.1 b) (hni : ni < 8) (hB : B = 106 + 5 * ni) (hw : ∀ j, j < B → m.1 6 j = w j) (w0 : m.1 6 B = g0) (w1 : m.1 6 (B + 1) = g1) (w2 : m.1 6 (B + 2) = g2) (w3 : m.1 6 (B + 3) = g3) (w4 : m.1 6 (B + 4) = g4) (hI : InjW (m.1 6) nw nt nd ni) : ∃ S' d' m' ij', (bind2 (In_init L g0 g1 g2 g3 g4 T d) fun _ d26 => (isK T 16 (S.2.1 (rd + 2) 1)).bind fun z27 => bind3 (Jl_add z27 (some L) T d26) fun r28 S29 d30 => Re_injectionLine_b228 rd p1 S29 d30) = some (.inl (), S', d') ∧ Mo_readInjection_b189 0 p1 MoS m = some ((), m') ∧ Rs S0 d0 m0 rd sz c ap tk S' d' m' ∧ PT S' d' (m'.1 6) rd nw nt (ni + 1) nd tks ij' ∧ (∀ j, j < 3 → m'.1 6 j = w j) ∧ m'.1 6 7 = w 7 := by
  have xT : T.1 = S.1 ++ [(13, 0)] := by rw [hT1]; rfl
  have nT : T.1.length = L + 1 := by rw [xT, List.length_append, hL]; rfl
  have E : Ext S T := by rw [hT1]; exact Ext.new
  have atL : T.1[L]? = some (13, 0) := by rw [xT, hL, List.getElem?_append_right (Nat.le_refl _), Nat.sub_self]; rfl
  have hlr := (List.getElem?_eq_some_iff.mp hr).1
  have hl2 := (List.getElem?_eq_some_iff.mp hp.1.1).1
  have hl7 := (List.getElem?_eq_some_iff.mp hp.1.2.2.2.2).1
  have hrT : T.1[rd]? = some (10, 0) := (E.1 rd hlr).trans hr
  have hpT : PT T d w rd nw nt ni nd tks ij := hp.go hr E (fun b h1 h2 => hd b (by omega) h2)
  obtain ⟨z1, l9, k9, hT, hIi, ⟨y1, y2, y3, y4, y5, y6, y7⟩, ⟨x1, x2, x3, x4, x5, x6, x7⟩⟩ := hpT
  have hpT : PT T d w rd nw nt ni nd tks ij := ⟨z1, l9, k9, hT, hIi, ⟨y1, y2, y3, y4, y5, y6, y7⟩, ⟨x1, x2, x3, x4, x5, x6, x7⟩⟩
  have ht5 := x2.2
  have hw3 := x1.2
  obtain ⟨e, he⟩ : ∃ e, e = dI (dI (dI (dI (dI d L 0 g0) L 1 g1) L 2 g2) L 3 g3) L 4 g4 := ⟨_, rfl⟩
  have V : ∀ b, b ≠ L → e.1 b = d.1 b := fun b hb => by rw [he, dI_ne hb, dI_ne hb, dI_ne hb, dI_ne hb, dI_ne hb]
  have f0 : e.1 L 0 = g0 := by rw [he, dI_nk (by omega), dI_nk (by omega), dI_nk (by omega), dI_nk (by omega), dI_at]
  have f1 : e.1 L 1 = g1 := by rw [he, dI_nk (by omega), dI_nk (by omega), dI_nk (by omega), dI_at]
  have f2 : e.1 L 2 = g2 := by rw [he, dI_nk (by omega), dI_nk (by omega), dI_at]
  have f3 : e.1 L 3 = g3 := by rw [he, dI_nk (by omega), dI_at]
  have f4 : e.1 L 4 = g4 := by rw [he, dI_at]
  have k9' : ListT T e (rd + 5) (rd + 6) 18 ni ij := by
    obtain ⟨l1, l2, l3, l4, l5, l6, l7⟩ := k9
    exact ⟨l1, l2, l3, by rw [V _ (by omega)]; exact l4, l5, l6, l7⟩
  obtain ⟨j1, j2⟩ := list_ng (b := L) k9' (Or.inr atL) (by omega) (by omega)
  obtain ⟨d8, hd8⟩ : ∃ d8, d8 = dI (dI e (rd + 5) 0 (e.1 (rd + 5) 0 + 1)) (rd + 5) 2 (nI (ni + 1)) := ⟨_, rfl⟩
  rw [← hd8] at j1 j2
  have V8 : ∀ b, b ≠ L → b ≠ rd + 5 → d8.1 b = d.1 b := fun b h1 h2 => by rw [hd8, dI_ne h2, dI_ne h2, V b h1]
  have V8L : d8.1 L = e.1 L := by rw [hd8, dI_ne (by omega), dI_ne (by omega)]
  have R : ∀ b, b ≠ rd + 6 → (sR T (rd + 6) ni (some L)).2.1 b = T.2.1 b := fun b hb => u2_row hb
  have hm5 : m.1 6 5 = nI ni := (hw 5 (by omega)).trans x3.1
  have e7 : d8.1 (rd + 2) 7 = nI ni := by rw [V8 _ (by omega) (by omega)]; exact y6.trans x3.1
  have hRr : RdS (sR T (rd + 6) ni (some L)) rd := h.1.rows rfl (fun b hb => R b (by omega))
  have hKt : isK (sR T (rd + 6) ni (some L)) 1 ((sR T (rd + 6) ni (some L)).2.1 rd 3) = some (rd + 2) := by
    rw [hRr.2.2.2.2.2.1]
    exact isK_of z1.1
  have W : ∀ j, j ≠ 5 → (dI m 6 5 (nI (ni + 1))).1 6 j = m.1 6 j := fun j hj => dI_nk (fun q => hj q.2)
  have U : ∀ b, b ≠ rd + 2 → (dI d8 (rd + 2) 7 (nI (ni + 1))).1 b = d8.1 b := fun b hb => dI_ne hb
  have U2 : ∀ f, f ≠ 7 → (dI d8 (rd + 2) 7 (nI (ni + 1))).1 (rd + 2) f = d.1 (rd + 2) f := fun f hf => (dI_nk (fun q => hf q.2)).trans (congrFun (V8 _ (by omega) (by omega)) f)
  obtain ⟨bb1, ⟨bb2, bb3, bb4⟩, -⟩ := h.2.2.2.2.1
  have hS0 := h.2.2.2.2.2
  refine ⟨sR T (rd + 6) ni (some L), dI d8 (rd + 2) 7 (nI (ni + 1)), dI m 6 5 (nI (ni + 1)), fun i => if i = ni then L else ij i, ?_, ?_, h.to hRr (bb1.sR (by omega)) ⟨bb2, bb3, bb4⟩ (fun b hb => by rw [U b (by omega), V8 b (by omega) (by omega)]) (fun b hb => dI_ne hb), ⟨z1.lst rfl (R (rd + 2) (by omega)), ?_, ?_, hT.lst rfl (fun b hb => R b (by omega)) (fun b hb hb13 => ?_) (fun j h1 h2 => by rw [W j (by omega)]; exact hw j (by omega)) ht5, fun i hi => ?_, ⟨fun v hv => ?_, ?_, ?_, ?_, ?_, ?_, ?_⟩, ⟨?_, x1.2⟩, ⟨?_, x2.2⟩, ⟨dI_at, by omega, ?_⟩, fun v hv => ?_, fun t ht => ?_, fun i hi => ?_, fun t h1 h2 => ?_⟩, fun j hj => by rw [W j (by omega)]; exact hw j (by omega), by rw [W 7 (by omega)]; exact hw 7 (by omega)⟩
  · unfold In_init
    rw [isK_of atL, Option.bind_some, Option.bind_some, Option.bind_some, Option.bind_some, Option.bind_some, Option.bind_some, ← he, bind2_some, ← E.2.1 (rd + 2) (by omega), hpT.kI, Option.bind_some, j1, bind3_some]
    unfold Re_injectionLine_b228
    rw [hRr.K, Option.bind_some, hKt, Option.bind_some, e7, nI_1, Option.bind_some]
  · unfold Mo_readInjection_b189
    rw [Mo_K, Option.bind_some, show aix MoS 50 (MoS.2.1 0 14) 5 = some (6, 5) from Mf 5 (by omega), Option.bind_some, hm5, nI_1, Option.bind_some]
  · obtain ⟨l1, l2, l3, l4, l5, l6, l7⟩ := l9
    exact ⟨l1, by rw [R _ (by omega)]; exact l2, l3, by rw [U _ (by omega), V8 _ (by omega) (by omega)]; exact l4, l5, fun i hi => by rw [R _ (by omega)]; exact l6 i hi, fun i hi hj => by rw [R _ (by omega)]; exact l7 i hi hj⟩
  · obtain ⟨l1, l2, l3, l4, l5, l6, l7⟩ := j2
    exact ⟨l1, l2, l3, by rw [U _ (by omega)]; exact l4, l5, l6, l7⟩
  · by_cases eL : b = L
    · exact absurd (by rw [eL]; exact atL) hb13
    · rw [U b (by omega), V8 b eL (by omega)]
  · show InjT _ _ _ i (if i = ni then L else ij i)
    by_cases e9 : i = ni
    · subst e9
      rw [if_pos rfl]
      refine ⟨atL, fun f hf => ?_⟩
      rw [U L (by omega), V8L, ← hB, W _ (by omega)]
      obtain rfl | rfl | rfl | rfl | rfl : f = 0 ∨ f = 1 ∨ f = 2 ∨ f = 3 ∨ f = 4 := by omega
      · exact f0.trans w0.symm
      · exact f1.trans w1.symm
      · exact f2.trans w2.symm
      · exact f3.trans w3.symm
      · exact f4.trans w4.symm
    · obtain ⟨s1, s2⟩ := hIi i (by omega)
      obtain ⟨b1, b2, b3, b4, b5, b6, b7⟩ := hpT.nd13 hrT s1
      have bL : ij i ≠ L := fun q => by
        obtain ⟨o1, -⟩ := hp.2.2.2.2.1 i (by omega)
        have := (List.getElem?_eq_some_iff.mp o1).1
        omega
      rw [if_neg e9]
      refine ⟨s1, fun f hf => ?_⟩
      rw [U _ b2, V8 _ bL b5, W _ (by omega), hw _ (by omega)]
      exact s2 f hf
  · rw [U _ (by omega), V8 _ (by omega) (by omega), W _ (by omega), hw _ (by omega)]; exact y1 v hv
  · rw [U2 3 (by omega), W 0 (by omega), hw 0 (by omega)]; exact y2
  · rw [U2 4 (by omega), W 1 (by omega), hw 1 (by omega)]; exact y3
  · rw [U2 5 (by omega), W 2 (by omega), hw 2 (by omega)]; exact y4
  · rw [U2 6 (by omega), W 3 (by omega), hw 3 (by omega)]; exact y5
  · rw [dI_at, dI_at]
  · rw [U2 8 (by omega), W 7 (by omega), hw 7 (by omega)]; exact y7
  · rw [W 3 (by omega), hw 3 (by omega)]; exact x1.1
  · rw [W 4 (by omega), hw 4 (by omega)]; exact x2.1
  · rw [W 6 (by omega), hw 6 (by omega)]; exact x3.2.2
  · rw [W 8 (by omega), W (8 + v) (by omega), hw 8 (by omega), hw (8 + v) (by omega)]
    exact x4 v hv
  · obtain ⟨g1, ⟨a, p, o, c9, le, mo, g2, g3, g4⟩, g5⟩ := x5 t ht
    have g1' := g1.1
    refine ⟨⟨g1.1, by rw [W _ (by omega), hw _ (by omega)]; exact g1.2⟩, ⟨a, p, o, c9, le, mo, by rw [W _ (by omega), hw _ (by omega)]; exact g2, g3, ?_⟩, fun n9 h9 => ?_⟩
    · rw [W (11 + 7 * t + 1) (by omega), W (11 + 7 * t + 2) (by omega), W (11 + 7 * t + 3) (by omega), W (11 + 7 * t + 4) (by omega), W (11 + 7 * t + 5) (by omega), hw (11 + 7 * t + 1) (by omega), hw (11 + 7 * t + 2) (by omega), hw (11 + 7 * t + 3) (by omega), hw (11 + 7 * t + 4) (by omega), hw (11 + 7 * t + 5) (by omega)]
      exact g4
    · rw [W (46 + 2 * (6 * t + n9)) (by omega), W (46 + 2 * (6 * t + n9) + 1) (by omega), hw (46 + 2 * (6 * t + n9)) (by omega), hw (46 + 2 * (6 * t + n9) + 1) (by omega)]
      exact g5 n9 h9
  · by_cases e9 : i = ni
    · subst e9
      exact hI.cong (fun f hf => W _ (by omega))
    · exact (x6 i (by omega)).cong (fun f hf => by rw [W _ (by omega)]; exact hw _ (by omega))
  · rw [W _ (by omega), hw _ (by omega)]
    exact x7 t h1 h2
end
