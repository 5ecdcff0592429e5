/-! THE MACHINE THROWS ArrayStoreException: its words, its row; Ledger.isOffered -/
set_option maxRecDepth 100000
theorem ase_at {s : State} {args : Array Value} {oa : Nat → Nat} (hts : ∀ w ∈ lw_all, w.before args s = true) (hT : TB oa s) : ∀ w ∈ vx_atM "java/lang/ArrayStoreException" ["java/lang/RuntimeException", "java/lang/Exception"], w.before args s = true := by
  intro w hw
  obtain ⟨hm, hn⟩ := List.mem_filter.mp hw
  simp only [Bundle.messageArmAtoms, Bundle.throwableAtoms, Bundle.throwableSAtoms, Bundle.chainSAtoms, Bundle.passSAtoms, Bundle.stringAtoms, List.mem_append, List.mem_cons, List.not_mem_nil, or_false] at hm
  rcases hm with (((((rfl | rfl | rfl | rfl | rfl | rfl | rfl | rfl | rfl | rfl | rfl | rfl | rfl | rfl | rfl | rfl | rfl | rfl | rfl | rfl | rfl | rfl | rfl | rfl) | (rfl | rfl | rfl | rfl)) | ((rfl | rfl | rfl | rfl | rfl) | (rfl | rfl | rfl | rfl | rfl) | (rfl | rfl | rfl | rfl | rfl))) | (rfl | rfl | rfl | rfl | rfl | rfl | rfl)) | (rfl | rfl | rfl | rfl | rfl | rfl | rfl | rfl | rfl | rfl | rfl | rfl | rfl | rfl))
  · exact hts _ q158
  · exact hts _ q730
  · exact hts _ q739
  · exact hts _ q743
  · exact hts _ q746
  · exact hts _ q748
  · exact hts _ q731
  · exact hts _ q732
  · exact hts _ q180
  · exact hts _ q_oi2
  · exact hts _ q733
  · exact hts _ q738
  · exact hts _ q744
  · exact hts _ q767
  · exact hts _ q720
  · exact hts _ q768
  · exact hts _ q722
  · exact hts _ q769
  · exact hts _ q724
  · exact hts _ q734
  · cases hn
  · exact hts _ q736
  · cases hn
  · exact hts _ q726
  · exact hts _ q1421
  · exact hts _ q1422
  · exact hts _ q766
  · exact hts _ q726
  · exact hts _ q1412
  · exact hts _ q1413
  · exact hts _ q1414
  · exact hts _ q1415
  · exact va_Nw.use rfl (tb_word hT q712 rfl)
  · exact hts _ q1415
  · exact hts _ q1416
  · exact hts _ q1417
  · exact hts _ q1418
  · exact va_Nw.use rfl (tb_word hT q714 rfl)
  · exact hts _ q1418
  · exact hts _ q1419
  · exact hts _ q1420
  · exact hts _ q1421
  · exact va_Nw.use rfl (tb_word hT q716 rfl)
  · exact hts _ q155
  · exact hts _ q1432
  · exact hts _ q276
  · exact hts _ q1433
  · exact hts _ q1435
  · exact hts _ q1434
  · exact hts _ q1436
  · exact hts _ q173
  · exact hts _ q1411
  · exact va_Nw.use rfl (tb_word hT q1430 rfl)
  · exact hts _ q1431
  · exact hts _ q742
  · exact hts _ q1425
  · exact hts _ q1426
  · exact hts _ q1428
  · exact hts _ q1424
  · cases hn
  · cases hn
  · exact hts _ q729
  · exact hts _ q728
  · exact hts _ q1423
section
variable {p : Program} {l : Launch} {e : Env} {R : Room} {s : State} {m : MethodId} {args : Array Value} {below : List Frame} {meth : Method} {c : Code} {T : State} {locs : List Loc} {cells slots : Nat}
/-- an aastore whose value isn't of the array's kind (follows Stand.aastoreRefTK) -/
theorem w_aastX (X : Stand p l e R s m args below meth c T locs cells slots) (hexec : p.tables.exec = Jvm.exec)
    {a v : Addr} {cell cv : Cell} {j : Int32} {k kv kcomp : Class} {comp : ClassId} {t : FieldType}
    (hcell : T.heap[a]? = some cell) (hobj : ∀ q, cell.vm ≠ .statics q) (hknown : cell.vm ≠ .unknown)
    (hk : s.vm.classes[cell.cls]? = some k) (hkind : k.kind = .array comp t) (hkcomp : s.vm.classes[comp]? = some kcomp)
    (hin : ¬ j < 0 ∧ j.toNatClampNeg < cell.slots.size)
    (hv : T.heap[v]? = some cv) (hvobj : ∀ q, cv.vm ≠ .statics q) (hkv : s.vm.classes[cv.cls]? = some kv) (hinst : s.vm.assignable cv.cls comp = false)
    {g : JFrame} (hg : g.method = m) {rest : List Value} (hstack : g.stack = .ref v :: .int j :: .ref a :: rest) (hdg : decode c.code g.pc = .ok (.aastore, 1)) :
    ∀ target, Steps p.tables e below ((T.setTop { g with stack := rest }).pushFrame (.throwNew "java/lang/ArrayStoreException" (some kv.shown) none)) target → Steps p.tables e below (T.setTop g) target := by
  have hal : s.vm.Alike T.vm := X.warmed.alike
  obtain ⟨k₁, hk₁, hek⟩ := hal.2.2 _ _ hk
  have hkind₁ : k₁.kind = .array comp t := by rw [hek]; exact hkind
  obtain ⟨kcomp₁, hkcomp₁, -⟩ := hal.2.2 _ _ hkcomp
  obtain ⟨kv₁, hkv₁, hev⟩ := hal.2.2 _ _ hkv
  have hsh : kv₁.shown = kv.shown := by rw [hev]; rfl
  have hinst₁ : T.vm.assignable cv.cls comp = false := by rw [hal.assignable]; exact hinst
  intro target hrest
  subst hg
  have harr : T.isArray cell := ⟨hobj, k₁, hk₁, comp, t, hkind₁⟩
  jvm_step X.here [hexec, hdg, aastore.sem, hstack, hcell, hobj, hknown, hk₁, hkind₁, hin.1, hin.2, Nat.not_le.mpr hin.2, harr, hv, hvobj, hkv₁, hkcomp₁, hinst₁, hsh]
  exact hrest
end
theorem fc_shown {vm : Vm} {name : String} {c : ClassId} {k : Class} (h : vm.findClass name = some c) (hk : vm.classes[c]? = some k) : k.shown = dotted name := by
  obtain ⟨hlt, hp, _⟩ := Array.findIdx?_eq_some_iff_getElem.mp h
  have e : vm.classes[c] = k := Option.some.inj ((Array.getElem?_eq_getElem hlt).symm.trans hk)
  rw [e] at hp
  simp only [Bool.and_eq_true, beq_iff_eq, Option.isNone_iff_eq_none] at hp
  unfold Class.shown
  rw [hp.1.1.2, hp.1.1.1]
/-- the note is not of the row's kind -/
def ntX (t cn : Nat) : Prop := (t = 10 ∧ cn = 7) ∨ (t = 11 ∧ cn = 6)
section
variable {α β : Type} {X : CT} {F : α × Sp × Dt} {Λ : β → Sp → Dt → α × Sp × Dt} {S : Sp} {d : Dt} {nN fr9 lo9 : Nat} {lv : List (Nat × Value)} {r : Option β} {cc : ByteArray}
theorem JW_ase (G : Ctx X F RX16 cc nN) (hRm : Rm X fr9 lo9) (hE9 : Et X (tableOf [(0, 17, 20, 21)])) {t cn : Nat} (ht : ntX t cn) (hroom : 7 ≤ fr9 ∧ 10260 ≤ lo9) {o w : Option Nat} {v : Nat} {i : Int32} {q : Nat × Nat} (hv : isK S cn w = some v) (hq : aix S (50 + t) o i = some q) (hd : decode cc 6 = .ok (.aastore, 1)) (hd2 : decode cc 20 = .ok (.astore_n 2, 1)) (hn2 : 2 < nN) (hl9 : Cond.classLink RX16 21 "java/lang/ArrayStoreException" ∈ lw_all) {this : Nat} {p1 : Option Nat} (hlv : lv = [(0, va_rf (some this)), (1, va_rf p1)]) (hΛ : ∀ b, Λ b (S.1, S.2.1, S.2.2.1 + 3, S.2.2.2 + 32) d = Λ b S d) (hk : J X F Λ (S.1, S.2.1, S.2.2.1 + 3, S.2.2.2 + 32) d 21 lv [] r) : J X F Λ S d 6 lv [va_rf w, .int i, va_rf o] r := by
  subst hlv
  intro b9 hr9 hΛ9
  obtain ⟨hA1, hA2⟩ := hk b9 hr9 ((hΛ b9).trans hΛ9)
  have hle : Le S (S.1, S.2.1, S.2.2.1 + 3, S.2.2.2 + 32) := ⟨List.prefix_refl _, Nat.le_add_right _ _, Nat.le_add_right _ _⟩
  refine ⟨hle.tr hA1, ?_⟩
  obtain _ | ⟨p, l, e, R, s, m, args, below, meth, c, Q, dC, dI, dA, oa, A, nL, c0, s0, ρ0, n0⟩ := X
  · exact trivial
  obtain ⟨hx, hb, hml, hown, hts, hlk, hK, hT, hE, hA, hO, hRc, hRs, hfl, hoa⟩ := G
  obtain ⟨hR1, hR2⟩ := hRm
  intro hC hs9 hl k1 k2 k3 ρ H locs ls hW hL
  have a3 := hA1.2.1
  have a4 := hA1.2.2
  dsimp only at a3 a4
  have hr1 : S.2.2.1 - c0 + 3 ≤ R.cells := by omega
  have hr2 : S.2.2.2 - s0 + 32 ≤ R.slots := by omega
  obtain ⟨rfl, h2, n, h3, h4⟩ := aix_at hq
  obtain ⟨rfl, n9, hs⟩ := isK_at hv
  have hX : ∃ (E C : String) (T : u_T), mmAt t = .object E ∧ mmCl[cn]? = some (C, T, 0) ∧ t < 12 ∧ va_Nc C E s ∧ (dotted C == notModelled) = false ∧ (stringBytes (stringToUtf16 (dotted C))).size ≤ 22 := by
    obtain ⟨-, -, -, -, -, -, g7, g8⟩ := hT
    rcases ht with ⟨rfl, rfl⟩ | ⟨rfl, rfl⟩
    · exact ⟨_, _, _, rfl, rfl, by decide, g8, by decide +kernel, by decide +kernel⟩
    · exact ⟨_, _, _, rfl, rfl, by decide, g7, by decide +kernel, by decide +kernel⟩
  obtain ⟨E, C, Tt, hE8, hc, ht9, hNc, hnm, hsz⟩ := hX
  obtain ⟨hc1, hc2⟩ := mm_cl hc
  have hwa := hW.1 _ _ (mmW_get (dA := dA) (ρ := ρ) (d := d) h3)
  have hwv := hW.1 _ _ (mmW_get (dA := dA) (ρ := ρ) (d := d) hs)
  rw [mmE_arr, hE8] at hwa
  rw [mmE_obj hc1] at hwv
  obtain ⟨rq, z1, ce, z2, z3, z4, z5⟩ := hwv
  cases hc.symm.trans z1
  have hra := (hK.2 t (dA t, mmAt t) (mmTs_at ht9)).2
  dsimp only at hra
  rw [hE8] at hra
  obtain ⟨kA, comp, y1, y2, y3, y4⟩ := hra
  obtain ⟨kcomp, y5, -⟩ := Vm.findClass_spec y3
  obtain ⟨hcf, kC, y6, -⟩ := (hK.1 cn _ hc).2
  obtain ⟨c8, t8, u1, u2, u3⟩ := hNc
  cases hcf.symm.trans u1
  cases y3.symm.trans u2
  have hshown := fc_shown hcf y6
  have hlt : ¬ i < 0 ∧ i.toNatClampNeg < n := ⟨fun q => h4 (Or.inl q), Nat.not_le.mp fun q => h4 (Or.inr q)⟩
  have hU : vx_Zq Bundle.tN "UNASSIGNED_STACK" Bundle.steD A s s.heap := ⟨hE.2.2.1.imp id (fun h => ⟨_, h⟩), hE.2.2.2.2.1⟩
  have hN : vx_Zq Bundle.tN "SUPPRESSED_SENTINEL" Bundle.listD A s s.heap := ⟨hE.2.2.2.1.imp id (fun h => ⟨_, h⟩), hE.2.2.2.2.2.1⟩
  have hno : vx_Note p l e R s m args below meth c H locs (S.2.2.1 - c0) (S.2.2.2 - s0) Q (F0 m 6 ls []) "java/lang/ArrayStoreException" (dotted C) := by
    refine vx_vm (names := ["java/lang/RuntimeException", "java/lang/Exception"]) (nb := 22) hx (by show (!l.flags.contains noTraceFlag) = false; rw [hfl]; decide +kernel) (by decide +kernel) (by decide +kernel) (by decide +kernel) (by decide +kernel) (ase_at hts hT) (by decide +kernel) hU hN hW.2.2.1 (by rw [hml.1]; exact hL.1) hnm hsz (by decide) ?_ ?_ (by decide) hr1 hr2 hlk (fun H1 q9 c9 w1 w2 w3 w4 w5 w6 => ?_)
    · rw [hR1]; exact Nat.lt_of_lt_of_le (by decide) hroom.1
    · rw [hR2]; exact Nat.le_trans (by decide) hroom.2
    · refine vx_catch (E := "java/lang/ArrayStoreException") (ce := c9) hown [] ⟨0, 17, 20, 21⟩ [] hE9 (fun _ h => nomatch h) (by decide) (by decide) (hts _ hl9) (va_Nw.use rfl (tb_word hT q1430 rfl)) w4 w5 w6 ?_
      have hkp : ∀ (k : Nat) (q8 : Nat × va_E), (mmW dA ρ S d)[k]? = some q8 → H1[q8.1]? = H[q8.1]? := by
        intro k q8 hq8
        refine w2 _ ?_
        have h8 := hW.1 k q8 hq8
        obtain ⟨a8, E8⟩ := q8
        obtain E8 | E8 := E8
        · have h8 : H[a8]? = some (vp_cell E8.1 E8.2) := h8
          exact (Array.getElem?_eq_some_iff.mp h8).1
        · obtain ⟨_, _, cl8, h8, _⟩ := h8
          exact (Array.getElem?_eq_some_iff.mp h8).1
      refine lv_astore_n (k := 2) (i := 2) (lv' := (2, .ref q9) :: cvL ρ [(0, va_rf (some this)), (1, va_rf p1)]) hx hb hd2 rfl hL (by rw [hml.2]; exact hn2) (by simp [cvL, cvV_rf, rf_cat]) (fun ls' hL' => ?_)
      have h9 := hA2 hC (fun _ h => nomatch h) hl (by dsimp only; omega) (by dsimp only; omega) k3 ρ H1 locs ls' ⟨hW.1.kept hkp, hW.2.1, w3, hW.2.2.2⟩ ⟨hL'.1, hL'.2.1, fun q hq => hL'.2.2 q (List.mem_cons_of_mem _ hq)⟩
      dsimp only at h9
      rw [show S.2.2.1 + 3 - c0 = S.2.2.1 - c0 + 3 from by omega, show S.2.2.2 + 32 - s0 = S.2.2.2 - s0 + 32 from by omega] at h9
      exact h9
  intro T9 hT9 X9
  obtain ⟨tt, a1, b1⟩ := hno T9 hT9 X9
  refine ⟨tt, ?_, b1⟩
  rw [List.map_cons, List.map_cons, List.map_cons, cvV_rf, cvV_rf]
  refine w_aastX X9 hx (by rw [hT9]; exact hwa) (fun q h => by cases h) (fun h => by cases h) y1 y2 y5 (by show ¬ i < 0 ∧ _ < (arrV _ _ _).slots.size; rw [arrV_size]; exact hlt) (by rw [hT9]; exact z2) (fun q h => by rw [z4] at h; cases h) (by rw [z3]; exact y6) (by rw [z3]; exact u3) (g := F0 m 6 ls _) rfl rfl (by rw [hb]; exact hd) tt ?_
  rw [hshown]
  exact a1
end
/-- a row of notes and a note: the row's place, the note's, and whether the note is of the row's kind -/
def ntK (S : Sp) (o w : Option Nat) : Option (Nat × Nat × Nat × Nat) := o.bind fun x => w.bind fun y => match S.1[x]?, S.1[y]? with
  | some s1, some s2 => if (s1.1 = 60 ∨ s1.1 = 61) ∧ 0 < s1.2 ∧ (s2.1 = 6 ∨ s2.1 = 7) then some (x, y, s1.1, s2.1) else none
  | _, _ => none
theorem ntK_at {S : Sp} {o w : Option Nat} {q : Nat × Nat × Nat × Nat} (h : ntK S o w = some q) : o = some q.1 ∧ w = some q.2.1 ∧ (q.2.2.1 = 60 ∨ q.2.2.1 = 61) ∧ (q.2.2.2 = 6 ∨ q.2.2.2 = 7) ∧ isK S q.2.2.2 w = some q.2.1 ∧ aix S q.2.2.1 o 0 = some (q.1, 0) := by
  cases o with
  | none => cases h
  | some x =>
    cases w with
    | none => cases h
    | some y =>
      simp only [ntK, Option.bind_some] at h
      split at h
      · rename_i s1 s2 h1 h2
        split at h
        · rename_i hc
          cases h
          refine ⟨rfl, rfl, hc.1, hc.2.2, isK_of (n := s2.2) h2, ?_⟩
          simp only [aix, Option.bind_some, h1]
          rw [if_pos]
          · rfl
          · exact ⟨trivial, fun h => by
              have h8 := hc.2.1
              rcases h with h | h
              · exact absurd h (by decide)
              · have h9 : (0 : Int32).toNatClampNeg = 0 := by decide
                omega⟩
        · cases h
      · cases h
def Le_isOffered (this : Nat) (p1 : Option Nat) (S : Sp) (d : Dt) : Option (Unit × Sp × Dt) :=
  (isK S 15 (some this)).bind fun z => (ntK S (S.2.1 z 0) p1).bind fun q =>
    if q.2.2.1 = q.2.2.2 + 54 then some ((), sR S q.1 0 p1, dI d z 1 (d.1 z 1 + 1))
    else some ((), sR (S.1, S.2.1, S.2.2.1 + 3, S.2.2.2 + 32) q.1 0 none, d)
set_option maxHeartbeats 4000000 in
theorem Le_isOffered_fn (this : Nat) (p1 : Option Nat) (S : Sp) (d : Dt) : Fn yX16_isOffered (wsW_ yX16_isOffered cX16_isOffered 3 none [(0, 17, 20, 21)]) 8 10300 [va_rf (some this), va_rf p1] S d rvU Λa (Le_isOffered this p1 S d) := by
  refine Fn.ofJH (own := RX16) (lv := [(0, va_rf (some this)), (1, va_rf p1)]) (by decide +kernel) rfl (by simp [rf_cat]) (by simp [lv_args, rf_cat]) ?_
  intro X F G hRm hR hE
  unfold Le_isOffered
  refine J_bd (fun z hz => ?_)
  refine J_bd (fun q hq => ?_)
  obtain ⟨e1, e2, c1, c2, k1, k2⟩ := ntK_at hq
  refine JR_aload_n (pc := 0) (k := 0) (i := 0) (o := some this) G rfl rfl dX16_isOffered_0 ?_
  refine JR_gR (pc := 1) (k := 0) G cl_X16 in_X16 (by decide) (by decide) rfl (Or.inl rfl) q1398 hz dX16_isOffered_1 ?_
  refine JR_iconst (pc := 4) G ci_0 dX16_isOffered_4 ?_
  refine JR_aload_n (pc := 5) (k := 1) (i := 1) (o := p1) G rfl rfl dX16_isOffered_5 ?_
  refine J_if (fun hc => ?_) (fun hc => ?_)
  · have hst : J X F Λa (sR S q.1 0 p1) d 7 [(0, va_rf (some this)), (1, va_rf p1)] [] (some ((), sR S q.1 0 p1, dI d z 1 (d.1 z 1 + 1))) := by
      refine JR_aload_n (pc := 7) (k := 0) (i := 0) (o := some this) G rfl rfl dX16_isOffered_7 ?_
      refine JR_dup (pc := 8) G (rf_cat _) dX16_isOffered_8 ?_
      refine JR_gI (pc := 9) (k := 1) (v := z) G cl_X16 in_X16 (by decide) (by decide) rfl (Or.inl rfl) q1399 hz dX16_isOffered_9 ?_
      refine JR_iconst (pc := 12) G ci_1 dX16_isOffered_12 ?_
      refine JR_iadd (pc := 13) G dX16_isOffered_13 ?_
      refine JW_pI (pc := 14) (k := 1) (v := z) G cl_X16 in_X16 tyX16_ok nmX16 (by decide) (by decide) rfl (Or.inl rfl) rfl q1399 rfl rfl hz (fun _ => rfl) dX16_isOffered_14 ?_
      refine JR_goto (pc := 17) (tgt := 28) G dX16_isOffered_17 (by decide) ?_
      exact JR_vret (pc := 28) G hR dX16_isOffered_28 rfl rfl
    rcases c2 with c2 | c2
    · rw [c2] at hc k1
      rw [hc] at k2
      exact JW_aastE (pc := 6) (t := 10) G (by decide) rfl cl_X7 k1 k2 (fun _ => rfl) dX16_isOffered_6 hst
    · rw [c2] at hc k1
      rw [hc] at k2
      exact JW_aastE (pc := 6) (t := 11) G (by decide) rfl cl_X8 k1 k2 (fun _ => rfl) dX16_isOffered_6 hst
  · have hst : ∀ (t : Nat) (E : String), t < 12 → mmAt t = .object E → aix S (50 + t) (S.2.1 z 0) 0 = some (q.1, 0) → J X F Λa (S.1, S.2.1, S.2.2.1 + 3, S.2.2.2 + 32) d 21 [(0, va_rf (some this)), (1, va_rf p1)] [] (some ((), sR (S.1, S.2.1, S.2.2.1 + 3, S.2.2.2 + 32) q.1 0 none, d)) := by
      intro t E ht hE8 h9
      refine JR_aload_n (pc := 21) (k := 0) (i := 0) (o := some this) G rfl rfl dX16_isOffered_21 ?_
      refine JR_gR (pc := 22) (k := 0) (v := z) G cl_X16 in_X16 (by decide) (by decide) rfl (Or.inl rfl) q1398 hz dX16_isOffered_22 ?_
      refine JR_iconst (pc := 25) G ci_0 dX16_isOffered_25 ?_
      refine JR_null (pc := 26) G dX16_isOffered_26 ?_
      refine JW_aastN (pc := 27) (t := t) (q := (q.1, 0)) G ht hE8 h9 (fun _ => rfl) dX16_isOffered_27 ?_
      exact JR_vret (pc := 28) G hR dX16_isOffered_28 rfl rfl
    rcases c1 with c1 | c1 <;> rcases c2 with c2 | c2
    · exact absurd (by rw [c1, c2]) hc
    · rw [c2] at k1
      rw [c1] at k2
      exact JW_ase (t := 10) (cn := 7) G hRm hE (Or.inl ⟨rfl, rfl⟩) ⟨by decide, by decide⟩ k1 k2 dX16_isOffered_6 dX16_isOffered_20 (by decide) q1410 rfl (fun _ => rfl) (hst 10 _ (by decide) rfl k2)
    · rw [c2] at k1
      rw [c1] at k2
      exact JW_ase (t := 11) (cn := 6) G hRm hE (Or.inr ⟨rfl, rfl⟩) ⟨by decide, by decide⟩ k1 k2 dX16_isOffered_6 dX16_isOffered_20 (by decide) q1410 rfl (fun _ => rfl) (hst 11 _ (by decide) rfl k2)
    · exact absurd (by rw [c1, c2]) hc
