/-! THROWABLE, EXCEPTION, RUNTIMEEXCEPTION as Fault and Reset make them -/
set_option maxRecDepth 100000
/-- the four references of a Throwable are null -/
def thS (S : Sp) (z : Nat) : Sp := (S.1, fun x j => if x = z ∧ j < 4 then none else S.2.1 x j, S.2.2)
theorem thS_eq {S : Sp} {z : Nat} {w1 w2 : Option Nat} : sR (sR (sR (sR (sR (sR (sR S z 0 (some z)) z 1 w1) z 2 w2) z 1 none) z 3 none) z 0 none) z 2 none = thS S z := by
  refine congrArg (fun f => (S.1, f, S.2.2)) ?_
  funext x j
  by_cases hx : x = z
  · subst hx
    by_cases h0 : j = 0
    · subst h0; simp [u2_ap]
    · by_cases h1 : j = 1
      · subst h1; simp [u2_ap]
      · by_cases h2 : j = 2
        · subst h2; simp [u2_ap]
        · by_cases h3 : j = 3
          · subst h3; simp [u2_ap]
          · simp only [u2_ap, h0, h1, h2, h3, and_false, if_false]
            rw [if_neg (by omega)]
  · simp [u2_ap, hx]
/-- what a Throwable's constructor leaves -/
def thI (cn this : Nat) (p1 p2 : Option Nat) (p3 p4 : Int32) (S : Sp) (d : Dt) : Option (Unit × Sp × Dt) :=
  if (p1 = none ∧ p2 = none) ∧ p3 = 0 ∧ p4 = 0 then (isK S cn (some this)).bind fun z => some ((), thS S z, d) else none
set_option maxHeartbeats 4000000 in
theorem Th_TF_fn (this : Nat) (p1 p2 : Option Nat) (p3 p4 : Int32) (S : Sp) (d : Dt) : Fn yJ9_init_2 (ws_ yJ9_init_2 cJ9_init_2 5 none) 1 20 [va_rf (some this), va_rf p1, va_rf p2, .int p3, .int p4] S d rvU Λa (thI 11 this p1 p2 p3 p4 S d) := by
  unfold thI
  split
  · rename_i hp
    obtain ⟨⟨rfl, rfl⟩, rfl, rfl⟩ := hp
    cases hz : isK S 11 (some this) with
    | none => exact Fn_none
    | some z =>
      obtain ⟨hz1, n9, hn⟩ := isK_at hz
      cases hz1
      refine Fn.ofJ (own := RJ9) (lv := [(0, va_rf (some this)), (1, va_rf none), (2, va_rf none), (3, .int 0), (4, .int 0)]) (by decide +kernel) rfl (by simp [cat_i, rf_cat]) (by simp [lv_args, cat_i, rf_cat]) ?_
      intro X F G hRm hR hI
      refine JR_aload_n (pc := 0) (k := 0) (i := 0) (o := some this) G rfl rfl dJ9_init_2_0 ?_
      refine JR_objInit (pc := 1) G hRm q733 q180 q181 ⟨by decide, by decide⟩ (Nat.le_of_ble_eq_true rfl) dJ9_init_2_1 ?_
      refine JR_aload_n (pc := 4) (k := 0) (i := 0) (o := some this) G rfl rfl dJ9_init_2_4 ?_
      refine JR_aload_n (pc := 5) (k := 0) (i := 0) (o := some this) G rfl rfl dJ9_init_2_5 ?_
      refine JW_pR (pc := 6) (k := 0) G cl_X12 in_X12 tyX12_ok nmX12 (by decide) (by decide) rfl (Or.inl rfl) rfl q767 (isK_of hn) (fun _ => rfl) dJ9_init_2_6 ?_
      refine JR_aload_n (pc := 9) (k := 0) (i := 0) (o := some this) G rfl rfl dJ9_init_2_9 ?_
      have hA : ∀ w1, J X F Λa (sR S this 0 (some this)) d 13 [(0, va_rf (some this)), (1, va_rf none), (2, va_rf none), (3, .int 0), (4, .int 0)] [va_rf w1, va_rf (some this)] (some ((), thS S this, d)) := by
        intro w1
        refine JW_pR (pc := 13) (k := 1) G cl_X12 in_X12 tyX12_ok nmX12 (by decide) (by decide) rfl (Or.inl rfl) rfl q768 (isK_of hn) (fun _ => rfl) dJ9_init_2_13 ?_
        refine JR_aload_n (pc := 16) (k := 0) (i := 0) (o := some this) G rfl rfl dJ9_init_2_16 ?_
        have hB : ∀ w2, J X F Λa (sR (sR S this 0 (some this)) this 1 w1) d 20 [(0, va_rf (some this)), (1, va_rf none), (2, va_rf none), (3, .int 0), (4, .int 0)] [va_rf w2, va_rf (some this)] (some ((), thS S this, d)) := by
          intro w2
          refine JW_pR (pc := 20) (k := 2) G cl_X12 in_X12 tyX12_ok nmX12 (by decide) (by decide) rfl (Or.inl rfl) rfl q769 (isK_of hn) (fun _ => rfl) dJ9_init_2_20 ?_
          refine JR_iload (pc := 23) (i := 4) G rfl dJ9_init_2_23 ?_
          refine JR_if_eq (pc := 25) (tgt := 36) G dJ9_init_2_25 (by decide) (r1 := some ((), thS S this, d)) (r2 := some ((), thS S this, d)) (fun _ => ?_) (fun h => absurd rfl h)
          refine JR_aload_n (pc := 36) (k := 0) (i := 0) (o := some this) G rfl rfl dJ9_init_2_36 ?_
          refine JR_null (pc := 37) G dJ9_init_2_37 ?_
          refine JW_pR (pc := 38) (k := 1) G cl_X12 in_X12 tyX12_ok nmX12 (by decide) (by decide) rfl (Or.inl rfl) rfl q768 (isK_of hn) (fun _ => rfl) dJ9_init_2_38 ?_
          refine JR_aload_n (pc := 41) (k := 0) (i := 0) (o := some this) G rfl rfl dJ9_init_2_41 ?_
          refine JR_aload_n (pc := 42) (k := 1) (i := 1) (o := none) G rfl rfl dJ9_init_2_42 ?_
          refine JW_pR (pc := 43) (k := 3) G cl_X12 in_X12 tyX12_ok nmX12 (by decide) (by decide) rfl (Or.inl rfl) rfl q766 (isK_of hn) (fun _ => rfl) dJ9_init_2_43 ?_
          refine JR_aload_n (pc := 46) (k := 0) (i := 0) (o := some this) G rfl rfl dJ9_init_2_46 ?_
          refine JR_aload_n (pc := 47) (k := 2) (i := 2) (o := none) G rfl rfl dJ9_init_2_47 ?_
          refine JW_pR (pc := 48) (k := 0) G cl_X12 in_X12 tyX12_ok nmX12 (by decide) (by decide) rfl (Or.inl rfl) rfl q767 (isK_of hn) (fun _ => rfl) dJ9_init_2_48 ?_
          refine JR_iload_n (pc := 51) (k := 3) (i := 3) G rfl rfl dJ9_init_2_51 ?_
          refine JR_if_ne (pc := 52) (tgt := 60) G dJ9_init_2_52 (by decide) (r1 := some ((), thS S this, d)) (r2 := some ((), thS S this, d)) (fun h => absurd rfl h) (fun _ => ?_)
          refine JR_aload_n (pc := 55) (k := 0) (i := 0) (o := some this) G rfl rfl dJ9_init_2_55 ?_
          refine JR_null (pc := 56) G dJ9_init_2_56 ?_
          refine JW_pR (pc := 57) (k := 2) G cl_X12 in_X12 tyX12_ok nmX12 (by decide) (by decide) rfl (Or.inl rfl) rfl q769 (isK_of hn) (fun _ => rfl) dJ9_init_2_57 ?_
          rw [← thS_eq (S := S) (z := this) (w1 := w1) (w2 := w2)]
          exact JR_vret (pc := 60) G hR dJ9_init_2_60 rfl rfl
        exact JR_gsSS (pc := 17) G q736 dJ9_init_2_17 (hB _) (hB _)
      exact JR_gsUS (pc := 10) G q734 dJ9_init_2_10 (hA _) (hA _)
  · exact Fn_none
set_option maxHeartbeats 4000000 in
theorem Th_TR_fn (this : Nat) (p1 p2 : Option Nat) (p3 p4 : Int32) (S : Sp) (d : Dt) : Fn yJ9_init_2 (ws_ yJ9_init_2 cJ9_init_2 5 none) 1 20 [va_rf (some this), va_rf p1, va_rf p2, .int p3, .int p4] S d rvU Λa (thI 14 this p1 p2 p3 p4 S d) := by
  unfold thI
  split
  · rename_i hp
    obtain ⟨⟨rfl, rfl⟩, rfl, rfl⟩ := hp
    cases hz : isK S 14 (some this) with
    | none => exact Fn_none
    | some z =>
      obtain ⟨hz1, n9, hn⟩ := isK_at hz
      cases hz1
      refine Fn.ofJ (own := RJ9) (lv := [(0, va_rf (some this)), (1, va_rf none), (2, va_rf none), (3, .int 0), (4, .int 0)]) (by decide +kernel) rfl (by simp [cat_i, rf_cat]) (by simp [lv_args, cat_i, rf_cat]) ?_
      intro X F G hRm hR hI
      refine JR_aload_n (pc := 0) (k := 0) (i := 0) (o := some this) G rfl rfl dJ9_init_2_0 ?_
      refine JR_objInit (pc := 1) G hRm q733 q180 q181 ⟨by decide, by decide⟩ (Nat.le_of_ble_eq_true rfl) dJ9_init_2_1 ?_
      refine JR_aload_n (pc := 4) (k := 0) (i := 0) (o := some this) G rfl rfl dJ9_init_2_4 ?_
      refine JR_aload_n (pc := 5) (k := 0) (i := 0) (o := some this) G rfl rfl dJ9_init_2_5 ?_
      refine JW_pR (pc := 6) (k := 0) G cl_X15 in_X15 tyX15_ok nmX15 (by decide) (by decide) rfl (Or.inl rfl) rfl q767 (isK_of hn) (fun _ => rfl) dJ9_init_2_6 ?_
      refine JR_aload_n (pc := 9) (k := 0) (i := 0) (o := some this) G rfl rfl dJ9_init_2_9 ?_
      have hA : ∀ w1, J X F Λa (sR S this 0 (some this)) d 13 [(0, va_rf (some this)), (1, va_rf none), (2, va_rf none), (3, .int 0), (4, .int 0)] [va_rf w1, va_rf (some this)] (some ((), thS S this, d)) := by
        intro w1
        refine JW_pR (pc := 13) (k := 1) G cl_X15 in_X15 tyX15_ok nmX15 (by decide) (by decide) rfl (Or.inl rfl) rfl q768 (isK_of hn) (fun _ => rfl) dJ9_init_2_13 ?_
        refine JR_aload_n (pc := 16) (k := 0) (i := 0) (o := some this) G rfl rfl dJ9_init_2_16 ?_
        have hB : ∀ w2, J X F Λa (sR (sR S this 0 (some this)) this 1 w1) d 20 [(0, va_rf (some this)), (1, va_rf none), (2, va_rf none), (3, .int 0), (4, .int 0)] [va_rf w2, va_rf (some this)] (some ((), thS S this, d)) := by
          intro w2
          refine JW_pR (pc := 20) (k := 2) G cl_X15 in_X15 tyX15_ok nmX15 (by decide) (by decide) rfl (Or.inl rfl) rfl q769 (isK_of hn) (fun _ => rfl) dJ9_init_2_20 ?_
          refine JR_iload (pc := 23) (i := 4) G rfl dJ9_init_2_23 ?_
          refine JR_if_eq (pc := 25) (tgt := 36) G dJ9_init_2_25 (by decide) (r1 := some ((), thS S this, d)) (r2 := some ((), thS S this, d)) (fun _ => ?_) (fun h => absurd rfl h)
          refine JR_aload_n (pc := 36) (k := 0) (i := 0) (o := some this) G rfl rfl dJ9_init_2_36 ?_
          refine JR_null (pc := 37) G dJ9_init_2_37 ?_
          refine JW_pR (pc := 38) (k := 1) G cl_X15 in_X15 tyX15_ok nmX15 (by decide) (by decide) rfl (Or.inl rfl) rfl q768 (isK_of hn) (fun _ => rfl) dJ9_init_2_38 ?_
          refine JR_aload_n (pc := 41) (k := 0) (i := 0) (o := some this) G rfl rfl dJ9_init_2_41 ?_
          refine JR_aload_n (pc := 42) (k := 1) (i := 1) (o := none) G rfl rfl dJ9_init_2_42 ?_
          refine JW_pR (pc := 43) (k := 3) G cl_X15 in_X15 tyX15_ok nmX15 (by decide) (by decide) rfl (Or.inl rfl) rfl q766 (isK_of hn) (fun _ => rfl) dJ9_init_2_43 ?_
          refine JR_aload_n (pc := 46) (k := 0) (i := 0) (o := some this) G rfl rfl dJ9_init_2_46 ?_
          refine JR_aload_n (pc := 47) (k := 2) (i := 2) (o := none) G rfl rfl dJ9_init_2_47 ?_
          refine JW_pR (pc := 48) (k := 0) G cl_X15 in_X15 tyX15_ok nmX15 (by decide) (by decide) rfl (Or.inl rfl) rfl q767 (isK_of hn) (fun _ => rfl) dJ9_init_2_48 ?_
          refine JR_iload_n (pc := 51) (k := 3) (i := 3) G rfl rfl dJ9_init_2_51 ?_
          refine JR_if_ne (pc := 52) (tgt := 60) G dJ9_init_2_52 (by decide) (r1 := some ((), thS S this, d)) (r2 := some ((), thS S this, d)) (fun h => absurd rfl h) (fun _ => ?_)
          refine JR_aload_n (pc := 55) (k := 0) (i := 0) (o := some this) G rfl rfl dJ9_init_2_55 ?_
          refine JR_null (pc := 56) G dJ9_init_2_56 ?_
          refine JW_pR (pc := 57) (k := 2) G cl_X15 in_X15 tyX15_ok nmX15 (by decide) (by decide) rfl (Or.inl rfl) rfl q769 (isK_of hn) (fun _ => rfl) dJ9_init_2_57 ?_
          rw [← thS_eq (S := S) (z := this) (w1 := w1) (w2 := w2)]
          exact JR_vret (pc := 60) G hR dJ9_init_2_60 rfl rfl
        exact JR_gsSS (pc := 17) G q736 dJ9_init_2_17 (hB _) (hB _)
      exact JR_gsUS (pc := 10) G q734 dJ9_init_2_10 (hA _) (hA _)
  · exact Fn_none
def Th_EF (this : Nat) (p1 p2 : Option Nat) (p3 p4 : Int32) (S : Sp) (d : Dt) : Option (Unit × Sp × Dt) := thI 11 this p1 p2 p3 p4 S d
set_option maxHeartbeats 4000000 in
theorem Th_EF_fn (this : Nat) (p1 p2 : Option Nat) (p3 p4 : Int32) (S : Sp) (d : Dt) : Fn yJ10_init (ws_ yJ10_init cJ10_init 5 none) 2 44 [va_rf (some this), va_rf p1, va_rf p2, .int p3, .int p4] S d rvU Λa (Th_EF this p1 p2 p3 p4 S d) := by
  refine Fn.ofJ (own := RJ10) (lv := [(0, va_rf (some this)), (1, va_rf p1), (2, va_rf p2), (3, .int p3), (4, .int p4)]) (by decide +kernel) rfl (by simp [cat_i, rf_cat]) (by simp [lv_args, cat_i, rf_cat]) ?_
  intro X F G hRm hR hI
  refine JR_aload_n (pc := 0) (k := 0) (i := 0) (o := some this) G rfl rfl dJ10_init_0 ?_
  refine JR_aload_n (pc := 1) (k := 1) (i := 1) (o := p1) G rfl rfl dJ10_init_1 ?_
  refine JR_aload_n (pc := 2) (k := 2) (i := 2) (o := p2) G rfl rfl dJ10_init_2 ?_
  refine JR_iload_n (pc := 3) (k := 3) (i := 3) G rfl rfl dJ10_init_3 ?_
  refine JR_iload (pc := 4) (i := 4) G rfl dJ10_init_4 ?_
  refine J_eq (r' := bind3 (thI 11 this p1 p2 p3 p4 S d) fun _ S1 d1 => some ((), S1, d1)) (by unfold Th_EF; cases thI 11 this p1 p2 p3 p4 S d <;> rfl) ?_
  refine JAV_U (pc := 6) (as := [va_rf p1, va_rf p2, .int p3, .int p4]) (st' := []) (o := some this) G (Th_TF_fn this p1 p2 p3 p4 S d) (JC_I (n := 4) G hRm q758 q759 q158 q760 rfl dd_J9_init_2 ⟨by decide, by decide⟩ dJ10_init_6 rfl (Nat.le_of_ble_eq_true rfl)) rfl (fun _ _ _ => rfl) (fun _ S1 d1 hd1 => ?_)
  exact JR_vret (pc := 9) G hR dJ10_init_9 rfl rfl
def Th_ER (this : Nat) (p1 p2 : Option Nat) (p3 p4 : Int32) (S : Sp) (d : Dt) : Option (Unit × Sp × Dt) := thI 14 this p1 p2 p3 p4 S d
set_option maxHeartbeats 4000000 in
theorem Th_ER_fn (this : Nat) (p1 p2 : Option Nat) (p3 p4 : Int32) (S : Sp) (d : Dt) : Fn yJ10_init (ws_ yJ10_init cJ10_init 5 none) 2 44 [va_rf (some this), va_rf p1, va_rf p2, .int p3, .int p4] S d rvU Λa (Th_ER this p1 p2 p3 p4 S d) := by
  refine Fn.ofJ (own := RJ10) (lv := [(0, va_rf (some this)), (1, va_rf p1), (2, va_rf p2), (3, .int p3), (4, .int p4)]) (by decide +kernel) rfl (by simp [cat_i, rf_cat]) (by simp [lv_args, cat_i, rf_cat]) ?_
  intro X F G hRm hR hI
  refine JR_aload_n (pc := 0) (k := 0) (i := 0) (o := some this) G rfl rfl dJ10_init_0 ?_
  refine JR_aload_n (pc := 1) (k := 1) (i := 1) (o := p1) G rfl rfl dJ10_init_1 ?_
  refine JR_aload_n (pc := 2) (k := 2) (i := 2) (o := p2) G rfl rfl dJ10_init_2 ?_
  refine JR_iload_n (pc := 3) (k := 3) (i := 3) G rfl rfl dJ10_init_3 ?_
  refine JR_iload (pc := 4) (i := 4) G rfl dJ10_init_4 ?_
  refine J_eq (r' := bind3 (thI 14 this p1 p2 p3 p4 S d) fun _ S1 d1 => some ((), S1, d1)) (by unfold Th_ER; cases thI 14 this p1 p2 p3 p4 S d <;> rfl) ?_
  refine JAV_U (pc := 6) (as := [va_rf p1, va_rf p2, .int p3, .int p4]) (st' := []) (o := some this) G (Th_TR_fn this p1 p2 p3 p4 S d) (JC_I (n := 4) G hRm q758 q759 q158 q760 rfl dd_J9_init_2 ⟨by decide, by decide⟩ dJ10_init_6 rfl (Nat.le_of_ble_eq_true rfl)) rfl (fun _ _ _ => rfl) (fun _ S1 d1 hd1 => ?_)
  exact JR_vret (pc := 9) G hR dJ10_init_9 rfl rfl
def Th_RF (this : Nat) (p1 p2 : Option Nat) (p3 p4 : Int32) (S : Sp) (d : Dt) : Option (Unit × Sp × Dt) := thI 11 this p1 p2 p3 p4 S d
set_option maxHeartbeats 4000000 in
theorem Th_RF_fn (this : Nat) (p1 p2 : Option Nat) (p3 p4 : Int32) (S : Sp) (d : Dt) : Fn yJ11_init (ws_ yJ11_init cJ11_init 5 none) 3 68 [va_rf (some this), va_rf p1, va_rf p2, .int p3, .int p4] S d rvU Λa (Th_RF this p1 p2 p3 p4 S d) := by
  refine Fn.ofJ (own := RJ11) (lv := [(0, va_rf (some this)), (1, va_rf p1), (2, va_rf p2), (3, .int p3), (4, .int p4)]) (by decide +kernel) rfl (by simp [cat_i, rf_cat]) (by simp [lv_args, cat_i, rf_cat]) ?_
  intro X F G hRm hR hI
  refine JR_aload_n (pc := 0) (k := 0) (i := 0) (o := some this) G rfl rfl dJ11_init_0 ?_
  refine JR_aload_n (pc := 1) (k := 1) (i := 1) (o := p1) G rfl rfl dJ11_init_1 ?_
  refine JR_aload_n (pc := 2) (k := 2) (i := 2) (o := p2) G rfl rfl dJ11_init_2 ?_
  refine JR_iload_n (pc := 3) (k := 3) (i := 3) G rfl rfl dJ11_init_3 ?_
  refine JR_iload (pc := 4) (i := 4) G rfl dJ11_init_4 ?_
  refine J_eq (r' := bind3 (Th_EF this p1 p2 p3 p4 S d) fun _ S1 d1 => some ((), S1, d1)) (by unfold Th_RF; show Th_EF this p1 p2 p3 p4 S d = _; cases Th_EF this p1 p2 p3 p4 S d <;> rfl) ?_
  refine JAV_U (pc := 6) (as := [va_rf p1, va_rf p2, .int p3, .int p4]) (st' := []) (o := some this) G (Th_EF_fn this p1 p2 p3 p4 S d) (JC_I (n := 4) G hRm q755 q756 q159 q757 rfl dd_J10_init ⟨by decide, by decide⟩ dJ11_init_6 rfl (Nat.le_of_ble_eq_true rfl)) rfl (fun _ _ _ => rfl) (fun _ S1 d1 hd1 => ?_)
  exact JR_vret (pc := 9) G hR dJ11_init_9 rfl rfl
