/-! THE LADDER: which rung's acts are called -/
set_option maxRecDepth 100000
def Rg_acts (v : Nat) (p1 p2 : Int32) (S : Sp) (d : Dt) : Option ((Unit ⊕ Nat) × Sp × Dt) := match S.1[v]? with
  | some sh => if sh.1 = 2 then bind2 (Ru_acts v p1 p2 S d) fun _ d1 => some (.inl (), S, d1) else if sh.1 = 3 then bind2 (Gr_acts v p1 p2 S d) fun _ d1 => some (.inl (), S, d1) else if sh.1 = 4 then bind2 (Wa_acts v p1 p2 S d) fun _ d1 => some (.inl (), S, d1) else Bo_acts v p1 p2 S d
  | none => none
section
variable {α β : Type} {X : CT} {F : α × Sp × Dt} {Λ : β → Sp → Dt → α × Sp × Dt} {S : Sp} {d : Dt} {pc nN idx fr9 lo9 : Nat} {lv : List (Nat × Value)} {st st' : List Value} {own : String} {cc : ByteArray}
theorem JX_acts (G : Ctx X F own cc nN) (hRm : Rm X fr9 lo9) (h1 : Cond.methodLink own idx yX2_acts ∈ lw_all) (hroom : 8 + 1 ≤ fr9 ∧ 8 + 20 + 174 ≤ lo9) (hd : decode cc pc = .ok (.invokevirtual idx, 3)) {v : Nat} {p1 p2 : Int32} (hv : isRg S 2 (some v) = some v) (hst9 : st'.length ≤ 4) {f9 : Unit → Sp → Dt → Option β} {g9 : Nat → Sp → Dt → Option β} (hΛ : ∀ b S' d', Λ b S' d' = Λ b S d)
    (hk : ∀ a S' d', Rg_acts v p1 p2 S d = some (.inl a, S', d') → J X F Λ S' d' (pc + 3) lv st' (f9 a S' d')) (hx : ∀ w S' d', Rg_acts v p1 p2 S d = some (.inr w, S', d') → JX X F Λ S' d' pc lv st' w "WatchStack$Reset" (g9 w S' d')) : J X F Λ S d pc lv (.int p2 :: .int p1 :: va_rf (some v) :: st') (bindE (Rg_acts v p1 p2 S d) g9 f9) := by
  obtain ⟨cn, h8, h9⟩ := isRg_at hv
  obtain ⟨-, n, hs⟩ := isK_at h9
  obtain rfl | rfl | rfl | rfl : cn = 2 ∨ cn = 3 ∨ cn = 4 ∨ cn = 5 := by omega
  · have e9 : Rg_acts v p1 p2 S d = bind2 (Ru_acts v p1 p2 S d) fun _ d1 => some (.inl (), S, d1) := by
      unfold Rg_acts
      rw [hs]
      rfl
    have e8 : bindE (Rg_acts v p1 p2 S d) g9 f9 = bind2 (Ru_acts v p1 p2 S d) fun _ d1 => f9 () S d1 := by
      rw [e9]
      cases Ru_acts v p1 p2 S d <;> rfl
    refine J_eq e8 ?_
    refine JQV_U (as := [.int p1, .int p2]) (st' := st') (o := some v) G (Ru_acts_fn v p1 p2 S d) (JC_V (n := 2) (fr := 5) (lo := 106) G hRm cl_X2 h1 q1209 q1210 q142 q1228 ⟨rfl, dd_X2_acts⟩ ⟨by omega, by omega⟩ hd h9 rfl hst9) rfl (fun _ _ => hΛ _ _ _) (fun _ d1 hd1 => ?_)
    exact hk () S d1 (by rw [e9, hd1]; rfl)
  · have e9 : Rg_acts v p1 p2 S d = bind2 (Gr_acts v p1 p2 S d) fun _ d1 => some (.inl (), S, d1) := by
      unfold Rg_acts
      rw [hs]
      rfl
    have e8 : bindE (Rg_acts v p1 p2 S d) g9 f9 = bind2 (Gr_acts v p1 p2 S d) fun _ d1 => f9 () S d1 := by
      rw [e9]
      cases Gr_acts v p1 p2 S d <;> rfl
    refine J_eq e8 ?_
    refine JQV_U (as := [.int p1, .int p2]) (st' := st') (o := some v) G (Gr_acts_fn v p1 p2 S d) (JC_O (n := 2) (fr := 6) (lo := 128) (owner := RX2) G hRm cl_X3 h1 q1211 q1209 q1254 q1223 q143 q1224 q1228 dd_X2_acts ⟨by omega, by omega⟩ hd h9 rfl hst9) rfl (fun _ _ => hΛ _ _ _) (fun _ d1 hd1 => ?_)
    exact hk () S d1 (by rw [e9, hd1]; rfl)
  · have e9 : Rg_acts v p1 p2 S d = bind2 (Wa_acts v p1 p2 S d) fun _ d1 => some (.inl (), S, d1) := by
      unfold Rg_acts
      rw [hs]
      rfl
    have e8 : bindE (Rg_acts v p1 p2 S d) g9 f9 = bind2 (Wa_acts v p1 p2 S d) fun _ d1 => f9 () S d1 := by
      rw [e9]
      cases Wa_acts v p1 p2 S d <;> rfl
    refine J_eq e8 ?_
    refine JQV_U (as := [.int p1, .int p2]) (st' := st') (o := some v) G (Wa_acts_fn v p1 p2 S d) (JC_O (n := 2) (fr := 7) (lo := 151) (owner := RX2) G hRm cl_X4 h1 q1211 q1209 q1255 q1216 q144 q1217 q1228 dd_X2_acts ⟨by omega, by omega⟩ hd h9 rfl hst9) rfl (fun _ _ => hΛ _ _ _) (fun _ d1 hd1 => ?_)
    exact hk () S d1 (by rw [e9, hd1]; rfl)
  · have e9 : Rg_acts v p1 p2 S d = Bo_acts v p1 p2 S d := by
      unfold Rg_acts
      rw [hs]
      rfl
    refine J_eq (r' := bindE (Bo_acts v p1 p2 S d) g9 f9) (by rw [e9]) ?_
    exact JXV_U (as := [.int p1, .int p2]) (st' := st') (o := some v) G (Bo_acts_fn v p1 p2 S d) (JXC_O (n := 2) (fr := 8) (lo := 174) (owner := RX2) G hRm cl_X5 h1 q1211 q1209 q1212 q1213 q145 q1214 q1228 dd_X2_acts ⟨by omega, by omega⟩ hd h9 rfl hst9) rfl hΛ (fun a S1 d1 h => hk a S1 d1 (e9.trans h)) (fun w S1 d1 h => hx w S1 d1 (e9.trans h))
end
