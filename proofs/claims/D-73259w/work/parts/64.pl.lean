/-! THE PLAIN LAW: small laws -/
set_option maxRecDepth 100000
theorem cmp_lt {x y : Int64} : lg_cmp x y < 0 ↔ x < y := by
  unfold lg_cmp
  by_cases h : x > y
  · rw [if_pos h]
    exact ⟨fun q => absurd q (by decide), fun q => absurd h (Int64.lt_asymm q)⟩
  · rw [if_neg h]
    by_cases h2 : x = y
    · rw [if_pos h2]
      exact ⟨fun q => absurd q (by decide), fun q => absurd q (h2 ▸ Int64.lt_irrefl)⟩
    · rw [if_neg h2]
      exact ⟨fun _ => Int64.lt_of_le_of_ne (Int64.not_lt.mp h) h2, fun _ => by decide⟩
theorem cmp_gt {x y : Int64} : 0 < lg_cmp x y ↔ y < x := by
  unfold lg_cmp
  by_cases h : x > y
  · rw [if_pos h]
    exact ⟨fun _ => h, fun _ => by decide⟩
  · rw [if_neg h]
    by_cases h2 : x = y
    · rw [if_pos h2]
      exact ⟨fun q => absurd q (by decide), fun q => absurd q h⟩
    · rw [if_neg h2]
      exact ⟨fun q => absurd q (by decide), fun q => absurd q h⟩
theorem l_lt {x y : Int32} : x.toInt64 < y.toInt64 ↔ x < y := by
  rw [Int64.lt_iff_toInt_lt, Int32.lt_iff_toInt_lt, Int32.toInt_toInt64, Int32.toInt_toInt64]
/-- whether x lies between two bounds -/
def inI (x lo hi : Int32) : Int32 := if lo ≤ x ∧ x ≤ hi then 1 else 0
theorem Mo_in_eq {x lo hi : Int32} {S : Sp} {d : Dt} : Mo_in x.toInt64 lo.toInt64 hi.toInt64 S d = some (inI x lo hi) := by
  unfold Mo_in inI
  by_cases h1 : x < lo
  · rw [if_pos (cmp_lt.mpr (l_lt.mpr h1)), if_neg (fun q => Int32.not_lt.mpr q.1 h1)]
  · rw [if_neg (fun q => h1 (l_lt.mp (cmp_lt.mp q)))]
    by_cases h2 : hi < x
    · rw [if_pos (cmp_gt.mpr (l_lt.mpr h2)), if_neg (fun q => Int32.not_lt.mpr q.2 h2)]
    · rw [if_neg (fun q => h2 (l_lt.mp (cmp_gt.mp q))), if_pos ⟨Int32.not_lt.mp h1, Int32.not_lt.mp h2⟩]
theorem Ws_in_eq {x lo hi : Int32} {S : Sp} {d : Dt} : Ws_in x.toInt64 lo.toInt64 hi.toInt64 S d = some (inI x lo hi) := Mo_in_eq (S := S) (d := d)
