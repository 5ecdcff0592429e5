/-! FLOATS: a table of small whole numbers -/
set_option maxRecDepth 100000
/-! small whole numbers -/
def chkI (x : Int32) : Bool := match FP.Core.decode FP.Core.b32 (FP.i2f x).toNat with
  | .fin _ c q => decide (c < 16777216 ∧ q ≤ 0 ∧ (x ≠ 0 → c ≠ 0 ∧ -24 ≤ q))
  | _ => false
theorem chk_tab : ∀ k, k < 1024 → chkI (nI k - 512) = true := by decide +kernel
def chkD (x : Int32) : Bool := match FP.Core.decode FP.Core.b64 (FP.i2d x).toNat with
  | .fin _ c _ => decide (c ≠ 0)
  | _ => false
theorem chkD_tab : ∀ k, k < 256 → k ≠ 0 → chkD (nI k) = true := by decide +kernel
def chkL (k : Nat) : Bool := decide ((FP.fdiv (FP.i2f (nI k)) 1092616192).toNat % 2147483648 ≤ 2139095040)
theorem chkL_tab : ∀ k, k < 10 → chkL k = true := by decide +kernel
