/-! ===== quotients of small numbers ===== -/
theorem dd_ok : ∀ a : Nat, a < 65 → ∀ b : Nat, b < 65 → b ≠ 0 → FP.ddiv (FP.i2d (iI (a : Int))) (FP.i2d (iI (b : Int))) &&& 0x7fffffffffffffff ≤ 0x7ff0000000000000 := by decide +kernel
theorem ff_ok : ∀ a : Nat, a < 65 → ∀ b : Nat, b < 65 → b ≠ 0 → FP.fdiv (FP.i2f (iI (a : Int))) (FP.i2f (iI (b : Int))) &&& 0x7fffffff ≤ 0x7f800000 ∧ FP.f2d (FP.fdiv (FP.i2f (iI (a : Int))) (FP.i2f (iI (b : Int)))) &&& 0x7fffffffffffffff ≤ 0x7ff0000000000000 := by decide +kernel
theorem f0_ok : FP.f2d FP.fconst0 &&& 0x7fffffffffffffff ≤ 0x7ff0000000000000 := by decide +kernel
