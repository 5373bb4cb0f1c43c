set_option maxRecDepth 100000
theorem dv_ok : ∀ x, x < 129 → ∀ y, y < 17 → 0 < y → vf_n64 (FP.ddiv (FP.i2d (nI x)) (FP.i2d (nI y))) := by unfold vf_n64; decide +kernel
theorem fv_ok : ∀ x, x < 9 → ∀ y, y < 9 → 0 < y → vf_n32 (FP.fdiv (FP.i2f (nI x)) (FP.i2f (nI y))) := by unfold vf_n32; decide +kernel
