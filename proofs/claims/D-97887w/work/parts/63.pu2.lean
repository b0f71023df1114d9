set_option maxRecDepth 100000
theorem p_bitsK : ∀ m, m < 4096 → fX13_bits (Int32.ofNat m) = some (fX0_ones (Int32.ofNat m)) := by decide +kernel

