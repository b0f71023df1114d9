set_option maxRecDepth 100000
/-! rows of notes, by number -/
def pPc (n : Nat) : Nat := (n.testBit 0).toNat + (n.testBit 1).toNat + (n.testBit 2).toNat + (n.testBit 3).toNat + (n.testBit 4).toNat + (n.testBit 5).toNat + (n.testBit 6).toNat + (n.testBit 7).toNat + (n.testBit 8).toNat + (n.testBit 9).toNat + (n.testBit 10).toNat + (n.testBit 11).toNat
set_option maxHeartbeats 40000000 in
theorem p_onesPc : ∀ n, n < 4096 → fX0_ones (Int32.ofNat n) = Int32.ofNat (pPc n) := by decide +kernel

