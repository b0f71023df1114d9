set_option maxRecDepth 100000
set_option maxHeartbeats 40000000 in
theorem p_rowC0 : ∀ n, n < 256 → 0 < 0 + n → fX0_isRow (Int32.ofNat (0 + n)) = fX13_stepBySteps (Int32.ofNat (0 + n)) ∧ (fX0_isRow (Int32.ofNat (0 + n))).isSome = true := by decide +kernel
set_option maxHeartbeats 40000000 in
theorem p_rowC1 : ∀ n, n < 256 → 0 < 256 + n → fX0_isRow (Int32.ofNat (256 + n)) = fX13_stepBySteps (Int32.ofNat (256 + n)) ∧ (fX0_isRow (Int32.ofNat (256 + n))).isSome = true := by decide +kernel
set_option maxHeartbeats 40000000 in
theorem p_rowC2 : ∀ n, n < 256 → 0 < 512 + n → fX0_isRow (Int32.ofNat (512 + n)) = fX13_stepBySteps (Int32.ofNat (512 + n)) ∧ (fX0_isRow (Int32.ofNat (512 + n))).isSome = true := by decide +kernel
set_option maxHeartbeats 40000000 in
theorem p_rowC3 : ∀ n, n < 256 → 0 < 768 + n → fX0_isRow (Int32.ofNat (768 + n)) = fX13_stepBySteps (Int32.ofNat (768 + n)) ∧ (fX0_isRow (Int32.ofNat (768 + n))).isSome = true := by decide +kernel
set_option maxHeartbeats 40000000 in
theorem p_rowC4 : ∀ n, n < 256 → 0 < 1024 + n → fX0_isRow (Int32.ofNat (1024 + n)) = fX13_stepBySteps (Int32.ofNat (1024 + n)) ∧ (fX0_isRow (Int32.ofNat (1024 + n))).isSome = true := by decide +kernel
set_option maxHeartbeats 40000000 in
theorem p_rowC5 : ∀ n, n < 256 → 0 < 1280 + n → fX0_isRow (Int32.ofNat (1280 + n)) = fX13_stepBySteps (Int32.ofNat (1280 + n)) ∧ (fX0_isRow (Int32.ofNat (1280 + n))).isSome = true := by decide +kernel
set_option maxHeartbeats 40000000 in
theorem p_rowC6 : ∀ n, n < 256 → 0 < 1536 + n → fX0_isRow (Int32.ofNat (1536 + n)) = fX13_stepBySteps (Int32.ofNat (1536 + n)) ∧ (fX0_isRow (Int32.ofNat (1536 + n))).isSome = true := by decide +kernel
set_option maxHeartbeats 40000000 in
theorem p_rowC7 : ∀ n, n < 256 → 0 < 1792 + n → fX0_isRow (Int32.ofNat (1792 + n)) = fX13_stepBySteps (Int32.ofNat (1792 + n)) ∧ (fX0_isRow (Int32.ofNat (1792 + n))).isSome = true := by decide +kernel
set_option maxHeartbeats 40000000 in
theorem p_rowC8 : ∀ n, n < 256 → 0 < 2048 + n → fX0_isRow (Int32.ofNat (2048 + n)) = fX13_stepBySteps (Int32.ofNat (2048 + n)) ∧ (fX0_isRow (Int32.ofNat (2048 + n))).isSome = true := by decide +kernel
set_option maxHeartbeats 40000000 in
theorem p_rowC9 : ∀ n, n < 256 → 0 < 2304 + n → fX0_isRow (Int32.ofNat (2304 + n)) = fX13_stepBySteps (Int32.ofNat (2304 + n)) ∧ (fX0_isRow (Int32.ofNat (2304 + n))).isSome = true := by decide +kernel
set_option maxHeartbeats 40000000 in
theorem p_rowC10 : ∀ n, n < 256 → 0 < 2560 + n → fX0_isRow (Int32.ofNat (2560 + n)) = fX13_stepBySteps (Int32.ofNat (2560 + n)) ∧ (fX0_isRow (Int32.ofNat (2560 + n))).isSome = true := by decide +kernel
set_option maxHeartbeats 40000000 in
theorem p_rowC11 : ∀ n, n < 256 → 0 < 2816 + n → fX0_isRow (Int32.ofNat (2816 + n)) = fX13_stepBySteps (Int32.ofNat (2816 + n)) ∧ (fX0_isRow (Int32.ofNat (2816 + n))).isSome = true := by decide +kernel
set_option maxHeartbeats 40000000 in
theorem p_rowC12 : ∀ n, n < 256 → 0 < 3072 + n → fX0_isRow (Int32.ofNat (3072 + n)) = fX13_stepBySteps (Int32.ofNat (3072 + n)) ∧ (fX0_isRow (Int32.ofNat (3072 + n))).isSome = true := by decide +kernel
set_option maxHeartbeats 40000000 in
theorem p_rowC13 : ∀ n, n < 256 → 0 < 3328 + n → fX0_isRow (Int32.ofNat (3328 + n)) = fX13_stepBySteps (Int32.ofNat (3328 + n)) ∧ (fX0_isRow (Int32.ofNat (3328 + n))).isSome = true := by decide +kernel
set_option maxHeartbeats 40000000 in
theorem p_rowC14 : ∀ n, n < 256 → 0 < 3584 + n → fX0_isRow (Int32.ofNat (3584 + n)) = fX13_stepBySteps (Int32.ofNat (3584 + n)) ∧ (fX0_isRow (Int32.ofNat (3584 + n))).isSome = true := by decide +kernel
set_option maxHeartbeats 40000000 in
theorem p_rowC15 : ∀ n, n < 256 → 0 < 3840 + n → fX0_isRow (Int32.ofNat (3840 + n)) = fX13_stepBySteps (Int32.ofNat (3840 + n)) ∧ (fX0_isRow (Int32.ofNat (3840 + n))).isSome = true := by decide +kernel
theorem p_rowK (n : Nat) (hn : n < 4096) (hz : 0 < n) : fX0_isRow (Int32.ofNat n) = fX13_stepBySteps (Int32.ofNat n) ∧ (fX0_isRow (Int32.ofNat n)).isSome = true := by
  by_cases h0 : n < 256
  · obtain ⟨k, rfl⟩ : ∃ k, n = 0 + k := ⟨n - 0, by omega⟩
    exact p_rowC0 k (by omega) hz
  by_cases h1 : n < 512
  · obtain ⟨k, rfl⟩ : ∃ k, n = 256 + k := ⟨n - 256, by omega⟩
    exact p_rowC1 k (by omega) hz
  by_cases h2 : n < 768
  · obtain ⟨k, rfl⟩ : ∃ k, n = 512 + k := ⟨n - 512, by omega⟩
    exact p_rowC2 k (by omega) hz
  by_cases h3 : n < 1024
  · obtain ⟨k, rfl⟩ : ∃ k, n = 768 + k := ⟨n - 768, by omega⟩
    exact p_rowC3 k (by omega) hz
  by_cases h4 : n < 1280
  · obtain ⟨k, rfl⟩ : ∃ k, n = 1024 + k := ⟨n - 1024, by omega⟩
    exact p_rowC4 k (by omega) hz
  by_cases h5 : n < 1536
  · obtain ⟨k, rfl⟩ : ∃ k, n = 1280 + k := ⟨n - 1280, by omega⟩
    exact p_rowC5 k (by omega) hz
  by_cases h6 : n < 1792
  · obtain ⟨k, rfl⟩ : ∃ k, n = 1536 + k := ⟨n - 1536, by omega⟩
    exact p_rowC6 k (by omega) hz
  by_cases h7 : n < 2048
  · obtain ⟨k, rfl⟩ : ∃ k, n = 1792 + k := ⟨n - 1792, by omega⟩
    exact p_rowC7 k (by omega) hz
  by_cases h8 : n < 2304
  · obtain ⟨k, rfl⟩ : ∃ k, n = 2048 + k := ⟨n - 2048, by omega⟩
    exact p_rowC8 k (by omega) hz
  by_cases h9 : n < 2560
  · obtain ⟨k, rfl⟩ : ∃ k, n = 2304 + k := ⟨n - 2304, by omega⟩
    exact p_rowC9 k (by omega) hz
  by_cases h10 : n < 2816
  · obtain ⟨k, rfl⟩ : ∃ k, n = 2560 + k := ⟨n - 2560, by omega⟩
    exact p_rowC10 k (by omega) hz
  by_cases h11 : n < 3072
  · obtain ⟨k, rfl⟩ : ∃ k, n = 2816 + k := ⟨n - 2816, by omega⟩
    exact p_rowC11 k (by omega) hz
  by_cases h12 : n < 3328
  · obtain ⟨k, rfl⟩ : ∃ k, n = 3072 + k := ⟨n - 3072, by omega⟩
    exact p_rowC12 k (by omega) hz
  by_cases h13 : n < 3584
  · obtain ⟨k, rfl⟩ : ∃ k, n = 3328 + k := ⟨n - 3328, by omega⟩
    exact p_rowC13 k (by omega) hz
  by_cases h14 : n < 3840
  · obtain ⟨k, rfl⟩ : ∃ k, n = 3584 + k := ⟨n - 3584, by omega⟩
    exact p_rowC14 k (by omega) hz
  by_cases h15 : n < 4096
  · obtain ⟨k, rfl⟩ : ∃ k, n = 3840 + k := ⟨n - 3840, by omega⟩
    exact p_rowC15 k (by omega) hz
  omega

