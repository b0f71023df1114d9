set_option maxRecDepth 100000
/-! sheets -/
/-- scratch alone is touched -/
def pT (σ σ' : xM) : Prop := ∀ v i, v ≠ 4 → v ≠ 8 → v ≠ 9 → v ≠ 10 → v ≠ 11 → v ≠ 12 → v ≠ 2 → v ≠ 3 → ¬ (v = 6 ∧ i = 2) → σ' v i = σ v i
theorem pT.refl (σ : xM) : pT σ σ := fun _ _ _ _ _ _ _ _ _ _ _ => rfl
theorem pT.trans {a b c : xM} (h : pT a b) (g : pT b c) : pT a c := fun v i h1 h2 h3 h4 h5 h6 h7 h8 h9 => (g v i h1 h2 h3 h4 h5 h6 h7 h8 h9).trans (h v i h1 h2 h3 h4 h5 h6 h7 h8 h9)
theorem pT.up {a b : xM} (h : pT a b) (v i : Nat) (x : Int32) (hv : v = 4 ∨ v = 8 ∨ v = 9 ∨ v = 10 ∨ v = 11 ∨ v = 12 ∨ v = 2 ∨ v = 3 ∨ (v = 6 ∧ i = 2)) : pT a (xup b v i x) := fun w j h1 h2 h3 h4 h5 h6 h7 h8 h9 => by
  rw [xup_n (by omega)]
  exact h w j h1 h2 h3 h4 h5 h6 h7 h8 h9
theorem pT.row {σ σ' : xM} (h : pT σ σ') {v : Nat} (hv : v ≠ 4 ∧ v ≠ 8 ∧ v ≠ 9 ∧ v ≠ 10 ∧ v ≠ 11 ∧ v ≠ 12 ∧ v ≠ 2 ∧ v ≠ 3 ∧ v ≠ 6) : σ' v = σ v := by
  funext i
  exact h v i (by omega) (by omega) (by omega) (by omega) (by omega) (by omega) (by omega) (by omega) (by omega)
theorem pT.r {σ σ' τ : xM} (h : pT σ σ') (hR : pR σ τ) : pR σ' τ := by
  have e0 := h.row (v := 0) (by omega)
  have e1 := h.row (v := 1) (by omega)
  have e5 := h.row (v := 5) (by omega)
  have e7 := h.row (v := 7) (by omega)
  have e13 := h.row (v := 13) (by omega)
  have e14 := h.row (v := 14) (by omega)
  have e15 := h.row (v := 15) (by omega)
  have e60 : σ' 6 0 = σ 6 0 := h 6 0 (by omega) (by omega) (by omega) (by omega) (by omega) (by omega) (by omega) (by omega) (by omega)
  have e61 : σ' 6 1 = σ 6 1 := h 6 1 (by omega) (by omega) (by omega) (by omega) (by omega) (by omega) (by omega) (by omega) (by omega)
  unfold pR pO pRow at *
  rw [e0, e1, e5, e7, e13, e14, e15, e60, e61]
  exact hR
theorem pT.f {σ σ' : xM} (h : pT σ σ') : pF pC σ σ' := fun v i hv _ => by
  unfold pC at hv
  simp only [List.mem_cons, List.not_mem_nil, or_false, not_or] at hv
  exact h v i (by omega) (by omega) (by omega) (by omega) (by omega) (by omega) (by omega) (by omega) (by omega)
theorem pT.ok {α : Type} {σ σ' τ : xM} {o o' : Option (α × xM)} (h : pT σ σ') (g : pOk o o' σ' τ) : pOk o o' σ τ := g.then h.f (pF.refl _ _)
theorem p_ref {σ τ : xM} (hR : pR σ τ) (k : Nat) (hk : k < 7) {b : Int32} (hb : b = -1000001 - Int32.ofNat k) {x : Int32} (hx : x = Int32.ofNat k) : pOk ((fX0_finding (xup σ 11 0 x) ((xup σ 11 0 x) 11 0)).bind fun r => some (r.1, r.2)) ((fX13_finding τ b).bind fun r => some (r.1, r.2)) σ τ := by
  have h : pT σ (xup σ 11 0 x) := (pT.refl σ).up _ _ _ (by omega)
  rw [xup_s]
  exact h.ok ((p_find k hk (h.r hR) hx hb).b)
theorem p_need0 (σ : xM) (x : Int32) : fX0_need σ 0 x = some (none, xup σ 11 0 x) := by
  unfold fX0_need fX0_refused
  rw [if_pos rfl]; rfl
theorem p_need1 (σ : xM) {b : Int32} (hb : ¬ b = 0) (x : Int32) : fX0_need σ b x = some (some (), σ) := by
  unfold fX0_need
  rw [if_neg hb]
/-- a sheet's number: is there one, and which -/
theorem p_rowAt {σ τ : xM} (hR : pR σ τ) (a : Int32) : (fX0_isSheet a = 0 ∧ fX0_rowAt σ a = some (none, xup σ 11 0 0) ∧ fX13_lacks τ a = some (-1000001)) ∨ (¬ fX0_isSheet a = 0 ∧ ∃ s, s < 4 ∧ a = Int32.ofNat s ∧ ((σ 13 s = 0 ∧ fX0_rowAt σ a = some (some none, σ) ∧ fX13_lacks τ a = some (-1000006)) ∨ (¬ σ 13 s = 0 ∧ fX0_rowAt σ a = some (some (some s), σ) ∧ fX13_lacks τ a = some 0))) := by
  unfold fX0_rowAt fX13_lacks
  rw [show fX13_isSheet a = fX0_isSheet a from rfl]
  by_cases h : fX0_isSheet a = 0
  · left
    rw [if_pos h, h, p_need0]
    exact ⟨rfl, rfl, rfl⟩
  · right
    refine ⟨h, ?_⟩
    obtain ⟨s, hs, rfl⟩ := p_range (n := 3) (by decide) h
    have hin : xin (Int32.ofNat s) 4 := (p_in (by omega)).2 (by omega)
    refine ⟨s, by omega, rfl, ?_⟩
    rw [if_neg h, p_need1 σ h]
    simp only [xbt]
    rw [if_pos hin, if_pos hin, p_nat (by omega), (hR.2.2.2.2.1 s (by omega)).1]
    by_cases q : σ 13 s = 0
    · left
      rw [if_pos q, if_pos q]
      exact ⟨q, rfl, rfl⟩
    · right
      rw [if_neg q, if_neg q]
      exact ⟨q, rfl, rfl⟩
theorem p_sheetN {σ τ : xM} (hR : pR σ τ) {s : Nat} (hs : s < 4) (hw : ¬ σ 13 s = 0) : ∃ N, N ≤ 40 ∧ σ 14 s = Int32.ofNat N ∧ τ 29 s = Int32.ofNat N ∧ fX0_length σ s = some (Int32.ofNat N) ∧ (∀ i, i < N → fX0_number σ s (Int32.ofNat i) = some (σ 15 (40 * s + i))) ∧ ∀ i, i < 40 → τ 30 (40 * s + i) = σ 15 (40 * s + i) := by
  obtain ⟨h1, h2, ⟨N, hN, h3⟩, h4, h5⟩ := hR.2.2.2.2.1 s hs
  refine ⟨N, by omega, h3, h2.trans h3, ?_, fun i hi => ?_, fun i hi => (h5 i hi).1⟩
  · unfold fX0_length
    rw [if_neg hw, h3, p_nat (by omega)]
    by_cases q : xsk (σ 13 s) = 1
    · rw [if_pos q]
    · rw [if_neg q]
      by_cases q : xsk (σ 13 s) = 2
      · rw [if_pos q]
      · rw [if_neg q]
  · have hin : xin (Int32.ofNat i) (σ 14 s).toNatClampNeg := by rw [h3, p_nat (show N < 2 ^ 31 by omega)]; exact (p_in (by omega)).2 hi
    unfold fX0_number
    rw [if_neg hw, if_pos hin, p_nat (show i < 2 ^ 31 by omega)]
    by_cases q : xsk (σ 13 s) = 1
    · rw [if_pos q]
    · rw [if_neg q]
      by_cases q : xsk (σ 13 s) = 2
      · rw [if_pos q]
      · rw [if_neg q]
theorem p_40 {σ τ : xM} (hR : pR σ τ) : xs40 σ := fun t ht => by
  obtain ⟨N, hN, h3⟩ := (hR.2.2.2.2.1 t ht).2.2.1
  rw [h3, p_nat (by omega)]
  omega
theorem p_fit8 (x : Int32) : fits .byte (.int x.toInt8.toInt32) = true := by
  have h1 := x.toInt8.toInt_lt
  have h2 := x.toInt8.le_toInt
  have h3 : x.toInt8.toInt32.toInt = x.toInt8.toInt := Int8.toInt_toInt32 _
  unfold fits
  simp only [Bool.and_eq_true, decide_eq_true_eq, Int32.le_iff_toInt_le]
  rw [h3]
  have e1 : (-128 : Int32).toInt = -128 := by decide
  have e2 : (127 : Int32).toInt = 127 := by decide
  omega
theorem p_fit16 (x : Int32) : fits .short (.int x.toInt16.toInt32) = true := by
  have h1 := x.toInt16.toInt_lt
  have h2 := x.toInt16.le_toInt
  have h3 : x.toInt16.toInt32.toInt = x.toInt16.toInt := Int16.toInt_toInt32 _
  unfold fits
  simp only [Bool.and_eq_true, decide_eq_true_eq, Int32.le_iff_toInt_le]
  rw [h3]
  have e1 : (-32768 : Int32).toInt = -32768 := by decide
  have e2 : (32767 : Int32).toInt = 32767 := by decide
  omega
/-- one number of a sheet -/
theorem pR.num {σ τ : xM} (hR : pR σ τ) {s i : Nat} (hs : s < 4) (hi : i < 40) (x : Int32) (h8 : σ 13 s = 8 → fits .byte (.int x) = true) (h16 : σ 13 s = 16 → fits .short (.int x) = true) : pR (xup σ 15 (40 * s + i) x) (xup τ 30 (40 * s + i) x) := by
  obtain ⟨hn, h1, h2, h3, h4, h5⟩ := hR
  refine ⟨⟨fun j hj => hn.1 j hj, hn.2⟩, ⟨h1.1, h1.2⟩, h2, h3, fun t ht => ?_, h5⟩
  obtain ⟨k1, k2, k3, k4, k5⟩ := h4 t ht
  refine ⟨k1, k2, k3, k4, fun j hj => ?_⟩
  rw [xup_row, xup_row]
  unfold pUp
  by_cases q : 40 * t + j = 40 * s + i
  · rw [if_pos q, if_pos q]
    have e : t = s := by omega
    subst e
    exact ⟨rfl, h8, h16⟩
  · rw [if_neg q, if_neg q]
    exact k5 j hj
theorem p_ij {s i : Nat} : (40 : Int32) * Int32.ofNat s + Int32.ofNat i = Int32.ofNat (40 * s + i) := by
  rw [show (40 : Int32) * Int32.ofNat s = Int32.ofNat (40 * s) from p_mul 40 s, p_add]
theorem p_lenm {N : Nat} (hN : N ≤ 40) {a : Int32} (h : ¬ fX0_in a 0 (Int32.ofNat N - 1) = 0) : ∃ i, i < N ∧ a = Int32.ofNat i := by
  rcases Nat.eq_zero_or_pos N with h0 | h0
  · subst h0
    exfalso
    apply h
    unfold fX0_in
    by_cases h1 : a < 0
    · rw [if_pos h1]
    · rw [if_neg h1, if_pos]
      rw [Int32.lt_iff_toInt_lt] at *
      have h2 : (0 : Int32).toInt = 0 := by decide
      have h3 : (Int32.ofNat 0 - 1).toInt = -1 := by decide
      omega
  · have e : Int32.ofNat N - 1 = Int32.ofNat (N - 1) := by
      have : N = (N - 1) + 1 := by omega
      rw [this, ← p_s]
      simp
    rw [e] at h
    obtain ⟨k, hk, rfl⟩ := p_range (by omega) h
    exact ⟨k, by omega, rfl⟩
theorem p_lay {σ τ : xM} (hR : pR σ τ) {s i N : Nat} (hs : s < 4) (hw : ¬ σ 13 s = 0) (hN : N ≤ 40) (h14 : σ 14 s = Int32.ofNat N) (hi : i < N) (x : Int32) : ∃ y, fX0_lay σ s (Int32.ofNat i) x = some (xup σ 15 (40 * s + i) y) ∧ fX13_cutTo x (σ 13 s) = y ∧ (σ 13 s = 8 → fits .byte (.int y) = true) ∧ (σ 13 s = 16 → fits .short (.int y) = true) := by
  have hin : xin (Int32.ofNat i) (σ 14 s).toNatClampNeg := by rw [h14, p_nat (show N < 2 ^ 31 by omega)]; exact (p_in (by omega)).2 hi
  have h40 := p_40 hR
  unfold fX0_lay fX13_cutTo
  simp only [if_pos h40, if_pos hin]
  rw [if_neg hw, p_nat (show i < 2 ^ 31 by omega)]
  rcases (hR.2.2.2.2.1 s hs).2.2.2.1 with q | q | q | q
  · exact absurd q hw
  · rw [q, if_pos (by decide : xsk 8 = 1), if_pos rfl]
    refine ⟨_, rfl, ?_, fun _ => p_fit8 _, fun w => absurd w (by decide)⟩
    rw [Int8.toInt8_toInt32]
  · rw [q, if_neg (by decide : ¬ xsk 16 = 1), if_pos (by decide : xsk 16 = 2), if_neg (by decide), if_pos rfl]
    refine ⟨_, rfl, ?_, fun w => absurd w (by decide), fun _ => p_fit16 _⟩
    rw [Int16.toInt16_toInt32]
  · rw [q, if_neg (by decide : ¬ xsk 32 = 1), if_neg (by decide : ¬ xsk 32 = 2), if_neg (by decide), if_neg (by decide)]
    exact ⟨x, rfl, rfl, fun w => absurd w (by decide), fun w => absurd w (by decide)⟩
theorem p_write {σ τ : xM} (hR : pR σ τ) (a1 a2 a3 : Int32) : pOk (fX0_write σ a1 a2 a3) (fX13_write τ a1 a2 a3) σ τ := by
  unfold fX0_write fX13_write
  rw [show fX13_isSheet a1 = fX0_isSheet a1 from rfl]
  rcases p_rowAt hR a1 with ⟨h, e, _⟩ | ⟨h, s, hs, rfl, ⟨hw, e, _⟩ | ⟨hw, e, _⟩⟩
  · rw [e, if_pos h]
    exact p_ref hR 0 (by decide) (b := -1000001) (x := 0) (by decide) (by decide)
  · have hin : xin (Int32.ofNat s) 4 := (p_in (by omega)).2 hs
    simp only [if_pos hin]
    rw [e, if_neg h, p_nat (by omega), (hR.2.2.2.2.1 s hs).1, if_pos hw]
    simp only [xct, xro]
    rw [p_need0]
    exact p_ref hR 5 (by decide) (b := -1000006) (x := 5) (by decide) (by decide)
  · have hin : xin (Int32.ofNat s) 4 := (p_in (by omega)).2 hs
    obtain ⟨N, hN, h14, h29, hl, hnum, h30⟩ := p_sheetN hR hs hw
    simp only [if_pos hin]
    rw [e, if_neg h, p_nat (show s < 2 ^ 31 by omega), (hR.2.2.2.2.1 s hs).1, if_neg hw, h29]
    simp only [xct, xro]
    rw [if_pos hs, p_need1 σ (by decide : ¬ (1 : Int32) = 0)]
    simp only
    rw [hl]
    simp only [Option.bind_some]
    rw [show fX13_within a2 0 (Int32.ofNat N - 1) = fX0_in a2 0 (Int32.ofNat N - 1) from rfl]
    by_cases q : fX0_in a2 0 (Int32.ofNat N - 1) = 0
    · rw [q, p_need0, if_pos rfl]
      exact p_ref hR 0 (by decide) (b := -1000001) (x := 0) (by decide) (by decide)
    · rw [p_need1 σ q, if_neg q]
      simp only
      obtain ⟨i, hi, rfl⟩ := p_lenm hN q
      obtain ⟨y, y1, y2, y3, y4⟩ := p_lay hR hs hw hN h14 hi a3
      rw [y1, y2, p_ij, if_pos ((p_in (by omega)).2 (by omega)), p_nat (show 40 * s + i < 2 ^ 31 by omega)]
      exact ⟨_, _, _, rfl, rfl, hR.num hs (by omega) y y3 y4, (pF.refl _ _).up _ _ _ (by decide), (pF.refl _ _).up _ _ _ (by decide)⟩
theorem p_zero (τ : xM) {s : Nat} (hs : s < 4) : ∃ r, gX13_sheet_86 (Int32.ofNat s) xfu 0 τ = some r ∧ pF [30] τ r.2 ∧ (∀ i, i < 40 → r.2 30 (40 * s + i) = 0) ∧ ∀ j, (j < 40 * s ∨ 40 * s + 40 ≤ j) → r.2 30 j = τ 30 j := by
  refine p_loop (G := fun n (r : Int32 × xM) => gX13_sheet_86 (Int32.ofNat s) n r.1 r.2) (fun k r => r.1 = Int32.ofNat k ∧ k ≤ 40 ∧ pF [30] τ r.2 ∧ (∀ i, i < k → r.2 30 (40 * s + i) = 0) ∧ ∀ j, (j < 40 * s ∨ 40 * s + 40 ≤ j) → r.2 30 j = τ 30 j) (Post := fun r => pF [30] τ r.2 ∧ (∀ i, i < 40 → r.2 30 (40 * s + i) = 0) ∧ ∀ j, (j < 40 * s ∨ 40 * s + 40 ≤ j) → r.2 30 j = τ 30 j) 40 ?_ 0 (0, τ) ⟨rfl, Nat.zero_le _, pF.refl _ _, fun i hi => by omega, fun _ _ => rfl⟩ xfu (by unfold xfu; omega)
  rintro k n ⟨x, t⟩ ⟨e, hk, h1, h2, h3⟩
  dsimp only at e h1 h2 h3 ⊢
  subst e
  by_cases q : k = 40
  · right
    subst q
    exact ⟨(Int32.ofNat 40, t), by rw [gX13_sheet_86, if_pos (by decide)], h1, h2, h3⟩
  · left
    have hle : ¬ (40 : Int32) ≤ Int32.ofNat k := fun q => by have := (p_le (a := 40) (by omega) (by omega)).1 q; omega
    refine ⟨by omega, (Int32.ofNat (k + 1), xup t 30 (40 * s + k) 0), ?_, rfl, by omega, h1.up _ _ _ (by decide), fun i hi => ?_, fun j hj => ?_⟩
    · rw [gX13_sheet_86, if_neg hle, p_ij, if_pos ((p_in (by omega)).2 (by omega)), p_nat (by omega), p_s]
    · dsimp only
      by_cases w : i = k
      · rw [w, xup_s]
      · rw [xup_n (by omega)]; exact h2 i (by omega)
    · dsimp only
      rw [xup_n (by omega)]; exact h3 j hj
theorem p_sheetR {σ τ t : xM} (hR : pR σ τ) {s N : Nat} (hs : s < 4) (hN : N ≤ 40) {w : Int32} (hw : w = 0 ∨ w = 8 ∨ w = 16 ∨ w = 32) (h1 : pF [30] (xup (xup τ 28 s w) 29 s (Int32.ofNat N)) t) (h2 : ∀ i, i < 40 → t 30 (40 * s + i) = 0) (h3 : ∀ j, (j < 40 * s ∨ 40 * s + 40 ≤ j) → t 30 j = τ 30 j) : pR (xns σ s w (Int32.ofNat N)) t ∧ pF pC σ (xns σ s w (Int32.ofNat N)) ∧ pF pM τ t ∧ t 29 s = Int32.ofNat N := by
  have n0 : ∀ v i, v ≠ 13 → v ≠ 14 → v ≠ 15 → xns σ s w (Int32.ofNat N) v i = σ v i := fun v i a b c => by
    unfold xns
    rw [if_neg (fun q => a q.1), if_neg (fun q => b q.1), if_neg (fun q => c q.1)]
  have r : ∀ v, v ≠ 13 → v ≠ 14 → v ≠ 15 → xns σ s w (Int32.ofNat N) v = σ v := fun v a b c => by funext i; exact n0 v i a b c
  have t0 : ∀ v i, v ≠ 28 → v ≠ 29 → v ≠ 30 → (v = 24 → i = 0 ∨ i = 2) → t v i = τ v i := fun v i a b c d => by
    rw [h1 v i (fun q => c (List.mem_singleton.1 q)) d, xup_n (fun q => b q.1), xup_n (fun q => a q.1)]
  have t0' : ∀ v, v ≠ 28 → v ≠ 29 → v ≠ 30 → v ≠ 24 → t v = τ v := fun v a b c d => by funext i; exact t0 v i a b c (fun q => absurd q d)
  have t29 : t 29 s = Int32.ofNat N := by rw [h1 29 s (by decide) (by omega), xup_s]
  refine ⟨⟨⟨?_, ?_⟩, ⟨?_, ?_⟩, ⟨?_, ?_, ?_⟩, ?_, ?_, ?_⟩, ?_, ?_, t29⟩
  · unfold pRow
    rw [r 0 (by omega) (by omega) (by omega), t0' 20 (by omega) (by omega) (by omega) (by omega)]; exact hR.1.1
  · rw [r 0 (by omega) (by omega) (by omega)]; exact hR.1.2
  · rw [r 6 (by omega) (by omega) (by omega), t0 24 0 (by omega) (by omega) (by omega) (by omega)]; exact hR.2.1.1
  · unfold pRow
    rw [r 6 (by omega) (by omega) (by omega), r 1 (by omega) (by omega) (by omega), t0' 21 (by omega) (by omega) (by omega) (by omega)]; exact hR.2.1.2
  · rw [r 6 (by omega) (by omega) (by omega), t0 24 2 (by omega) (by omega) (by omega) (by omega)]; exact hR.2.2.1.1
  · rw [r 6 (by omega) (by omega) (by omega)]; exact hR.2.2.1.2.1
  · rw [r 5 (by omega) (by omega) (by omega), t0' 26 (by omega) (by omega) (by omega) (by omega)]; exact hR.2.2.1.2.2
  · rw [r 7 (by omega) (by omega) (by omega), t0' 23 (by omega) (by omega) (by omega) (by omega)]; exact hR.2.2.2.1
  · intro u hu
    obtain ⟨k1, k2, k3, k4, k5⟩ := hR.2.2.2.2.1 u hu
    by_cases q : u = s
    · subst q
      have a13 : xns σ u w (Int32.ofNat N) 13 u = w := by unfold xns; rw [if_pos ⟨rfl, rfl⟩]
      have a14 : xns σ u w (Int32.ofNat N) 14 u = Int32.ofNat N := by unfold xns; rw [if_neg (by omega), if_pos ⟨rfl, rfl⟩]
      have a15 : ∀ i, i < 40 → xns σ u w (Int32.ofNat N) 15 (40 * u + i) = 0 := fun i hi => by unfold xns; rw [if_neg (by omega), if_neg (by omega), if_pos ⟨rfl, by omega, by omega⟩]
      refine ⟨?_, ?_, ?_, ?_, fun i hi => ?_⟩
      · rw [a13, h1 28 u (by decide) (by omega), xup_n (by omega), xup_s]
      · rw [a14]; exact t29
      · rw [a14]; exact ⟨N, by omega, rfl⟩
      · rw [a13]; exact hw
      · rw [a15 i hi, h2 i hi]
        exact ⟨rfl, fun _ => by decide, fun _ => by decide⟩
    · have a13 : xns σ s w (Int32.ofNat N) 13 u = σ 13 u := by unfold xns; rw [if_neg (fun w => q w.2), if_neg (by omega), if_neg (by omega)]
      have a14 : xns σ s w (Int32.ofNat N) 14 u = σ 14 u := by unfold xns; rw [if_neg (by omega), if_neg (fun w => q w.2), if_neg (by omega)]
      have a15 : ∀ i, i < 40 → xns σ s w (Int32.ofNat N) 15 (40 * u + i) = σ 15 (40 * u + i) := fun i hi => by unfold xns; rw [if_neg (by omega), if_neg (by omega), if_neg (by omega)]
      rw [a13, a14, h1 28 u (by decide) (by omega), h1 29 u (by decide) (by omega), xup_n (by omega), xup_n (by omega), xup_n (by omega), xup_n (by omega)]
      refine ⟨k1, k2, k3, k4, fun i hi => ?_⟩
      rw [a15 i hi, h3 _ (by omega)]
      exact k5 i hi
  · rw [t0' 32 (by omega) (by omega) (by omega) (by omega), t0' 33 (by omega) (by omega) (by omega) (by omega)]; exact hR.2.2.2.2.2
  · intro v i hv _
    unfold pC at hv
    simp only [List.mem_cons, List.not_mem_nil, or_false, not_or] at hv
    exact n0 v i (by omega) (by omega) (by omega)
  · intro v i hv h24
    unfold pM at hv
    simp only [List.mem_cons, List.not_mem_nil, or_false, not_or] at hv
    exact t0 v i (by omega) (by omega) (by omega) (by omega)
theorem p_sheet {σ τ : xM} (hR : pR σ τ) (a1 a2 a3 : Int32) : pOk (fX0_sheet σ a1 a2 a3) (fX13_sheet τ a1 a2 a3) σ τ := by
  unfold fX0_sheet fX13_sheet
  rw [show fX13_isSheet a1 = fX0_isSheet a1 from rfl]
  by_cases h : fX0_isSheet a1 = 0
  · rw [if_pos h, if_pos h]; exact pf0 hR
  rw [if_neg h, if_neg h]
  obtain ⟨s, hs, rfl⟩ := p_range (n := 3) (by decide) h
  have hin : xin (Int32.ofNat s) 4 := (p_in (by omega)).2 (by omega)
  have h40 := p_40 hR
  have hns : (Int32.ofNat s).toNatClampNeg = s := p_nat (by omega)
  have neg : a3 < 0 ↔ ¬ 0 ≤ a3 := ⟨fun q w => absurd (Int32.lt_of_lt_of_le q w) Int32.lt_irrefl, fun q => Int32.not_le.1 q⟩
  have fin : ∀ w : Int32, (w = 0 ∨ w = 8 ∨ w = 16 ∨ w = 32) → ∀ N, N ≤ 40 → pOk (some (Int32.ofNat N, xns σ s w (Int32.ofNat N))) ((gX13_sheet_86 (Int32.ofNat s) xfu 0 (xup (xup τ 28 s w) 29 s (Int32.ofNat N))).bind (fun q17 => if xin (Int32.ofNat s) 4 then (some ((q17.2 29 s), q17.2)) else none)) σ τ := by
    intro w hw N hN
    obtain ⟨r, e1, e2, e3, e4⟩ := p_zero (xup (xup τ 28 s w) 29 s (Int32.ofNat N)) (s := s) (by omega)
    obtain ⟨g1, g2, g3, g4⟩ := p_sheetR hR (by omega) hN hw e2 e3 (fun j hj => (e4 j hj).trans (by rw [xup_n (by omega), xup_n (by omega)]))
    rw [e1, Option.bind_some, if_pos hin, g4]
    exact ⟨_, _, _, rfl, rfl, g1, g2, g3⟩

  by_cases w0 : a2 = 0
  · subst w0
    simp only [if_pos (rfl : (0 : Int32) = 0), hns]
    by_cases n : 0 ≤ a3
    · have n1 : ¬ a3 < 0 := fun q => neg.1 q n
      rw [if_neg n1, if_pos n, if_pos n]
      by_cases m : a3 ≤ 40
      · rw [if_pos m, if_pos m]
        obtain ⟨N, hN, rfl⟩ := p_of_range (x := a3) (n := 40) (by decide) n1 (Int32.not_lt.2 m)
        rw [if_pos hin, if_pos hin, if_pos hin, if_pos h40]
        exact fin 0 (by decide) 0 (by omega)
      · rw [if_neg m, if_neg m]; exact pf0 hR
    · rw [if_pos (neg.2 n), if_neg n, if_neg n]; exact pf6 hR
  simp only [if_neg w0]
  by_cases w8 : a2 = 8
  · subst w8
    simp only [if_neg (by decide : ¬ (8 : Int32) = 0), if_pos (rfl : (8 : Int32) = 8), hns]
    by_cases n : 0 ≤ a3
    · have n1 : ¬ a3 < 0 := fun q => neg.1 q n
      rw [if_neg n1, if_pos n, if_pos n]
      by_cases m : a3 ≤ 40
      · rw [if_pos m, if_pos m]
        obtain ⟨N, hN, rfl⟩ := p_of_range (x := a3) (n := 40) (by decide) n1 (Int32.not_lt.2 m)
        have c : ¬ Int32.ofNat N < 0 ∧ (Int32.ofNat N).toNatClampNeg ≤ 40 := ⟨n1, by rw [p_nat (by omega)]; exact hN⟩
        rw [if_pos hin, if_pos c, if_pos hin, if_pos hin, if_pos h40]
        exact fin 8 (by decide) N hN
      · rw [if_neg m, if_neg m]; exact pf0 hR
    · rw [if_pos (neg.2 n), if_neg n, if_neg n]; exact pf6 hR
  simp only [if_neg w8]
  by_cases w16 : a2 = 16
  · subst w16
    simp only [if_neg (by decide : ¬ (16 : Int32) = 0), if_neg (by decide : ¬ (16 : Int32) = 8), if_pos (rfl : (16 : Int32) = 16), hns]
    by_cases n : 0 ≤ a3
    · have n1 : ¬ a3 < 0 := fun q => neg.1 q n
      rw [if_neg n1, if_pos n, if_pos n]
      by_cases m : a3 ≤ 40
      · rw [if_pos m, if_pos m]
        obtain ⟨N, hN, rfl⟩ := p_of_range (x := a3) (n := 40) (by decide) n1 (Int32.not_lt.2 m)
        have c : ¬ Int32.ofNat N < 0 ∧ (Int32.ofNat N).toNatClampNeg ≤ 40 := ⟨n1, by rw [p_nat (by omega)]; exact hN⟩
        rw [if_pos hin, if_pos c, if_pos hin, if_pos hin, if_pos h40]
        exact fin 16 (by decide) N hN
      · rw [if_neg m, if_neg m]; exact pf0 hR
    · rw [if_pos (neg.2 n), if_neg n, if_neg n]; exact pf6 hR
  simp only [if_neg w16]
  by_cases w32 : a2 = 32
  · subst w32
    simp only [if_neg (by decide : ¬ (32 : Int32) = 0), if_neg (by decide : ¬ (32 : Int32) = 8), if_neg (by decide : ¬ (32 : Int32) = 16), if_pos (rfl : (32 : Int32) = 32), hns]
    by_cases n : 0 ≤ a3
    · have n1 : ¬ a3 < 0 := fun q => neg.1 q n
      rw [if_neg n1, if_pos n, if_pos n]
      by_cases m : a3 ≤ 40
      · rw [if_pos m, if_pos m]
        obtain ⟨N, hN, rfl⟩ := p_of_range (x := a3) (n := 40) (by decide) n1 (Int32.not_lt.2 m)
        have c : ¬ Int32.ofNat N < 0 ∧ (Int32.ofNat N).toNatClampNeg ≤ 40 := ⟨n1, by rw [p_nat (by omega)]; exact hN⟩
        rw [if_pos hin, if_pos c, if_pos hin, if_pos hin, if_pos h40]
        exact fin 32 (by decide) N hN
      · rw [if_neg m, if_neg m]; exact pf0 hR
    · rw [if_pos (neg.2 n), if_neg n, if_neg n]; exact pf6 hR
  simp only [if_neg w32]
  exact pf0 hR

theorem p_cmpgt (x y : Int64) : (0 < lg_cmp x y) ↔ y < x := by
  unfold lg_cmp
  by_cases h : x > y
  · rw [if_pos h]; exact ⟨fun _ => h, fun _ => by decide⟩
  · rw [if_neg h]
    by_cases h2 : x = y
    · rw [if_pos h2]; exact ⟨fun q => absurd q (by decide), fun q => absurd q h⟩
    · rw [if_neg h2]; exact ⟨fun q => absurd q (by decide), fun q => absurd q h⟩
theorem p_cmple (x y : Int64) : (lg_cmp x y ≤ 0) ↔ ¬ y < x := by
  rw [← p_cmpgt]
  exact ⟨fun h q => absurd (Int32.lt_of_lt_of_le q h) Int32.lt_irrefl, fun h => Int32.not_lt.1 h⟩
theorem p_nn {x : Int32} (h : ¬ x < 0) : ∃ k, k < 2 ^ 31 ∧ x = Int32.ofNat k := by
  rw [Int32.lt_iff_toInt_lt] at h
  have h2 : (0 : Int32).toInt = 0 := by decide
  have h3 := x.toInt_lt
  refine ⟨x.toInt.toNat, by omega, ?_⟩
  apply Int32.toInt_inj.1
  rw [p_int (by omega)]
  omega
theorem p_sum64 {a b N : Nat} (ha : a < 2 ^ 31) (hb : b < 2 ^ 31) (hN : N ≤ 40) : ((Int32.ofNat N).toInt64 < (Int32.ofNat a).toInt64 + (Int32.ofNat b).toInt64) ↔ N < a + b := by
  rw [Int64.lt_iff_toInt_lt, Int64.toInt_add, Int32.toInt_toInt64, Int32.toInt_toInt64, Int32.toInt_toInt64, p_int ha, p_int hb, p_int (by omega)]
  rw [Int.bmod_eq_of_le (by omega) (by omega)]
  omega
theorem p_sub32 {a b N : Nat} (ha : a < 2 ^ 31) (hb : b < 2 ^ 31) (hN : N ≤ 40) : (Int32.ofNat N - Int32.ofNat b < Int32.ofNat a) ↔ N < a + b := by
  rw [Int32.lt_iff_toInt_lt, Int32.toInt_sub, p_int ha, p_int hb, p_int (by omega)]
  rw [Int.bmod_eq_of_le (by omega) (by omega)]
  omega
/-- the model moves numbers by way of 'moved' -/
theorem p_move (τ : xM) {s1 i1 s2 i2 n : Nat} (hs1 : s1 < 4) (hs2 : s2 < 4) (h1 : i1 + n ≤ 40) (h2 : i2 + n ≤ 40) : ∃ r, (gX13_copy_128 (Int32.ofNat s1) (Int32.ofNat i1) (Int32.ofNat n) xfu 0 τ).bind (fun q33 => (gX13_copy_165 (Int32.ofNat s2) (Int32.ofNat i2) (Int32.ofNat n) xfu 0 q33.2).bind (fun q38 => some (Int32.ofNat n, q38.2))) = some (Int32.ofNat n, r) ∧ pF [30, 31] τ r ∧ ∀ j, r 30 j = if 40 * s2 + i2 ≤ j ∧ j < 40 * s2 + i2 + n then τ 30 (40 * s1 + i1 + (j - (40 * s2 + i2))) else τ 30 j := by
  have A := p_loop (G := fun m (r : Int32 × xM) => gX13_copy_128 (Int32.ofNat s1) (Int32.ofNat i1) (Int32.ofNat n) m r.1 r.2) (fun k r => r.1 = Int32.ofNat k ∧ k ≤ n ∧ pF [31] τ r.2 ∧ ∀ i, i < k → r.2 31 i = τ 30 (40 * s1 + i1 + i)) (Post := fun r => pF [31] τ r.2 ∧ ∀ i, i < n → r.2 31 i = τ 30 (40 * s1 + i1 + i)) n (by
    rintro k m ⟨x, t⟩ ⟨e, hk, g1, g2⟩
    dsimp only at e g1 g2 ⊢
    subst e
    by_cases q : k = n
    · right
      subst q
      exact ⟨(Int32.ofNat k, t), by rw [gX13_copy_128, if_pos (Int32.le_refl _)], g1, g2⟩
    · left
      have hle : ¬ Int32.ofNat n ≤ Int32.ofNat k := fun q => by have := (p_le (by omega) (by omega)).1 q; omega
      refine ⟨by omega, (Int32.ofNat (k + 1), xup t 31 k (t 30 (40 * s1 + i1 + k))), ?_, rfl, by omega, g1.up _ _ _ (by decide), fun i hi => ?_⟩
      · rw [gX13_copy_128, if_neg hle, p_ij, p_add, if_pos ((p_in (by omega)).2 (by omega)), if_pos ((p_in (by omega)).2 (by omega)), p_nat (by omega), p_nat (by omega), p_s]
      · dsimp only
        by_cases w : i = k
        · rw [w, xup_s, g1 30 _ (by decide) (by omega)]
        · rw [xup_n (by omega)]; exact g2 i (by omega)) 0 (0, τ) ⟨rfl, Nat.zero_le _, pF.refl _ _, fun i hi => by omega⟩ xfu (by unfold xfu; omega)
  obtain ⟨⟨a0, a⟩, a1, a2, a3⟩ := A
  dsimp only at a1 a2 a3
  have B := p_loop (G := fun m (r : Int32 × xM) => gX13_copy_165 (Int32.ofNat s2) (Int32.ofNat i2) (Int32.ofNat n) m r.1 r.2) (fun k r => r.1 = Int32.ofNat k ∧ k ≤ n ∧ pF [30] a r.2 ∧ ∀ j, r.2 30 j = if 40 * s2 + i2 ≤ j ∧ j < 40 * s2 + i2 + k then τ 30 (40 * s1 + i1 + (j - (40 * s2 + i2))) else τ 30 j) (Post := fun r => pF [30] a r.2 ∧ ∀ j, r.2 30 j = if 40 * s2 + i2 ≤ j ∧ j < 40 * s2 + i2 + n then τ 30 (40 * s1 + i1 + (j - (40 * s2 + i2))) else τ 30 j) n (by
    rintro k m ⟨x, t⟩ ⟨e, hk, g1, g2⟩
    dsimp only at e g1 g2 ⊢
    subst e
    by_cases q : k = n
    · right
      subst q
      exact ⟨(Int32.ofNat k, t), by rw [gX13_copy_165, if_pos (Int32.le_refl _)], g1, g2⟩
    · left
      have hle : ¬ Int32.ofNat n ≤ Int32.ofNat k := fun q => by have := (p_le (by omega) (by omega)).1 q; omega
      refine ⟨by omega, (Int32.ofNat (k + 1), xup t 30 (40 * s2 + i2 + k) (t 31 k)), ?_, rfl, by omega, g1.up _ _ _ (by decide), fun j => ?_⟩
      · rw [gX13_copy_165, if_neg hle, p_ij, p_add, if_pos ((p_in (by omega)).2 (by omega)), if_pos ((p_in (by omega)).2 (by omega)), p_nat (by omega), p_nat (by omega), p_s]
      · dsimp only
        by_cases w : j = 40 * s2 + i2 + k
        · rw [w, xup_s, if_pos (by omega), g1 31 k (by decide) (by omega), a3 k (by omega)]
          congr 1
          omega
        · rw [xup_n (by omega), g2 j]
          by_cases w2 : 40 * s2 + i2 ≤ j ∧ j < 40 * s2 + i2 + k
          · rw [if_pos w2, if_pos (by omega)]
          · rw [if_neg w2, if_neg (by omega)]) 0 (0, a) ⟨rfl, Nat.zero_le _, pF.refl _ _, fun j => by rw [if_neg (by omega)]; exact a2 30 j (by decide) (by omega)⟩ xfu (by unfold xfu; omega)
  obtain ⟨⟨b0, b⟩, b1, b2, b3⟩ := B
  dsimp only at b1 b2 b3
  refine ⟨b, ?_, (a2.mono (by decide)).trans (b2.mono (by decide)), b3⟩
  rw [show gX13_copy_128 (Int32.ofNat s1) (Int32.ofNat i1) (Int32.ofNat n) xfu 0 τ = _ from a1, Option.bind_some]
  dsimp only
  rw [show gX13_copy_165 (Int32.ofNat s2) (Int32.ofNat i2) (Int32.ofNat n) xfu 0 a = _ from b1, Option.bind_some]
theorem pR.move {σ τ t : xM} (hR : pR σ τ) {s1 i1 s2 i2 n : Nat} (hs1 : s1 < 4) (hs2 : s2 < 4) (h1 : i1 + n ≤ 40) (h2 : i2 + n ≤ 40) (hw : σ 13 s1 = σ 13 s2) (f : pF [30, 31] τ t) (h : ∀ j, t 30 j = if 40 * s2 + i2 ≤ j ∧ j < 40 * s2 + i2 + n then τ 30 (40 * s1 + i1 + (j - (40 * s2 + i2))) else τ 30 j) : pR (xcs σ s1 i1 s2 i2 n) t ∧ pF pC σ (xcs σ s1 i1 s2 i2 n) ∧ pF pM τ t := by
  have n0 : ∀ v i, v ≠ 15 → xcs σ s1 i1 s2 i2 n v i = σ v i := fun v i a => by
    unfold xcs
    rw [if_neg (fun q => a q.1)]
  have r : ∀ v, v ≠ 15 → xcs σ s1 i1 s2 i2 n v = σ v := fun v a => by funext i; exact n0 v i a
  have t0 : ∀ v i, v ≠ 30 → v ≠ 31 → (v = 24 → i = 0 ∨ i = 2) → t v i = τ v i := fun v i a b d => f v i (fun q => by
    simp only [List.mem_cons, List.not_mem_nil, or_false] at q
    omega) d
  have t0' : ∀ v, v ≠ 30 → v ≠ 31 → v ≠ 24 → t v = τ v := fun v a b d => by funext i; exact t0 v i a b (fun q => absurd q d)
  refine ⟨⟨⟨?_, ?_⟩, ⟨?_, ?_⟩, ⟨?_, ?_, ?_⟩, ?_, ?_, ?_⟩, ?_, f.mono (by decide)⟩
  · unfold pRow
    rw [r 0 (by omega), t0' 20 (by omega) (by omega) (by omega)]; exact hR.1.1
  · rw [r 0 (by omega)]; exact hR.1.2
  · rw [r 6 (by omega), t0 24 0 (by omega) (by omega) (by omega)]; exact hR.2.1.1
  · unfold pRow
    rw [r 6 (by omega), r 1 (by omega), t0' 21 (by omega) (by omega) (by omega)]; exact hR.2.1.2
  · rw [r 6 (by omega), t0 24 2 (by omega) (by omega) (by omega)]; exact hR.2.2.1.1
  · rw [r 6 (by omega)]; exact hR.2.2.1.2.1
  · rw [r 5 (by omega), t0' 26 (by omega) (by omega) (by omega)]; exact hR.2.2.1.2.2
  · rw [r 7 (by omega), t0' 23 (by omega) (by omega) (by omega)]; exact hR.2.2.2.1
  · intro u hu
    obtain ⟨k1, k2, k3, k4, k5⟩ := hR.2.2.2.2.1 u hu
    rw [r 13 (by omega), r 14 (by omega), t0' 28 (by omega) (by omega) (by omega), t0' 29 (by omega) (by omega) (by omega)]
    refine ⟨k1, k2, k3, k4, fun i hi => ?_⟩
    rw [h]
    unfold xcs
    by_cases q : 40 * s2 + i2 ≤ 40 * u + i ∧ 40 * u + i < 40 * s2 + i2 + n
    · have e : u = s2 := by omega
      subst e
      have k9 := (hR.2.2.2.2.1 s1 hs1).2.2.2.2 (i1 + (i - i2)) (by omega)
      rw [if_pos q, if_pos ⟨rfl, q.1, q.2⟩, show 40 * s1 + i1 + (40 * u + i - (40 * u + i2)) = 40 * s1 + (i1 + (i - i2)) by omega, ← hw]
      exact k9
    · rw [if_neg q, if_neg (fun w => q w.2)]
      exact k5 i hi
  · rw [t0' 32 (by omega) (by omega) (by omega), t0' 33 (by omega) (by omega) (by omega)]; exact hR.2.2.2.2.2
  · intro v i hv _
    unfold pC at hv
    simp only [List.mem_cons, List.not_mem_nil, or_false, not_or] at hv
    exact n0 v i (by omega)
theorem p_width {σ τ : xM} (hR : pR σ τ) {s : Nat} (hs : s < 4) (hw : ¬ σ 13 s = 0) : fX0_widthOf σ s = some (σ 13 s) := by
  unfold fX0_widthOf
  rw [if_neg hw]
  rcases (hR.2.2.2.2.1 s hs).2.2.2.1 with q | q | q | q
  · exact absurd q hw
  · rw [q]; rfl
  · rw [q]; rfl
  · rw [q]; rfl
theorem p_slide {σ τ : xM} (hR : pR σ τ) {s1 s2 i1 i2 n N1 N2 : Nat} (hs1 : s1 < 4) (hs2 : s2 < 4) (hw1 : ¬ σ 13 s1 = 0) (hw : σ 13 s1 = σ 13 s2) (hN1 : σ 14 s1 = Int32.ofNat N1) (hN2 : σ 14 s2 = Int32.ofNat N2) (h41 : N1 ≤ 40) (h42 : N2 ≤ 40) (h1 : i1 + n ≤ N1) (h2 : i2 + n ≤ N2) : fX0_slide σ s1 (Int32.ofNat i1) s2 (Int32.ofNat i2) (Int32.ofNat n) = some (xcs σ s1 i1 s2 i2 n) := by
  have hw2 : ¬ σ 13 s2 = 0 := fun q => hw1 (hw.trans q)
  have ok : ∀ ty, (∀ i, i < 40 → fits ty (.int (σ 15 (40 * s1 + i))) = true) → xcok σ s1 s2 (Int32.ofNat i1) (Int32.ofNat i2) (Int32.ofNat n) ty := fun ty hf => by
    refine ⟨p_nlt0 _ (by omega), p_nlt0 _ (by omega), p_nlt0 _ (by omega), ?_, ?_, p_40 hR, fun i hi => ?_⟩
    · rw [hN1, p_nat (by omega), p_nat (by omega), p_nat (by omega)]; exact h1
    · rw [hN2, p_nat (by omega), p_nat (by omega), p_nat (by omega)]; exact h2
    · rw [p_nat (by omega)] at hi
      rw [p_nat (by omega)]
      exact hf (i1 + i) (by omega)
  have k5 := (hR.2.2.2.2.1 s1 hs1).2.2.2.2
  unfold fX0_slide
  rw [if_neg hw1, if_neg hw2, if_neg hw2, if_neg hw2, ← hw]
  rcases (hR.2.2.2.2.1 s1 hs1).2.2.2.1 with q | q | q | q
  · exact absurd q hw1
  · have c := ok .byte (fun i hi => (k5 i hi).2.1 q)
    rw [q, if_pos (by decide : xsk 8 = 1), if_pos (by decide : xsk 8 = 1), if_pos c, p_nat (show i1 < 2 ^ 31 by omega), p_nat (show i2 < 2 ^ 31 by omega), p_nat (show n < 2 ^ 31 by omega)]
  · have c := ok .short (fun i hi => (k5 i hi).2.2 q)
    rw [q, if_neg (by decide : ¬ xsk 16 = 1), if_pos (by decide : xsk 16 = 2), if_pos (by decide : xsk 16 = 2), if_pos c, p_nat (show i1 < 2 ^ 31 by omega), p_nat (show i2 < 2 ^ 31 by omega), p_nat (show n < 2 ^ 31 by omega)]
  · have c := ok .int (fun i hi => rfl)
    rw [q, if_neg (by decide : ¬ xsk 32 = 1), if_neg (by decide : ¬ xsk 32 = 2), if_pos (by decide : xsk 32 = 0), if_pos c, p_nat (show i1 < 2 ^ 31 by omega), p_nat (show i2 < 2 ^ 31 by omega), p_nat (show n < 2 ^ 31 by omega)]
theorem p_copy {σ τ : xM} (hR : pR σ τ) (a1 a2 a3 a4 a5 : Int32) : pOk (fX0_copy σ a1 a2 a3 a4 a5) (fX13_copy τ a1 a2 a3 a4 a5) σ τ := by
  have r0 := p_ref hR 0 (by decide) (b := -1000001) (x := 0) (by decide) (by decide)
  have r2 := p_ref hR 2 (by decide) (b := -1000003) (x := 2) (by decide) (by decide)
  have r5 := p_ref hR 5 (by decide) (b := -1000006) (x := 5) (by decide) (by decide)
  have n1 : ∀ x, fX0_need σ 1 x = some (some (), σ) := fun x => p_need1 σ (by decide) x
  unfold fX0_copy fX13_copy
  rw [show fX13_isSheet a1 = fX0_isSheet a1 from rfl, show fX13_isSheet a3 = fX0_isSheet a3 from rfl]
  rcases p_rowAt hR a1 with ⟨h, e, _⟩ | ⟨h, s, hs, rfl, hh⟩
  · rw [e, if_pos h]
    exact r0
  have hin : xin (Int32.ofNat s) 4 := (p_in (by omega)).2 hs
  have hns : (Int32.ofNat s).toNatClampNeg = s := p_nat (by omega)
  rcases p_rowAt hR a3 with ⟨h', e', _⟩ | ⟨h', s', hs', rfl, hh'⟩
  · rw [if_neg h, if_pos h']
    rcases hh with ⟨hw, e, _⟩ | ⟨hw, e, _⟩
    · rw [e]
      simp only [xct, xro]
      rw [e']
      exact r0
    · rw [e]
      simp only [xct, xro]
      rw [if_pos hs, e']
      exact r0
  have hin' : xin (Int32.ofNat s') 4 := (p_in (by omega)).2 hs'
  have hns' : (Int32.ofNat s').toNatClampNeg = s' := p_nat (by omega)
  simp only [if_neg h, if_neg h', if_pos hin, if_pos hin']
  rw [hns, hns', (hR.2.2.2.2.1 s hs).1, (hR.2.2.2.2.1 s' hs').1]
  rcases hh with ⟨hw, e, _⟩ | ⟨hw, e, _⟩
  · rw [e, if_pos hw]
    simp only [xct, xro]
    rcases hh' with ⟨hw', e', _⟩ | ⟨hw', e', _⟩
    · rw [e']
      simp only
      rw [p_need0]
      exact r5
    · rw [e']
      simp only
      rw [if_pos hs', p_need0]
      exact r5
  rw [e, if_neg hw]
  simp only [xct, xro]
  rw [if_pos hs]
  rcases hh' with ⟨hw', e', _⟩ | ⟨hw', e', _⟩
  · rw [e', if_pos hw']
    simp only
    rw [p_need0]
    exact r5
  rw [e', if_neg hw']
  simp only
  rw [if_pos hs', n1]
  simp only
  rw [p_width hR hs hw, Option.bind_some, p_width hR hs' hw', Option.bind_some]
  obtain ⟨N, hN, h14, h29, hl, _, _⟩ := p_sheetN hR hs hw
  obtain ⟨N', hN', h14', h29', hl', _, _⟩ := p_sheetN hR hs' hw'
  by_cases hww : σ 13 s = σ 13 s'
  · rw [if_pos hww, if_pos hww, n1]
    simp only
    rw [p_need0, hl, hl', h29, h29']
    simp only [Option.bind_some]
    by_cases q5 : a5 < 0
    · rw [if_pos q5]
      by_cases q2 : a2 < 0
      · rw [if_pos q2]; exact r0
      rw [if_neg q2]
      by_cases q4 : a4 < 0
      · rw [if_pos q4]; exact r0
      rw [if_neg q4, if_pos q5]; exact r0
    rw [if_neg q5]
    by_cases q2 : a2 < 0
    · rw [if_pos q2, if_pos q2]; exact r0
    rw [if_neg q2, if_neg q2]
    by_cases q4 : a4 < 0
    · rw [if_pos q4, if_pos q4]; exact r0
    rw [if_neg q4, if_neg q4, if_neg q5]
    obtain ⟨i, hi, rfl⟩ := p_nn q2
    obtain ⟨j, hj, rfl⟩ := p_nn q4
    obtain ⟨n, hn, rfl⟩ := p_nn q5
    by_cases c1 : N < i + n
    · rw [if_pos ((p_sub32 hi hn hN).2 c1), if_pos ((p_cmpgt _ _).2 ((p_sum64 hi hn hN).2 c1))]
      exact r0
    rw [if_neg (fun w => c1 ((p_sub32 hi hn hN).1 w)), if_neg (fun w => c1 ((p_sum64 hi hn hN).1 ((p_cmpgt _ _).1 w)))]
    by_cases c2 : N' < j + n
    · rw [if_pos ((p_sub32 hj hn hN').2 c2), if_neg (fun w => ((p_cmple _ _).1 w) ((p_sum64 hj hn hN').2 c2))]
      exact r0
    rw [if_neg (fun w => c2 ((p_sub32 hj hn hN').1 w)), if_pos ((p_cmple _ _).2 (fun w => c2 ((p_sum64 hj hn hN').1 w))), n1]
    simp only
    rw [p_slide hR hs hs' hw hww h14 h14' hN hN' (by omega) (by omega), Option.bind_some]
    obtain ⟨r, e1, e2, e3⟩ := p_move τ (i1 := i) (i2 := j) (n := n) hs hs' (by omega) (by omega)
    rw [e1]
    obtain ⟨g1, g2, g3⟩ := hR.move (i1 := i) (i2 := j) (n := n) hs hs' (by omega) (by omega) hww e2 e3
    exact ⟨_, _, _, rfl, rfl, g1, g2, g3⟩
  · rw [if_neg hww, if_neg hww, p_need0]
    exact r2

theorem p_loads {σ τ : xM} (hR : pR σ τ) {s N : Nat} (hs : s < 4) (hw : ¬ σ 13 s = 0) (hN : N ≤ 40) (h14 : σ 14 s = Int32.ofNat N) : ∃ r r', gX0_loads_2 s xfu 0 σ = some r ∧ gX13_load_20 (Int32.ofNat s) xfu 0 τ = some r' ∧ r.1 = r'.1 ∧ pR r.2 r'.2 ∧ pF [0] σ r.2 ∧ pF [20] τ r'.2 := by
  obtain ⟨B, hB⟩ := hR.1.2
  have hB8 := hB.1
  have hin : xin (Int32.ofNat s) 4 := (p_in (by omega)).2 hs
  have hns : (Int32.ofNat s).toNatClampNeg = s := p_nat (by omega)
  refine p_lock (G := fun n (r : Int32 × xM) => gX0_loads_2 s n r.1 r.2) (G' := fun n (r : Int32 × xM) => gX13_load_20 (Int32.ofNat s) n r.1 r.2) (fun k r r' => k ≤ N ∧ r.1 = Int32.ofNat k ∧ r'.1 = Int32.ofNat k ∧ pR r.2 r'.2 ∧ pWB B (r.2 0) ∧ pF [0] σ r.2 ∧ pF [20] τ r'.2) (Post := fun r r' => r.1 = r'.1 ∧ pR r.2 r'.2 ∧ pF [0] σ r.2 ∧ pF [20] τ r'.2) N ?_ 0 (0, σ) (0, τ) ⟨Nat.zero_le _, rfl, rfl, hR, hB, pF.refl _ _, pF.refl _ _⟩ xfu (by unfold xfu; omega)
  rintro k n ⟨x, a⟩ ⟨x', b⟩ ⟨hk, e1, e2, hR1, hB1, f1, f2⟩
  dsimp only at e1 e2 hR1 hB1 f1 f2 ⊢
  subst e1 e2
  have hw1 : ¬ a 13 s = 0 := by rw [f1 13 s (by decide) (by omega)]; exact hw
  obtain ⟨N', hN', h14', h29, hl, hnum, h30⟩ := p_sheetN hR1 hs hw1
  have eN : N' = N := by
    rw [f1 14 s (by decide) (by omega), h14] at h14'
    exact ((p_eq (by omega) (by omega)).1 h14').symm
  subst eN
  rw [gX0_loads_2, gX13_load_20, if_pos hin, hns, h29, hl, Option.bind_some]
  by_cases q : k = N'
  · right
    subst q
    rw [if_pos (Int32.le_refl _), if_pos (Int32.le_refl _)]
    exact ⟨_, _, rfl, rfl, rfl, hR1, f1, f2⟩
  have hle : ¬ Int32.ofNat N' ≤ Int32.ofNat k := fun q => by have := (p_le (by omega) (by omega)).1 q; omega
  rw [if_neg hle, if_neg hle, p_isBell hR1, Option.bind_some]
  by_cases q1 : fX0_isBell a (Int32.ofNat k) = 0
  · right
    rw [if_pos q1, if_pos q1]
    exact ⟨_, _, rfl, rfl, rfl, hR1, f1, f2⟩
  rw [if_neg q1, if_neg q1, hnum k (by omega), Option.bind_some, p_ij]
  have hin2 : xin (Int32.ofNat (40 * s + k)) 160 := (p_in (by omega)).2 (by omega)
  simp only [if_pos hin2]
  rw [p_nat (show 40 * s + k < 2 ^ 31 by omega), h30 k (by omega), show fX13_within (a 15 (40 * s + k)) 0 11 = fX0_in (a 15 (40 * s + k)) 0 11 from rfl]
  by_cases q2 : fX0_in (a 15 (40 * s + k)) 0 11 = 0
  · right
    rw [if_pos q2, if_pos q2]
    exact ⟨_, _, rfl, rfl, rfl, hR1, f1, f2⟩
  left
  obtain ⟨c, hc, hce⟩ := p_range (n := 11) (by decide) q2
  obtain ⟨b', hb', hb8, hbe⟩ := p_bell_of hB1 q1
  have hk8 : k < 8 := by
    have := (p_eq (by omega) (by omega)).1 hbe
    omega
  have at2 : fX13_at (Int32.ofNat k) 2 = Int32.ofNat (146 + 5 * k + 2) := p_at k 2
  rw [if_neg q2, if_neg q2, if_pos ((p_in (by omega)).2 hk8), at2, if_pos ((p_in (by omega)).2 (by omega)), p_nat (show k < 2 ^ 31 by omega), p_nat (show 146 + 5 * k + 2 < 2 ^ 31 by omega), p_s]
  have hWB : pWB B (pUp (a 0) (146 + 5 * k + 2) (a 15 (40 * s + k))) := hB1.bell k 2 _ hk8 (by omega) (by omega) (by omega) (fun _ => ⟨c, by omega, hce⟩) (by omega) (by omega)
  refine ⟨by omega, (Int32.ofNat (k + 1), xup a 0 (146 + 5 * k + 2) (a 15 (40 * s + k))), (Int32.ofNat (k + 1), xup b 20 (146 + 5 * k + 2) (a 15 (40 * s + k))), rfl, rfl, by omega, rfl, rfl, hR1.now _ _ hWB, ?_, f1.up _ _ _ (by decide), f2.up _ _ _ (by decide)⟩
  dsimp only
  rw [xup_row]
  exact hWB
theorem p_load {σ τ : xM} (hR : pR σ τ) (a1 : Int32) : pOk (fX0_load σ a1) (fX13_load τ a1) σ τ := by
  unfold fX0_load fX13_load
  rcases p_rowAt hR a1 with ⟨h, e, e'⟩ | ⟨h, s, hs, rfl, ⟨hw, e, e'⟩ | ⟨hw, e, e'⟩⟩
  · rw [e, e', Option.bind_some, if_neg (by decide)]
    exact p_ref hR 0 (by decide) (b := -1000001) (x := 0) (by decide) (by decide)
  · rw [e, e', Option.bind_some, if_neg (by decide)]
    simp only [xct, xro]
    rw [p_need0]
    exact p_ref hR 5 (by decide) (b := -1000006) (x := 5) (by decide) (by decide)
  · obtain ⟨N, hN, h14, h29, hl, hnum, h30⟩ := p_sheetN hR hs hw
    obtain ⟨r, r', e1, e2, e3, e4, e5, e6⟩ := p_loads hR hs hw hN h14
    rw [e, e', Option.bind_some, if_pos rfl]
    simp only [xct, xro]
    rw [if_pos hs, p_need1 σ (by decide)]
    simp only
    unfold fX0_loads
    rw [e1, e2, Option.bind_some, Option.bind_some, Option.bind_some]
    dsimp only
    rw [e3]
    exact ⟨_, _, _, rfl, rfl, e4, e5.mono (by decide), e6.mono (by decide)⟩
/-- is the k-th number of the sheet right -/
def pRt (σ : xM) (s k : Nat) : Prop := ¬ fX0_isBell σ (σ 15 (40 * s + k)) = 0 ∧ (k = 0 ∨ ¬ fX0_in (σ 0 (146 + 5 * (σ 15 (40 * s + k)).toNatClampNeg + 2) - σ 0 (146 + 5 * (σ 15 (40 * s + (k - 1))).toNatClampNeg + 2)) 1 2 = 0)
theorem p_isRight {σ τ : xM} (hR : pR σ τ) {s N k : Nat} (hN : N ≤ 40) (hk : k < N) (hnum : ∀ i, i < N → fX0_number σ s (Int32.ofNat i) = some (σ 15 (40 * s + i))) (hp : ∀ i, i < k → pRt σ s i) : ∃ x, fX0_isRight σ s (Int32.ofNat k) = some x ∧ (x = 0 ↔ ¬ pRt σ s k) := by
  obtain ⟨B, hB⟩ := hR.1.2
  unfold fX0_isRight
  rw [hnum k hk, Option.bind_some]
  by_cases q : fX0_isBell σ (σ 15 (40 * s + k)) = 0
  · rw [if_pos q]
    exact ⟨0, rfl, fun _ w => w.1 q, fun _ => rfl⟩
  rw [if_neg q]
  by_cases q0 : k = 0
  · rw [if_pos (by rw [q0]; rfl)]
    exact ⟨1, rfl, fun w => absurd w (by decide), fun w => absurd ⟨q, Or.inl q0⟩ w⟩
  · have e : Int32.ofNat k - 1 = Int32.ofNat (k - 1) := by
      have : k = (k - 1) + 1 := by omega
      rw [this, ← p_s]
      simp
    obtain ⟨b, hb, hb8, hbe⟩ := p_bell_of hB q
    obtain ⟨c, hc, hc8, hce⟩ := p_bell_of hB (hp (k - 1) (by omega)).1
    have hne : ¬ Int32.ofNat k = 0 := fun w => q0 ((p_eq (b := 0) (by omega) (by omega)).1 w)
    have i1 : xin (σ 15 (40 * s + k)) 8 := by rw [hbe]; exact (p_in (by omega)).2 hb8
    have i2 : xin (σ 15 (40 * s + (k - 1))) 8 := by rw [hce]; exact (p_in (by omega)).2 hc8
    rw [if_neg hne, if_pos i1, e, hnum (k - 1) (by omega), Option.bind_some, if_pos i2]
    by_cases q3 : fX0_in (σ 0 (146 + 5 * (σ 15 (40 * s + k)).toNatClampNeg + 2) - σ 0 (146 + 5 * (σ 15 (40 * s + (k - 1))).toNatClampNeg + 2)) 1 2 = 0
    · rw [if_pos q3]
      exact ⟨0, rfl, fun _ w => w.2.elim q0 (fun v => v q3), fun _ => rfl⟩
    · rw [if_neg q3]
      exact ⟨1, rfl, fun w => absurd w (by decide), fun w => absurd ⟨q, Or.inr q3⟩ w⟩
theorem p_judge {σ τ : xM} (hR : pR σ τ) (a1 : Int32) : pOk (fX0_judge σ a1) (fX13_judge τ a1) σ τ := by
  unfold fX0_judge fX13_judge
  rcases p_rowAt hR a1 with ⟨h, e, e'⟩ | ⟨h, s, hs, rfl, ⟨hw, e, e'⟩ | ⟨hw, e, e'⟩⟩
  · rw [e, e', Option.bind_some, if_neg (by decide)]
    exact p_ref hR 0 (by decide) (b := -1000001) (x := 0) (by decide) (by decide)
  · rw [e, e', Option.bind_some, if_neg (by decide)]
    simp only [xct, xro]
    rw [p_need0]
    exact p_ref hR 5 (by decide) (b := -1000006) (x := 5) (by decide) (by decide)
  · obtain ⟨N, hN, h14, h29, hl, hnum, h30⟩ := p_sheetN hR hs hw
    obtain ⟨B, hB⟩ := hR.1.2
    have hin : xin (Int32.ofNat s) 4 := (p_in (by omega)).2 hs
    have hns : (Int32.ofNat s).toNatClampNeg = s := p_nat (by omega)
    have key0 := p_loop (G := fun n (x : Int32) => gX0_judge_22 σ s n x) (fun k x => k ≤ N ∧ x = Int32.ofNat k ∧ ∀ i, i < k → pRt σ s i) (Post := fun x => ∃ k, x = Int32.ofNat k ∧ k ≤ N ∧ (∀ i, i < k → pRt σ s i) ∧ (k < N → ¬ pRt σ s k)) N ?_ 0 0 ⟨Nat.zero_le _, rfl, fun i hi => by omega⟩ xfu (by unfold xfu; omega)
    have key1 := p_loop (G := fun n (x : Int32 × Int32 × Int32) => gX13_judge_25 τ (Int32.ofNat s) n x.1 x.2.1 x.2.2) (fun m x => ∃ k, k ≤ N ∧ x.1 = Int32.ofNat k ∧ (∀ i, i < k → pRt σ s i) ∧ ((m = k ∧ x.2.2 = 1 ∧ (0 < k → x.2.1 = σ 0 (146 + 5 * (σ 15 (40 * s + (k - 1))).toNatClampNeg + 2))) ∨ (m = k + 1 ∧ x.2.2 = 0 ∧ k < N ∧ ¬ pRt σ s k)))
      (Post := fun x => ∃ k, x.1 = Int32.ofNat k ∧ k ≤ N ∧ (∀ i, i < k → pRt σ s i) ∧ ((k = N ∧ x.2.2 = 1) ∨ (k < N ∧ ¬ pRt σ s k ∧ x.2.2 = 0))) (N + 1) ?_ 0 (0, -1, 1) ⟨0, Nat.zero_le _, rfl, fun i hi => by omega, Or.inl ⟨rfl, rfl, fun w => by omega⟩⟩ xfu (by unfold xfu; omega)
    · obtain ⟨x, d1, k, rfl, hk, hk1, hk2⟩ := key0
      obtain ⟨⟨y1, y2, y3⟩, d2, k', d3, hk', hk1', hk2'⟩ := key1
      dsimp only at d2 d3 hk2'
      subst d3
      rw [e, e', Option.bind_some, if_pos rfl]
      simp only [xct, xro]
      rw [if_pos hs, p_need1 σ (by decide)]
      simp only
      rw [show gX0_judge_22 σ s xfu 0 = _ from d1, show gX13_judge_25 τ (Int32.ofNat s) xfu 0 (-1) 1 = _ from d2, Option.bind_some, Option.bind_some, hl, Option.bind_some]
      dsimp only
      have ek : k' = k := by
        by_cases q2 : k' < k
        · rcases hk2' with w | w
          · omega
          · exact absurd (hk1 k' q2) w.2.1
        · by_cases q3 : k < k'
          · exact absurd (hk1' k q3) (hk2 (by omega))
          · omega
      subst ek
      rcases hk2' with ⟨w1, rfl⟩ | ⟨w1, _, rfl⟩
      · subst w1
        rw [if_pos rfl, if_neg (by decide)]
        exact pOk.q hR _
      · rw [if_neg (fun w => by have := (p_eq (by omega) (by omega)).1 w; omega), if_pos rfl]
        exact pOk.q hR _
    · rintro m n ⟨y1, y2, y3⟩ ⟨k, hk, e1, hk1, hh⟩
      dsimp only at e1 hh ⊢
      subst e1
      rw [gX13_judge_25, if_pos hin, hns, h29]
      rcases hh with ⟨rfl, rfl, h3⟩ | ⟨rfl, rfl, h3, h4⟩
      · by_cases q : m = N
        · right
          subst q
          rw [if_pos (Int32.le_refl _)]
          exact ⟨_, rfl, m, rfl, Nat.le_refl _, hk1, Or.inl ⟨rfl, rfl⟩⟩
        · left
          have hle : ¬ Int32.ofNat N ≤ Int32.ofNat m := fun q => by have := (p_le (by omega) (by omega)).1 q; omega
          have hin2 : xin (Int32.ofNat (40 * s + m)) 160 := (p_in (by omega)).2 (by omega)
          rw [if_neg hle, if_neg (by decide : ¬ (1 : Int32) = 0), p_ij, if_pos hin2, p_nat (show 40 * s + m < 2 ^ 31 by omega), h30 m (by omega), p_isBell hR, Option.bind_some, p_s, show Int32.ofNat m + 0 = Int32.ofNat m by simp]
          refine ⟨by omega, ?_⟩
          by_cases q1 : fX0_isBell σ (σ 15 (40 * s + m)) = 0
          · rw [if_pos q1]
            exact ⟨(_, _, _), rfl, m, hk, rfl, hk1, Or.inr ⟨rfl, rfl, by omega, fun w => w.1 q1⟩⟩
          rw [if_neg q1]
          obtain ⟨b, hb, hb8, hbe⟩ := p_bell_of hB q1
          have hbi : fX13_bellIs τ (σ 15 (40 * s + m)) 2 = some (σ 0 (146 + 5 * (σ 15 (40 * s + m)).toNatClampNeg + 2)) := by
            rw [hbe, p_nat (by omega)]
            exact p_bellIs hR.1.1 hb8 (f := 2) (by omega)
          rw [hbi, Option.bind_some, Option.bind_some]
          by_cases q2 : m = 0
          · rw [if_pos (by rw [q2]; rfl)]
            refine ⟨(_, _, _), rfl, m + 1, by omega, rfl, fun i hi => ?_, Or.inl ⟨rfl, rfl, fun _ => rfl⟩⟩
            have : i = m := by omega
            subst this
            exact ⟨q1, Or.inl q2⟩
          · have q5 : ¬ Int32.ofNat m = 0 := fun w => q2 ((p_eq (b := 0) (by omega) (by omega)).1 w)
            rw [if_neg q5, h3 (by omega)]
            rw [show fX13_within (σ 0 (146 + 5 * (σ 15 (40 * s + m)).toNatClampNeg + 2) - σ 0 (146 + 5 * (σ 15 (40 * s + (m - 1))).toNatClampNeg + 2)) 1 2 = fX0_in (σ 0 (146 + 5 * (σ 15 (40 * s + m)).toNatClampNeg + 2) - σ 0 (146 + 5 * (σ 15 (40 * s + (m - 1))).toNatClampNeg + 2)) 1 2 from rfl]
            by_cases q4 : fX0_in (σ 0 (146 + 5 * (σ 15 (40 * s + m)).toNatClampNeg + 2) - σ 0 (146 + 5 * (σ 15 (40 * s + (m - 1))).toNatClampNeg + 2)) 1 2 = 0
            · rw [if_pos q4]
              exact ⟨(_, _, _), rfl, m, hk, rfl, hk1, Or.inr ⟨rfl, rfl, by omega, fun w => w.2.elim q2 (fun v => v q4)⟩⟩
            · rw [if_neg q4]
              refine ⟨(_, _, _), rfl, m + 1, by omega, rfl, fun i hi => ?_, Or.inl ⟨rfl, rfl, fun _ => rfl⟩⟩
              by_cases w : i = m
              · rw [w]; exact ⟨q1, Or.inr q4⟩
              · exact hk1 i (by omega)
      · right
        have hle : ¬ Int32.ofNat N ≤ Int32.ofNat k := fun q => by have := (p_le (by omega) (by omega)).1 q; omega
        rw [if_neg hle, if_pos rfl]
        exact ⟨_, rfl, k, rfl, hk, hk1, Or.inr ⟨h3, h4, rfl⟩⟩
    · rintro k n x ⟨hk, rfl, hk1⟩
      rw [gX0_judge_22, hl, Option.bind_some]
      by_cases q : k = N
      · right
        subst q
        rw [if_pos (Int32.le_refl _)]
        exact ⟨_, rfl, k, rfl, hk, hk1, fun w => by omega⟩
      · have hle : ¬ Int32.ofNat N ≤ Int32.ofNat k := fun q => by have := (p_le (by omega) (by omega)).1 q; omega
        obtain ⟨x, d1, d2⟩ := p_isRight hR hN (k := k) (by omega) hnum hk1
        rw [if_neg hle, d1, Option.bind_some]
        by_cases w : x = 0
        · right
          rw [if_pos w]
          exact ⟨_, rfl, k, rfl, hk, hk1, fun _ => d2.1 w⟩
        · left
          rw [if_neg w, p_s]
          refine ⟨by omega, _, rfl, by omega, rfl, fun i hi => ?_⟩
          by_cases v : i = k
          · rw [v]; exact Classical.byContradiction (fun z => w (d2.2 z))
          · exact hk1 i (by omega)

