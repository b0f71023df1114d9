set_option maxRecDepth 100000
theorem p_hasK : ∀ m, m < 256 → ∀ k, k < 8 → fX0_has (Int32.ofNat m) (Int32.ofNat k) = (if m.testBit k then 1 else 0) := by decide +kernel
theorem p_orN {k n : Nat} (hk : k < 12) (hn : n < 4096) : Int32.ofNat n ||| (1 <<< (Int32.ofNat k &&& 31)) = Int32.ofNat (n ||| 2 ^ k) := by
  have h3 : 2 ^ k ≤ 2 ^ 11 := Nat.pow_le_pow_right (by omega) (by omega)
  have h4 : n ||| 2 ^ k < 2 ^ 12 := Nat.or_lt_two_pow (by omega) (by omega)
  rw [p_shl k hk]
  apply Int32.toBitVec_inj.1
  apply BitVec.eq_of_toNat_eq
  rw [Int32.toBitVec_or, BitVec.toNat_or]
  show (n % 2 ^ 32) ||| (2 ^ k % 2 ^ 32) = (n ||| 2 ^ k) % 2 ^ 32
  rw [Nat.mod_eq_of_lt (by omega), Nat.mod_eq_of_lt (by omega), Nat.mod_eq_of_lt (by omega)]
theorem p_orLt {k n : Nat} (hk : k < 12) (hn : n < 4096) : n ||| 2 ^ k < 4096 := by
  have h3 : 2 ^ k ≤ 2 ^ 11 := Nat.pow_le_pow_right (by omega) (by omega)
  have h4 : n ||| 2 ^ k < 2 ^ 12 := Nat.or_lt_two_pow (by omega) (by omega)
  omega
theorem p_andN {k n : Nat} (hk : k < 12) (hn : n < 4096) : (Int32.ofNat n &&& (1 <<< (Int32.ofNat k &&& 31)) = 0) ↔ n.testBit k = false := by
  have h3 : 2 ^ k ≤ 2 ^ 11 := Nat.pow_le_pow_right (by omega) (by omega)
  have h4 : n &&& 2 ^ k ≤ n := Nat.and_le_left
  have e : Int32.ofNat n &&& (1 <<< (Int32.ofNat k &&& 31)) = Int32.ofNat (n &&& 2 ^ k) := by
    rw [p_shl k hk]
    apply Int32.toBitVec_inj.1
    apply BitVec.eq_of_toNat_eq
    rw [Int32.toBitVec_and, BitVec.toNat_and]
    show (n % 2 ^ 32) &&& (2 ^ k % 2 ^ 32) = (n &&& 2 ^ k) % 2 ^ 32
    rw [Nat.mod_eq_of_lt (by omega), Nat.mod_eq_of_lt (by omega), Nat.mod_eq_of_lt (by omega)]
  rw [e]
  have e2 : (Int32.ofNat (n &&& 2 ^ k) = 0) ↔ n &&& 2 ^ k = 0 := p_eq (b := 0) (by omega) (by omega)
  rw [e2]
  constructor
  · intro h
    have h5 : (n &&& 2 ^ k).testBit k = false := by rw [h]; exact Nat.zero_testBit k
    rw [Nat.testBit_and, Nat.testBit_two_pow_self, Bool.and_true] at h5
    exact h5
  · intro h
    apply Nat.eq_of_testBit_eq
    intro i
    rw [Nat.testBit_and, Nat.testBit_two_pow, Nat.zero_testBit]
    by_cases q : k = i
    · subst q
      rw [h]; rfl
    · simp [q]
theorem p_pcOr {k n : Nat} (hk : k < 12) : pPc (n ||| 2 ^ k) = pPc n + (if n.testBit k then 0 else 1) := by
  unfold pPc
  simp only [Nat.testBit_or, Nat.testBit_two_pow]
  have : k = 0 ∨ k = 1 ∨ k = 2 ∨ k = 3 ∨ k = 4 ∨ k = 5 ∨ k = 6 ∨ k = 7 ∨ k = 8 ∨ k = 9 ∨ k = 10 ∨ k = 11 := by omega
  rcases this with rfl | rfl | rfl | rfl | rfl | rfl | rfl | rfl | rfl | rfl | rfl | rfl
  all_goals
    simp
    split <;> simp_all <;> omega
/-- how many of the first k bells the mask has -/
def pCm (m : Nat) : Nat → Nat
  | 0 => 0
  | k + 1 => pCm m k + (if m.testBit k then 1 else 0)
theorem pCm_s (m k : Nat) : pCm m (k + 1) = pCm m k + (if m.testBit k then 1 else 0) := rfl
theorem p_cmK : ∀ B, B ≤ 8 → ∀ m, m < 2 ^ B → pCm m B = pPc m := by decide +kernel
def pNote (σ : xM) (k : Nat) : Nat := (σ 0 (146 + 5 * k + 2)).toNatClampNeg
def pNt (σ : xM) (m : Nat) : Nat → Nat
  | 0 => 0
  | k + 1 => if m.testBit k then pNt σ m k ||| 2 ^ pNote σ k else pNt σ m k
theorem pNt_s (σ : xM) (m k : Nat) : pNt σ m (k + 1) = if m.testBit k then pNt σ m k ||| 2 ^ pNote σ k else pNt σ m k := rfl
theorem p_note {σ : xM} {B : Nat} (hB : pWB B (σ 0)) {k : Nat} (hk : k < 8) : σ 0 (146 + 5 * k + 2) = Int32.ofNat (pNote σ k) ∧ pNote σ k < 12 := by
  obtain ⟨t, ht, e⟩ := (hB.2.2.2.2.2.1 k hk).2.2.1
  unfold pNote
  rw [e, p_nat (by omega)]
  exact ⟨rfl, ht⟩
theorem pNt_lt {σ : xM} {B : Nat} (hB : pWB B (σ 0)) (m : Nat) : ∀ k, k ≤ 8 → pNt σ m k < 4096 ∧ pPc (pNt σ m k) ≤ pCm m k := by
  intro k
  induction k with
  | zero =>
    intro _
    have : pPc 0 = 0 := by decide
    exact ⟨by show (0 : Nat) < 4096; omega, by show pPc 0 ≤ 0; omega⟩
  | succ k ih =>
    intro hk
    have h1 := ih (by omega)
    have h2 := (p_note hB (k := k) (by omega)).2
    rw [pNt_s, pCm_s]
    by_cases q : m.testBit k
    · rw [if_pos q, if_pos q, p_pcOr h2]
      refine ⟨p_orLt h2 h1.1, ?_⟩
      split <;> omega
    · rw [if_neg q, if_neg q]
      exact ⟨h1.1, by omega⟩
theorem p_notesOf {σ : xM} {B : Nat} (hB : pWB B (σ 0)) {m : Nat} (hm : m < 256) : fX0_notesOf σ (Int32.ofNat m) = some (Int32.ofNat (pNt σ m B)) := by
  have hB8 := hB.1
  obtain ⟨⟨r1, r2⟩, e1, e2⟩ := p_loop (G := fun n (r : Int32 × Int32) => gX0_notesOf_4 σ (Int32.ofNat m) n r.1 r.2) (fun k r => k ≤ B ∧ r = (Int32.ofNat (pNt σ m k), Int32.ofNat k)) (Post := fun r => r.1 = Int32.ofNat (pNt σ m B)) B (by
    rintro k n r ⟨hk, rfl⟩
    dsimp only
    rw [gX0_notesOf_4, hB.2.1]
    by_cases q : k = B
    · right
      subst q
      rw [if_pos (Int32.le_refl _)]
      exact ⟨_, rfl, rfl⟩
    · left
      have hle : ¬ Int32.ofNat B ≤ Int32.ofNat k := fun q => by have := (p_le (by omega) (by omega)).1 q; omega
      refine ⟨by omega, (Int32.ofNat (pNt σ m (k + 1)), Int32.ofNat (k + 1)), ?_, by omega, rfl⟩
      obtain ⟨n1, n2⟩ := p_note hB (k := k) (by omega)
      rw [if_neg hle, p_hasK m hm k (by omega), if_pos ((p_in (by omega)).2 (by omega)), p_nat (show k < 2 ^ 31 by omega), n1, p_s, p_orN n2 (pNt_lt hB m k (by omega)).1, p_or0, pNt_s]
      by_cases w : m.testBit k
      · rw [if_pos w, if_neg (by decide), if_pos w]
      · rw [if_neg w, if_pos rfl, if_neg w]) 0 (0, 0) ⟨Nat.zero_le _, rfl⟩ xfu (by unfold xfu; omega)
  dsimp only at e1 e2
  unfold fX0_notesOf
  rw [show gX0_notesOf_4 σ (Int32.ofNat m) xfu 0 0 = _ from e1, Option.bind_some, e2]
set_option maxHeartbeats 4000000 in
theorem p_pcPos : ∀ m, m < 256 → 0 < m → 0 < pPc m := by decide +kernel
theorem p_pcLe (m : Nat) : pPc m ≤ 12 := by
  unfold pPc
  have b : ∀ i, (m.testBit i).toNat ≤ 1 := fun i => Bool.toNat_le _
  have := b 0; have := b 1; have := b 2; have := b 3; have := b 4; have := b 5; have := b 6; have := b 7; have := b 8; have := b 9; have := b 10; have := b 11
  omega
theorem p_areRingG {σ τ : xM} (hR : pRow σ 0 τ 20) {B : Nat} (hB : pWB B (σ 0)) {m : Nat} (hm2 : m < 256) : ∃ r3, gX13_areRing_7 τ (Int32.ofNat m) xfu 0 1 0 = some (Int32.ofNat (pNt σ m B), (if pPc (pNt σ m B) = pCm m B then 1 else 0), r3) := by
  have hB8 := hB.1
  obtain ⟨⟨r1, r2, r3⟩, e1, e2, e3⟩ := p_loop (G := fun n (r : Int32 × Int32 × Int32) => gX13_areRing_7 τ (Int32.ofNat m) n r.1 r.2.1 r.2.2) (fun k r => k ≤ B ∧ r = (Int32.ofNat (pNt σ m k), (if pPc (pNt σ m k) = pCm m k then 1 else 0), Int32.ofNat k)) (Post := fun r => r.1 = Int32.ofNat (pNt σ m B) ∧ r.2.1 = (if pPc (pNt σ m B) = pCm m B then 1 else 0)) B (by
    rintro k n r ⟨hk, rfl⟩
    dsimp only
    rw [gX13_areRing_7, p_two, hR 2 (by omega), hB.2.1]
    by_cases q : k = B
    · right
      subst q
      rw [if_pos (Int32.le_refl _)]
      exact ⟨_, rfl, rfl, rfl⟩
    · left
      have hle : ¬ Int32.ofNat B ≤ Int32.ofNat k := fun q => by have := (p_le (by omega) (by omega)).1 q; omega
      refine ⟨by omega, (Int32.ofNat (pNt σ m (k + 1)), (if pPc (pNt σ m (k + 1)) = pCm m (k + 1) then 1 else 0), Int32.ofNat (k + 1)), ?_, by omega, rfl⟩
      obtain ⟨n1, n2⟩ := p_note hB (k := k) (by omega)
      obtain ⟨l1, l2⟩ := pNt_lt hB m k (by omega)
      have hbi : fX13_bellIs τ (Int32.ofNat k) 2 = some (Int32.ofNat (pNote σ k)) := by
        rw [← n1]; exact p_bellIs hR (by omega) (f := 2) (by omega)
      rw [if_neg hle, show fX13_has (Int32.ofNat m) (Int32.ofNat k) = fX0_has (Int32.ofNat m) (Int32.ofNat k) from rfl, p_hasK m hm2 k (by omega), hbi, Option.bind_some, p_s, p_orN n2 l1, p_or0, pNt_s, pCm_s]
      by_cases w : m.testBit k
      · simp only [if_pos w]
        rw [if_neg (by decide : ¬ (1 : Int32) = 0), p_pcOr n2]
        by_cases v : pPc (pNt σ m k) = pCm m k
        · rw [if_pos v, if_neg (by decide : ¬ (1 : Int32) = 0)]
          by_cases z : (pNt σ m k).testBit (pNote σ k) = false
          · rw [if_pos ((p_andN n2 l1).2 z), z]
            simp only [Bool.false_eq_true, if_false]
            rw [if_pos (by omega)]
          · rw [if_neg (fun y => z ((p_andN n2 l1).1 y))]
            have z' : (pNt σ m k).testBit (pNote σ k) = true := by
              cases h : (pNt σ m k).testBit (pNote σ k)
              · exact absurd h z
              · rfl
            rw [z', if_pos rfl, if_neg (by omega)]
        · rw [if_neg v, if_pos rfl]
          rw [if_neg (by split <;> omega)]
      · simp only [if_neg w]
        rw [if_pos trivial]
        by_cases v : pPc (pNt σ m k) = pCm m k
        · rw [if_pos v, if_neg (by decide : ¬ (1 : Int32) = 0), if_pos (by simp), if_pos (show pPc (pNt σ m k) = pCm m k + 0 from v)]
        · rw [if_neg v, if_pos rfl, if_neg (show ¬ pPc (pNt σ m k) = pCm m k + 0 from v)]) 0 (0, 1, 0) ⟨Nat.zero_le _, by
      have h : pPc (pNt σ m 0) = pCm m 0 := by
        show pPc 0 = 0
        decide
      rw [if_pos h]; rfl⟩ xfu (by unfold xfu; omega)
  dsimp only at e1 e2 e3
  subst e2 e3
  exact ⟨_, e1⟩
theorem p_ringIf {m p q : Nat} (hne : ¬ Int32.ofNat m = 0) (A A' : Int32) (o o' : Option Int32) (h : A = A' ↔ p = q) (h2 : p = q → o = o' ∧ o.isSome = true) : ∃ r, (if Int32.ofNat m = 0 then some (0 : Int32) else if A = A' then o.bind (fun r6 => if r6 = 0 then some 0 else some 1) else some 0) = some r ∧ (if (if p = q then (1 : Int32) else 0) = 0 then some (0 : Int32) else o'.bind (fun r6 => if r6 = 0 then some 0 else some 1)) = some r := by
  rw [if_neg hne]
  by_cases w : p = q
  · obtain ⟨k1, k2⟩ := h2 w
    obtain ⟨x, hx⟩ := Option.isSome_iff_exists.1 k2
    rw [if_pos (h.2 w), if_pos w, if_neg (by decide : ¬ (1 : Int32) = 0), ← k1, hx, Option.bind_some]
    by_cases z : x = 0
    · rw [if_pos z]; exact ⟨0, rfl, rfl⟩
    · rw [if_neg z]; exact ⟨1, rfl, rfl⟩
  · rw [if_neg (fun v => w (h.1 v)), if_neg w, if_pos rfl]
    exact ⟨0, rfl, rfl⟩
theorem p_isRing {σ τ : xM} (hR : pRow σ 0 τ 20) {B : Nat} (hB : pWB B (σ 0)) {m : Nat} (hm : m < 2 ^ B) (hm0 : 0 < m) : ∃ r, fX0_isRing σ (Int32.ofNat m) = some r ∧ fX13_areRing τ (Int32.ofNat m) = some r := by
  have hB8 := hB.1
  have h256 : 2 ^ B ≤ 2 ^ 8 := Nat.pow_le_pow_right (by omega) hB8
  have hm2 : m < 256 := by omega
  have hcm := p_cmK B hB8 m hm
  obtain ⟨hn, hp⟩ := pNt_lt hB m B hB8
  obtain ⟨r3, e1⟩ := p_areRingG hR hB (m := m) hm2
  unfold fX0_isRing fX13_areRing
  rw [p_notesOf hB hm2, show gX13_areRing_7 τ (Int32.ofNat m) xfu 0 1 0 = _ from e1, Option.bind_some, Option.bind_some]
  dsimp only
  have hne : ¬ Int32.ofNat m = 0 := fun w => by have := (p_eq (b := 0) (by omega) (by omega)).1 w; omega
  have b1 := p_pcLe (pNt σ m B)
  have b2 := p_pcLe m
  have o1 := p_onesPc (pNt σ m B) hn
  have o2 := p_onesPc m (by omega)
  have hc : (fX0_ones (Int32.ofNat (pNt σ m B)) = fX0_ones (Int32.ofNat m)) ↔ pPc (pNt σ m B) = pPc m :=
    ⟨fun h => (p_eq (by omega) (by omega)).1 (o1.symm.trans (h.trans o2)), fun h => o1.trans ((congrArg Int32.ofNat h).trans o2.symm)⟩
  have hc2 : (fX0_ones (Int32.ofNat (pNt σ m B)) = fX0_ones (Int32.ofNat m)) ↔ pPc (pNt σ m B) = pCm m B := by rw [hcm]; exact hc
  refine p_ringIf hne _ _ _ _ hc2 (fun q => ?_)
  have hn0 : 0 < pNt σ m B := by
    have := p_pcPos m hm2 hm0
    rcases Nat.eq_zero_or_pos (pNt σ m B) with w | w
    · rw [w] at q
      have : pPc 0 = 0 := by decide
      omega
    · exact w
  exact p_rowK _ hn hn0
theorem p_bestRing {σ τ : xM} (hR : pRow σ 0 τ 20) {B : Nat} (hB : pWB B (σ 0)) : ∃ r, r < 256 ∧ fX0_bestRing σ = some (Int32.ofNat r) ∧ fX13_greatest τ = some (Int32.ofNat r) := by
  have hB8 := hB.1
  have h256 : 2 ^ B ≤ 2 ^ 8 := Nat.pow_le_pow_right (by omega) hB8
  have hpos : 0 < 2 ^ B := Nat.pow_pos (by omega)
  obtain ⟨r, r', e1, e2, e3, c, hc, e4⟩ := p_lock (G := fun n (r : Int32 × Int32) => gX0_bestRing_4 σ n r.1 r.2) (G' := fun n (r : Int32 × Int32) => gX13_greatest_4 τ n r.1 r.2) (fun k r r' => r = r' ∧ k + 1 ≤ 2 ^ B ∧ r.2 = Int32.ofNat (k + 1) ∧ ∃ c, c < 256 ∧ r.1 = Int32.ofNat c) (Post := fun r r' => r = r' ∧ ∃ c, c < 256 ∧ r.1 = Int32.ofNat c) (2 ^ B) (by
    rintro k n ⟨x, y⟩ r' ⟨rfl, hk, e, c, hc, e'⟩
    dsimp only at e e' ⊢
    subst e e'
    rw [gX0_bestRing_4, gX13_greatest_4, p_two, hR 2 (by omega), hB.2.1, p_shl B (by omega)]
    by_cases q : k + 1 = 2 ^ B
    · right
      rw [if_pos (by rw [q]; exact Int32.le_refl _), if_pos (by rw [q]; exact Int32.le_refl _)]
      exact ⟨_, _, rfl, rfl, rfl, c, hc, rfl⟩
    · left
      refine ⟨by omega, ?_⟩
      have hle : ¬ Int32.ofNat (2 ^ B) ≤ Int32.ofNat (k + 1) := fun q => by have := (p_le (by omega) (by omega)).1 q; omega
      obtain ⟨x, x1, x2⟩ := p_isRing hR hB (m := k + 1) (by omega) (by omega)
      rw [if_neg hle, if_neg hle, x1, p_bitsK (k + 1) (by omega), p_bitsK c (by omega), Option.bind_some, Option.bind_some, Option.bind_some, x2, Option.bind_some, p_s]
      by_cases w : x = 0
      · rw [if_pos w, if_pos w]
        refine ⟨(_, _), (_, _), rfl, ?_, rfl, by omega, rfl, c, hc, rfl⟩
        split <;> rfl
      · rw [if_neg w, if_neg w]
        by_cases v : fX0_ones (Int32.ofNat (k + 1)) ≤ fX0_ones (Int32.ofNat c)
        · rw [if_pos v, if_pos v]
          exact ⟨(_, _), (_, _), rfl, rfl, rfl, by omega, rfl, c, hc, rfl⟩
        · rw [if_neg v, if_neg v]
          exact ⟨(_, _), (_, _), rfl, rfl, rfl, by omega, rfl, k + 1, by omega, rfl⟩) 0 (0, 1) (0, 1) ⟨rfl, by omega, rfl, 0, by omega, rfl⟩ xfu (by unfold xfu; omega)
  subst e3
  refine ⟨c, hc, ?_, ?_⟩
  · unfold fX0_bestRing
    rw [show gX0_bestRing_4 σ xfu 0 1 = _ from e1, Option.bind_some, e4]
  · unfold fX13_greatest
    rw [show gX13_greatest_4 τ xfu 0 1 = _ from e2, Option.bind_some, e4]
theorem p_ring {σ τ : xM} (hR : pR σ τ) : ∃ r, fX0_ring σ = some r ∧ fX13_ring τ = some r := by
  obtain ⟨B, hB⟩ := hR.1.2
  obtain ⟨r, hr, e1, e2⟩ := p_bestRing hR.1.1 hB
  refine ⟨fX0_ones (Int32.ofNat r), ?_, ?_⟩
  · unfold fX0_ring; rw [e1]; rfl
  · unfold fX13_ring; rw [e2, Option.bind_some, p_bitsK r (by omega)]; rfl
theorem p_rings {σ τ : xM} (hR : pR σ τ) : ∃ r, fX0_rings σ = some r ∧ fX13_rings τ = some r := by
  obtain ⟨B, hB⟩ := hR.1.2
  obtain ⟨r, hr, e1, e2⟩ := p_bestRing hR.1.1 hB
  refine ⟨Int32.ofNat r, ?_, ?_⟩
  · unfold fX0_rings; rw [e1]; rfl
  · unfold fX13_rings; rw [e2]; rfl
theorem p_peals {σ τ : xM} (hR : pR σ τ) : ∃ r, fX0_peals σ = some r ∧ fX13_peals τ = some r := by
  obtain ⟨B, hB⟩ := hR.1.2
  have hB8 := hB.1
  have h256 : 2 ^ B ≤ 2 ^ 8 := Nat.pow_le_pow_right (by omega) hB8
  have hpos : 0 < 2 ^ B := Nat.pow_pos (by omega)
  obtain ⟨r, r', e1, e2, e3⟩ := p_lock (G := fun n (r : Int32 × Int32) => gX0_peals_4 σ n r.1 r.2) (G' := fun n (r : Int32 × Int32) => gX13_peals_4 τ n r.1 r.2) (fun k r r' => r = r' ∧ k + 1 ≤ 2 ^ B ∧ r.2 = Int32.ofNat (k + 1)) (Post := fun r r' => r = r') (2 ^ B) (by
    rintro k n ⟨x, y⟩ r' ⟨rfl, hk, e⟩
    dsimp only at e ⊢
    subst e
    rw [gX0_peals_4, gX13_peals_4, p_two, hR.1.1 2 (by omega), hB.2.1, p_shl B (by omega)]
    by_cases q : k + 1 = 2 ^ B
    · right
      rw [if_pos (by rw [q]; exact Int32.le_refl _), if_pos (by rw [q]; exact Int32.le_refl _)]
      exact ⟨_, _, rfl, rfl, rfl⟩
    · left
      refine ⟨by omega, ?_⟩
      have hle : ¬ Int32.ofNat (2 ^ B) ≤ Int32.ofNat (k + 1) := fun q => by have := (p_le (by omega) (by omega)).1 q; omega
      obtain ⟨x', x1, x2⟩ := p_isRing hR.1.1 hB (m := k + 1) (by omega) (by omega)
      rw [if_neg hle, if_neg hle, x1, x2, Option.bind_some, Option.bind_some, p_s]
      by_cases w : x' = 0
      · rw [if_pos w, if_pos w]
        exact ⟨(_, _), (_, _), rfl, rfl, rfl, by omega, rfl⟩
      · rw [if_neg w, if_neg w]
        exact ⟨(_, _), (_, _), rfl, rfl, rfl, by omega, rfl⟩) 0 (0, 1) (0, 1) ⟨rfl, by omega, rfl⟩ xfu (by unfold xfu; omega)
  subst e3
  refine ⟨r.1, ?_, ?_⟩
  · unfold fX0_peals
    rw [show gX0_peals_4 σ xfu 0 1 = _ from e1, Option.bind_some]
  · unfold fX13_peals
    rw [show gX13_peals_4 τ xfu 0 1 = _ from e2, Option.bind_some]
theorem p_full : ∀ B, B ≤ 8 → (1 : Int32) <<< (Int32.ofNat B &&& 31) - 1 = Int32.ofNat (2 ^ B - 1) ∧ ∀ k, k < B → (2 ^ B - 1).testBit k = true := by decide +kernel
theorem p_wanted {σ τ : xM} (hR : pR σ τ) : ∃ r, fX0_wanted σ = some r ∧ fX13_wanted τ = some r := by
  obtain ⟨B, hB⟩ := hR.1.2
  have hB8 := hB.1
  have h256 : 2 ^ B ≤ 2 ^ 8 := Nat.pow_le_pow_right (by omega) hB8
  obtain ⟨f1, f2⟩ := p_full B hB8
  obtain ⟨hn, _⟩ := pNt_lt hB (2 ^ B - 1) B hB8
  obtain ⟨⟨r1, r2⟩, e1, e2⟩ := p_loop (G := fun n (r : Int32 × Int32) => gX13_wanted_4 τ n r.1 r.2) (fun k r => k ≤ B ∧ r = (Int32.ofNat (pNt σ (2 ^ B - 1) k), Int32.ofNat k)) (Post := fun r => r.1 = Int32.ofNat (pNt σ (2 ^ B - 1) B)) B (by
    rintro k n r ⟨hk, rfl⟩
    dsimp only
    rw [gX13_wanted_4, p_two, hR.1.1 2 (by omega), hB.2.1]
    by_cases q : k = B
    · right
      subst q
      rw [if_pos (Int32.le_refl _)]
      exact ⟨_, rfl, rfl⟩
    · left
      have hle : ¬ Int32.ofNat B ≤ Int32.ofNat k := fun q => by have := (p_le (by omega) (by omega)).1 q; omega
      refine ⟨by omega, (Int32.ofNat (pNt σ (2 ^ B - 1) (k + 1)), Int32.ofNat (k + 1)), ?_, by omega, rfl⟩
      obtain ⟨n1, n2⟩ := p_note hB (k := k) (by omega)
      have hbi : fX13_bellIs τ (Int32.ofNat k) 2 = some (Int32.ofNat (pNote σ k)) := by
        rw [← n1]; exact p_bellIs hR.1.1 (by omega) (f := 2) (by omega)
      rw [if_neg hle, hbi, Option.bind_some, p_s, p_orN n2 (pNt_lt hB _ k (by omega)).1, pNt_s, if_pos (f2 k (by omega))]) 0 (0, 0) ⟨Nat.zero_le _, rfl⟩ xfu (by unfold xfu; omega)
  dsimp only at e1 e2
  rw [e2] at e1
  obtain ⟨N, hNe⟩ : ∃ N, pNt σ (2 ^ B - 1) B = N := ⟨_, rfl⟩
  rw [hNe] at e1 hn
  obtain ⟨r, r', g1, g2, g3⟩ := p_lock (G := fun n (r : Int32 × Int32) => gX0_wanted_20 (Int32.ofNat N) n r.1 r.2) (G' := fun n (r : Int32 × Int32) => gX13_wanted_35 (Int32.ofNat N) n r.1 r.2) (fun k r r' => r = r' ∧ k + 1 ≤ 12 ∧ r.2 = Int32.ofNat (k + 1) ∧ ∃ c, c < 12 ∧ r.1 = Int32.ofNat c) (Post := fun r r' => r = r') 12 (by
    rintro k n ⟨x, y⟩ r' ⟨rfl, hk, e, c, hc, e'⟩
    dsimp only at e e' ⊢
    subst e e'
    rw [gX0_wanted_20, gX13_wanted_35]
    by_cases q : k + 1 = 12
    · right
      rw [if_pos (by rw [q]; decide), if_pos (by rw [q]; decide)]
      exact ⟨_, _, rfl, rfl, rfl⟩
    · left
      refine ⟨by omega, ?_⟩
      have hle : ¬ (12 : Int32) ≤ Int32.ofNat (k + 1) := fun q => by have := (p_le (a := 12) (by omega) (by omega)).1 q; omega
      obtain ⟨a1, a2⟩ := p_longK _ (p_orLt (k := k + 1) (by omega) hn)
      obtain ⟨b1, b2⟩ := p_longK _ (p_orLt (k := c) hc hn)
      obtain ⟨u, hu⟩ := Option.isSome_iff_exists.1 a2
      obtain ⟨v, hv⟩ := Option.isSome_iff_exists.1 b2
      rw [if_neg hle, if_neg hle, p_orN (k := k + 1) (by omega) hn, p_orN hc hn, ← a1, ← b1, hu, hv, Option.bind_some, Option.bind_some, Option.bind_some, Option.bind_some, p_s]
      by_cases w : u ≤ v
      · rw [if_pos w, if_pos w]
        exact ⟨(_, _), (_, _), rfl, rfl, rfl, by omega, rfl, c, hc, rfl⟩
      · rw [if_neg w, if_neg w]
        exact ⟨(_, _), (_, _), rfl, rfl, rfl, by omega, rfl, k + 1, by omega, rfl⟩) 0 (0, 1) (0, 1) ⟨rfl, by omega, rfl, 0, by omega, rfl⟩ xfu (by unfold xfu; omega)
  subst g3
  refine ⟨r.1, ?_, ?_⟩
  · unfold fX0_wanted
    rw [hB.2.1, f1, p_notesOf hB (by omega), hNe, Option.bind_some, show gX0_wanted_20 (Int32.ofNat N) xfu 0 1 = _ from g1, Option.bind_some]
  · unfold fX13_wanted
    rw [show gX13_wanted_4 τ xfu 0 0 = _ from e1, Option.bind_some]
    dsimp only
    rw [show gX13_wanted_35 (Int32.ofNat N) xfu 0 1 = _ from g2, Option.bind_some]

