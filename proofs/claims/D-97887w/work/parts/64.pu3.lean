set_option maxRecDepth 100000
/-! hour after hour -/
def pS0 (σ : xM) : Nat → xM
  | 0 => σ
  | k + 1 => (fX0_passes_2 (pS0 σ k)).getD (pS0 σ k)
def pS1 (τ : xM) : Nat → xM
  | 0 => τ
  | k + 1 => (fX13_hour (pS1 τ k)).getD (pS1 τ k)
theorem p_seq {σ τ : xM} (hR : pRow σ 0 τ 20) {B : Nat} (hB : pWB B (σ 0)) {σ0 : xM} (hO : pO σ0 τ) (k : Nat) : pRow (pS0 σ k) 0 (pS1 τ k) 20 ∧ pWB B (pS0 σ k 0) ∧ pF [0] σ (pS0 σ k) ∧ pF [20] τ (pS1 τ k) ∧ fX0_passes_2 (pS0 σ k) = some (pS0 σ (k + 1)) ∧ fX13_hour (pS1 τ k) = some (pS1 τ (k + 1)) := by
  have step : ∀ k, pRow (pS0 σ k) 0 (pS1 τ k) 20 → pWB B (pS0 σ k 0) → pF [0] σ (pS0 σ k) → pF [20] τ (pS1 τ k) → (fX0_passes_2 (pS0 σ k) = some (pS0 σ (k + 1)) ∧ fX13_hour (pS1 τ k) = some (pS1 τ (k + 1))) ∧ pRow (pS0 σ (k + 1)) 0 (pS1 τ (k + 1)) 20 ∧ pWB B (pS0 σ (k + 1) 0) ∧ pF [0] σ (pS0 σ (k + 1)) ∧ pF [20] τ (pS1 τ (k + 1)) := by
    intro k h1 h2 h3 h4
    obtain ⟨σ', τ', e1, e2, e3, e4, e5, e6, _⟩ := p_hour h1 h2 (hO.r h4 (by decide))
    have f1 : pS0 σ (k + 1) = σ' := by show (fX0_passes_2 (pS0 σ k)).getD (pS0 σ k) = σ'; rw [e1]; rfl
    have f2 : pS1 τ (k + 1) = τ' := by show (fX13_hour (pS1 τ k)).getD (pS1 τ k) = τ'; rw [e2]; rfl
    rw [f1, f2]
    exact ⟨⟨e1, e2⟩, e3, e4, h3.trans e5, h4.trans e6⟩
  induction k with
  | zero =>
    have := step 0 hR hB (pF.refl _ _) (pF.refl _ _)
    exact ⟨hR, hB, pF.refl _ _, pF.refl _ _, this.1.1, this.1.2⟩
  | succ k ih =>
    have h1 := (step k ih.1 ih.2.1 ih.2.2.1 ih.2.2.2.1).2
    have h2 := step (k + 1) h1.1 h1.2.1 h1.2.2.1 h1.2.2.2
    exact ⟨h1.1, h1.2.1, h1.2.2.1, h1.2.2.2, h2.1.1, h2.1.2⟩
theorem p_hours {σ τ : xM} (hR : pRow σ 0 τ 20) {B : Nat} (hB : pWB B (σ 0)) {σ0 : xM} (hO : pO σ0 τ) {a : Nat} (ha : a < 1000) : fX0_passes σ (Int32.ofNat a) = some (pS0 σ a) ∧ fX13_hours τ (Int32.ofNat a) = some (pS1 τ a) := by
  have hs := p_seq hR hB hO
  constructor
  · have key := p_loop (G := fun n (s : Int32 × xM) => gX0_passes_2 (Int32.ofNat a) n s.1 s.2) (fun k s => s = (Int32.ofNat k, pS0 σ k) ∧ k ≤ a) (Post := fun r => r.2 = pS0 σ a) a ?_ 0 (0, σ) ⟨rfl, Nat.zero_le _⟩ xfu (by unfold xfu; omega)
    · obtain ⟨r, h1, h2⟩ := key
      unfold fX0_passes
      rw [h1]
      simp only [Option.bind, h2]
    · rintro k n s ⟨rfl, hk⟩
      dsimp only
      by_cases q : k = a
      · right
        subst q
        refine ⟨(Int32.ofNat k, pS0 σ k), ?_, rfl⟩
        rw [gX0_passes_2, if_pos (Int32.le_refl _)]
      · left
        have hle : ¬ Int32.ofNat a ≤ Int32.ofNat k := fun q => by have := (p_le (by omega) (by omega)).1 q; omega
        refine ⟨by omega, (Int32.ofNat (k + 1), pS0 σ (k + 1)), ?_, rfl, by omega⟩
        rw [gX0_passes_2, if_neg hle, (hs k).2.2.2.2.1, p_s]
        rfl
  · have key := p_loop (G := fun n (s : Int32 × xM) => gX13_hours_2 (Int32.ofNat a) n s.1 s.2) (fun k s => s = (Int32.ofNat k, pS1 τ k) ∧ k ≤ a) (Post := fun r => r.2 = pS1 τ a) a ?_ 0 (0, τ) ⟨rfl, Nat.zero_le _⟩ xfu (by unfold xfu; omega)
    · obtain ⟨r, h1, h2⟩ := key
      unfold fX13_hours
      rw [h1]
      simp only [Option.bind, h2]
    · rintro k n s ⟨rfl, hk⟩
      dsimp only
      by_cases q : k = a
      · right
        subst q
        refine ⟨(Int32.ofNat k, pS1 τ k), ?_, rfl⟩
        rw [gX13_hours_2, if_pos (Int32.le_refl _)]
      · left
        have hle : ¬ Int32.ofNat a ≤ Int32.ofNat k := fun q => by have := (p_le (by omega) (by omega)).1 q; omega
        refine ⟨by omega, (Int32.ofNat (k + 1), pS1 τ (k + 1)), ?_, rfl, by omega⟩
        rw [gX13_hours_2, if_neg hle, (hs k).2.2.2.2.2, p_s]
        rfl
/-- who is caught, as a number -/
def pMask (f : Nat → Int32) : Nat → Nat
  | 0 => 0
  | k + 1 => pMask f k + (if f (146 + 5 * k + 4) = 1 then 2 ^ k else 0)
theorem pMask_s (f : Nat → Int32) (k : Nat) : pMask f (k + 1) = pMask f k + (if f (146 + 5 * k + 4) = 1 then 2 ^ k else 0) := rfl
theorem pMask_lt (f : Nat → Int32) (k : Nat) : pMask f k < 2 ^ k := by
  induction k with
  | zero => exact Nat.one_pos
  | succ k ih =>
    unfold pMask
    rw [Nat.pow_succ]
    by_cases q : f (146 + 5 * k + 4) = 1
    · rw [if_pos q]; omega
    · rw [if_neg q]; omega
theorem pMask_inj {f g : Nat → Int32} : ∀ k, pMask f k = pMask g k → ∀ b, b < k → (f (146 + 5 * b + 4) = 1 ↔ g (146 + 5 * b + 4) = 1) := by
  intro k
  induction k with
  | zero => intro _ b hb; omega
  | succ k ih =>
    intro h b hb
    have h1 := pMask_lt f k
    have h2 := pMask_lt g k
    unfold pMask at h
    by_cases qf : f (146 + 5 * k + 4) = 1
    · by_cases qg : g (146 + 5 * k + 4) = 1
      · rw [if_pos qf, if_pos qg] at h
        by_cases q : b = k
        · subst q; exact ⟨fun _ => qg, fun _ => qf⟩
        · exact ih (by omega) b (by omega)
      · rw [if_pos qf, if_neg qg] at h; omega
    · by_cases qg : g (146 + 5 * k + 4) = 1
      · rw [if_neg qf, if_pos qg] at h; omega
      · rw [if_neg qf, if_neg qg] at h
        by_cases q : b = k
        · subst q; exact ⟨fun w => absurd w qf, fun w => absurd w qg⟩
        · exact ih (by omega) b (by omega)
theorem pMask_congr {f g : Nat → Int32} : ∀ k, (∀ b, b < k → f (146 + 5 * b + 4) = g (146 + 5 * b + 4)) → pMask f k = pMask g k := by
  intro k
  induction k with
  | zero => intro _; rfl
  | succ k ih =>
    intro h
    unfold pMask
    rw [ih (fun b hb => h b (by omega)), h k (by omega)]
theorem p_shl : ∀ k, k < 12 → (1 : Int32) <<< (Int32.ofNat k &&& 31) = Int32.ofNat (2 ^ k) := by decide +kernel
theorem p_orK (k : Nat) (hk : k < 12) (m : Nat) (_ : m < 4096) (h : m < 2 ^ k) : Int32.ofNat m ||| (1 <<< (Int32.ofNat k &&& 31)) = Int32.ofNat (m + 2 ^ k) := by
  have h1 := Nat.two_pow_add_eq_or_of_lt h 1
  rw [Nat.mul_one] at h1
  have h3 : 2 ^ k ≤ 2 ^ 11 := Nat.pow_le_pow_right (by omega) (by omega)
  rw [p_shl k hk]
  apply Int32.toBitVec_inj.1
  apply BitVec.eq_of_toNat_eq
  rw [Int32.toBitVec_or, BitVec.toNat_or]
  show (m % 2 ^ 32) ||| (2 ^ k % 2 ^ 32) = (m + 2 ^ k) % 2 ^ 32
  rw [Nat.mod_eq_of_lt (by omega), Nat.mod_eq_of_lt (by omega), Nat.mod_eq_of_lt (by omega), Nat.or_comm, ← h1, Nat.add_comm]
theorem p_or0 (x : Int32) : x ||| 0 = x := by simp
theorem p_whoC (σ : xM) {w B : Nat} (hB8 : B ≤ 8) (hB : σ w 2 = Int32.ofNat B) : fX4_whoIsCaught σ w = some (Int32.ofNat (pMask (σ w) B)) := by
  have key := p_loop (G := fun n (s : Int32 × Int32) => gX4_whoIsCaught_4 σ w n s.1 s.2) (fun k s => s = (Int32.ofNat (pMask (σ w) k), Int32.ofNat k) ∧ k ≤ B) (Post := fun r => r.1 = Int32.ofNat (pMask (σ w) B)) B ?_ 0 (0, 0) ⟨rfl, Nat.zero_le _⟩ xfu (by unfold xfu; omega)
  · obtain ⟨r, h1, h2⟩ := key
    unfold fX4_whoIsCaught
    rw [h1]
    simp only [Option.bind, h2]
  · rintro k n s ⟨rfl, hk⟩
    dsimp only
    by_cases q : k = B
    · right
      subst q
      refine ⟨(Int32.ofNat (pMask (σ w) k), Int32.ofNat k), ?_, rfl⟩
      rw [gX4_whoIsCaught_4, hB, if_pos (Int32.le_refl _)]
    · left
      have hle : ¬ Int32.ofNat B ≤ Int32.ofNat k := fun q => by have := (p_le (by omega) (by omega)).1 q; omega
      refine ⟨by omega, (Int32.ofNat (pMask (σ w) (k + 1)), Int32.ofNat (k + 1)), ?_, rfl, by omega⟩
      have h2 := pMask_lt (σ w) k
      have h3 : 2 ^ k ≤ 2 ^ 8 := Nat.pow_le_pow_right (by omega) (by omega)
      rw [gX4_whoIsCaught_4, hB, if_neg hle, p_caughtC (by omega)]
      simp only [Option.bind, p_s, p_or0, pMask_s]
      by_cases q : σ w (146 + 5 * k + 4) = 1
      · rw [if_pos q, if_neg (by decide), if_pos q, p_orK k (by omega) _ (by omega) h2]
      · rw [if_neg q, if_pos rfl, if_neg q]
        rfl
theorem p_whoM {σ τ : xM} (hR : pRow σ 0 τ 20) {B : Nat} (hB8 : B ≤ 8) (hB : σ 0 2 = Int32.ofNat B) : fX13_caughtNow τ = some (Int32.ofNat (pMask (σ 0) B)) := by
  have e2 : ((2 : Int32).toNatClampNeg) = 2 := by decide
  have key := p_loop (G := fun n (s : Int32 × Int32) => gX13_caughtNow_4 τ n s.1 s.2) (fun k s => s = (Int32.ofNat (pMask (σ 0) k), Int32.ofNat k) ∧ k ≤ B) (Post := fun r => r.1 = Int32.ofNat (pMask (σ 0) B)) B ?_ 0 (0, 0) ⟨rfl, Nat.zero_le _⟩ xfu (by unfold xfu; omega)
  · obtain ⟨r, h1, h2⟩ := key
    unfold fX13_caughtNow
    rw [h1]
    simp only [Option.bind, h2]
  · rintro k n s ⟨rfl, hk⟩
    dsimp only
    by_cases q : k = B
    · right
      subst q
      refine ⟨(Int32.ofNat (pMask (σ 0) k), Int32.ofNat k), ?_, rfl⟩
      rw [gX13_caughtNow_4, e2, hR 2 (by omega), hB, if_pos (Int32.le_refl _)]
    · left
      have hle : ¬ Int32.ofNat B ≤ Int32.ofNat k := fun q => by have := (p_le (by omega) (by omega)).1 q; omega
      refine ⟨by omega, (Int32.ofNat (pMask (σ 0) (k + 1)), Int32.ofNat (k + 1)), ?_, rfl, by omega⟩
      have h2 := pMask_lt (σ 0) k
      have h3 : 2 ^ k ≤ 2 ^ 8 := Nat.pow_le_pow_right (by omega) (by omega)
      rw [gX13_caughtNow_4, e2, hR 2 (by omega), hB, if_neg hle, p_caughtM hR (by omega)]
      simp only [Option.bind, p_s, p_or0, pMask_s]
      by_cases q : σ 0 (146 + 5 * k + 4) = 1
      · rw [if_pos q, if_neg (by decide), if_pos q, p_orK k (by omega) _ (by omega) h2]
      · rw [if_neg q, if_pos rfl, if_neg q]
        rfl
theorem p_mask256 {f : Nat → Int32} {B : Nat} (hB : B ≤ 8) : pMask f B < 256 := Nat.lt_of_lt_of_le (pMask_lt f B) (by have : 2 ^ B ≤ 2 ^ 8 := Nat.pow_le_pow_right (by omega) hB; omega)
theorem pR.mk {σ τ σ' τ' : xM} {B : Nat} (hR : pR σ τ) (h : pRow σ' 0 τ' 20) (hB : pWB B (σ' 0)) {L L' : List Nat} (f : pF L σ σ') (g : pF L' τ τ') (hL : 1 ∉ L ∧ 5 ∉ L ∧ 6 ∉ L ∧ 7 ∉ L ∧ 13 ∉ L ∧ 14 ∉ L ∧ 15 ∉ L) (hL' : 21 ∉ L' ∧ 23 ∉ L' ∧ 24 ∉ L' ∧ 26 ∉ L' ∧ 28 ∉ L' ∧ 29 ∉ L' ∧ 30 ∉ L' ∧ 32 ∉ L' ∧ 33 ∉ L') : pR σ' τ' :=
  ⟨⟨h, B, hB⟩, (hR.2.l f hL).r g hL'⟩
theorem p_go {σ τ : xM} (hR : pR σ τ) (a1 : Int32) : pOk (fX0_go σ a1) (fX13_go τ a1) σ τ := by
  have h0' : ((0 : Int32).toNatClampNeg) = 0 := by decide
  unfold fX0_go fX13_go fX4_isLate
  rw [show fX13_within a1 1 24 = fX0_in a1 1 24 from rfl, h0', hR.1.1 0 (by omega)]
  by_cases h1 : fX0_in a1 1 24 = 0
  · rw [if_pos h1, if_pos h1]; exact pf0 hR
  rw [if_neg h1, if_neg h1]
  by_cases h2 : σ 0 0 + a1 ≤ 99999
  · rw [if_pos h2, if_pos h2, if_pos rfl]
    obtain ⟨k, _, hk, rfl⟩ := p_range1 (n := 24) (m := 1) (by decide) (by decide) h1
    obtain ⟨B, hB⟩ := hR.1.2
    obtain ⟨e1, e2⟩ := p_hours hR.1.1 hB hR.2 (a := k) (by omega)
    obtain ⟨s1, s2, s3, s4, _, _⟩ := p_seq hR.1.1 hB hR.2 k
    unfold fX0_goesOn
    rw [e1, e2]
    simp only [Option.bind]
    rw [p_whoC _ s2.1 s2.2.1, p_whoM s1 s2.1 s2.2.1]
    simp only
    rw [p_bitsK _ (Nat.lt_trans (p_mask256 s2.1) (by decide))]
    exact ⟨_, _, _, rfl, rfl, hR.mk s1 s2 s3 s4 (by decide) (by decide), s3.mono (by decide), s4.mono (by decide)⟩
  · rw [if_neg h2, if_neg h2, if_neg (by decide)]; exact pf4 hR

/-! looking ahead: out and home again -/
theorem pWB.congr {B : Nat} {f g : Nat → Int32} (h : pWB B f) (e : ∀ i, i < 186 → g i = f i) : pWB B g := by
  obtain ⟨h1, h2, h3, h4, h5, h6, h7, h8⟩ := h
  refine ⟨h1, by rw [e 2 (by omega)]; exact h2, fun c hc => by rw [e _ (by omega)]; exact h3 c hc, fun c hc => by rw [e _ (by omega)]; exact h4 c hc, fun c hc => by rw [e _ (by omega)]; exact h5 c hc, fun b hb => ?_, by rw [e 1 (by omega)]; exact h7, fun c hc => by rw [e _ (by omega)]; exact h8 c hc⟩
  rw [e _ (by omega), e _ (by omega), e _ (by omega), e _ (by omega), e _ (by omega)]
  exact h6 b hb
theorem p_out (σ : xM) : ∃ s, fX4_become σ 2 0 = some s ∧ s 0 = σ 0 ∧ (∀ i, i < 186 → s 2 i = σ 0 i) ∧ pF [2] σ s := by
  obtain ⟨s, e, f, g⟩ := p_becomeC σ (w := 2) (w1 := 0) (by omega) (by omega)
  exact ⟨s, e, by funext i; exact f 0 i (by decide) (by omega), g, f⟩
theorem p_home {σ s : xM} {L : List Nat} (h2 : ∀ i, i < 186 → s 2 i = σ 0 i) (f : pF L σ s) (hL : 0 ∈ L) : ∃ s', fX4_become s 0 2 = some s' ∧ (∀ i, i < 186 → s' 0 i = σ 0 i) ∧ pF L σ s' := by
  obtain ⟨s', e, f', g⟩ := p_becomeC s (w := 0) (w1 := 2) (by omega) (by omega)
  exact ⟨s', e, fun i hi => (g i hi).trans (h2 i hi), f.trans (f'.mono (fun v hv => by rw [List.mem_singleton.1 hv]; exact hL))⟩
theorem p_outM (τ : xM) : ∃ t, fX13_copyRow τ 20 22 = some t ∧ (∀ i, t 20 i = τ 20 i) ∧ (∀ i, i < 186 → t 22 i = τ 20 i) ∧ pF [22] τ t := by
  obtain ⟨t, e, f, g⟩ := p_copyRow τ (v0 := 20) (v1 := 22) (by omega)
  exact ⟨t, e, fun i => f 20 i (by decide) (by omega), g, f⟩
theorem p_homeM {τ t : xM} {L : List Nat} (h2 : ∀ i, i < 186 → t 22 i = τ 20 i) (f : pF L τ t) (hL : 20 ∈ L) : ∃ t', (∀ x, fX13_putBack t x = some (x, t')) ∧ (∀ i, i < 186 → t' 20 i = τ 20 i) ∧ pF L τ t' := by
  obtain ⟨t', e, f', g⟩ := p_copyRow t (v0 := 22) (v1 := 20) (by omega)
  refine ⟨t', fun x => ?_, fun i hi => (g i hi).trans (h2 i hi), f.trans (f'.mono (fun v hv => by rw [List.mem_singleton.1 hv]; exact hL))⟩
  unfold fX13_putBack
  rw [e]; rfl
/-- the field is as it was -/
def pBk (σ τ σ' τ' : xM) : Prop := (∀ i, i < 186 → σ' 0 i = σ 0 i) ∧ (∀ i, i < 186 → τ' 20 i = τ 20 i) ∧ pF [0, 2, 8] σ σ' ∧ pF [20, 22] τ τ'
theorem pBk.row {σ τ σ' τ' : xM} (h : pBk σ τ σ' τ') (hR : pRow σ 0 τ 20) : pRow σ' 0 τ' 20 := fun i hi => by rw [h.1 i hi, h.2.1 i hi]; exact hR i hi
theorem pBk.wb {σ τ σ' τ' : xM} {B : Nat} (h : pBk σ τ σ' τ') (hB : pWB B (σ 0)) : pWB B (σ' 0) := hB.congr h.1
theorem pBk.r {σ τ σ' τ' : xM} (h : pBk σ τ σ' τ') (hR : pR σ τ) : pR σ' τ' := by
  obtain ⟨B, hB⟩ := hR.1.2
  exact hR.mk (h.row hR.1.1) (h.wb hB) h.2.2.1 h.2.2.2 (by decide) (by decide)
theorem pBk.ok {α : Type} {σ τ σ' τ' : xM} (h : pBk σ τ σ' τ') (hR : pR σ τ) (r : α) : pOk (some (r, σ')) (some (r, τ')) σ τ :=
  ⟨r, σ', τ', rfl, rfl, h.r hR, h.2.2.1.mono (by decide), h.2.2.2.mono (by decide)⟩
theorem pOk.then {α : Type} {σ τ σ' τ' : xM} {o o' : Option (α × xM)} (h : pOk o o' σ' τ') (f : pF pC σ σ') (g : pF pM τ τ') : pOk o o' σ τ := by
  obtain ⟨r, a, b, h1, h2, h3, h4, h5⟩ := h
  exact ⟨r, a, b, h1, h2, h3, f.trans h4, g.trans h5⟩
/-- hours out and home: what lies in between, and the way back -/
theorem p_trip {σ τ : xM} (hR : pRow σ 0 τ 20) {B : Nat} (hB : pWB B (σ 0)) {σ0 : xM} (hO : pO σ0 τ) : ∃ s t, fX4_become σ 2 0 = some s ∧ fX13_copyRow τ 20 22 = some t ∧ pRow s 0 t 20 ∧ pWB B (s 0) ∧ pO σ0 t ∧ (∀ i, s 0 i = σ 0 i) ∧ ∀ s1 t1, pF [0, 8] s s1 → pF [20] t t1 → ∃ s' t', fX4_become s1 0 2 = some s' ∧ (∀ x, fX13_putBack t1 x = some (x, t')) ∧ pBk σ τ s' t' := by
  obtain ⟨s, e1, e2, e3, e4⟩ := p_out σ
  obtain ⟨t, d1, d2, d3, d4⟩ := p_outM τ
  refine ⟨s, t, e1, d1, fun i hi => by rw [d2, e2]; exact hR i hi, by rw [e2]; exact hB, hO.r d4 (by decide), fun i => by rw [e2], fun s1 t1 f g => ?_⟩
  obtain ⟨s', a1, a2, a3⟩ := p_home (σ := σ) (s := s1) (L := [0, 2, 8]) (fun i hi => (f 2 i (by decide) (by omega)).trans (e3 i hi)) ((e4.mono (by decide)).trans (f.mono (by decide))) (by decide)
  obtain ⟨t', b1, b2, b3⟩ := p_homeM (τ := τ) (t := t1) (L := [20, 22]) (fun i hi => (g 22 i (by decide) (by omega)).trans (d3 i hi)) ((d4.mono (by decide)).trans (g.mono (by decide))) (by decide)
  exact ⟨s', t', a1, b1, a2, b2, a3, b3⟩
theorem p_ahead {σ τ : xM} (hR : pR σ τ) (a1 a2 : Int32) : pOk (fX0_ahead σ a1 a2) (fX13_ahead τ a1 a2) σ τ := by
  unfold fX0_ahead fX13_ahead
  rw [p_isBell hR, show fX13_within a2 0 60 = fX0_in a2 0 60 from rfl]
  simp only [Option.bind]
  by_cases h1 : fX0_isBell σ a1 = 0
  · rw [if_pos h1, if_pos h1]; exact pf0 hR
  rw [if_neg h1, if_neg h1]
  by_cases h2 : fX0_in a2 0 60 = 0
  · rw [if_pos h2, if_pos h2]; exact pf0 hR
  rw [if_neg h2, if_neg h2]
  obtain ⟨B, hB⟩ := hR.1.2
  obtain ⟨b, hb, hb8, rfl⟩ := p_bell_of hB h1
  obtain ⟨k, hk, rfl⟩ := p_range (n := 60) (by decide) h2
  obtain ⟨s, t, e1, e2, e3, e4, e5, _, e6⟩ := p_trip hR.1.1 hB hR.2
  obtain ⟨g1, g2⟩ := p_hours e3 e4 e5 (a := k) (by omega)
  obtain ⟨q1, q2, q3, q4, _, _⟩ := p_seq e3 e4 e5 k
  obtain ⟨s', t', j1, j2, j3⟩ := e6 _ _ (q3.mono (by decide)) q4
  unfold fX13_fieldBehind
  rw [e1, e2]
  simp only [Option.bind]
  rw [g1, g2]
  simp only
  have hbi : fX13_bellIs (pS1 t k) (Int32.ofNat b) 1 = some (pS0 s k 0 (146 + 5 * b + 1)) := p_bellIs q1 (b := b) (f := 1) hb8 (by omega)
  rw [hbi, if_pos ((p_in (by omega)).2 hb8), j1, p_nat (by omega)]
  simp only
  rw [j2]
  exact j3.ok hR _
theorem p_behind {σ τ : xM} (hR : pRow σ 0 τ 20) {B : Nat} (hB : pWB B (σ 0)) {σ0 : xM} (hO : pO σ0 τ) {a : Nat} (ha : a < 1000) : ∃ m σ' τ', m < 256 ∧ fX0_caughtBehind σ (Int32.ofNat a) = some (Int32.ofNat m, σ') ∧ fX13_setBehind τ (Int32.ofNat a) = some (Int32.ofNat m, τ') ∧ pBk σ τ σ' τ' := by
  obtain ⟨s, t, e1, e2, e3, e4, e5, _, e6⟩ := p_trip hR hB hO
  obtain ⟨g1, g2⟩ := p_hours e3 e4 e5 ha
  obtain ⟨q1, q2, q3, q4, _, _⟩ := p_seq e3 e4 e5 a
  obtain ⟨s', t', j1, j2, j3⟩ := e6 _ _ (q3.mono (by decide)) q4
  refine ⟨pMask (pS0 s a 0) B, s', t', p_mask256 q2.1, ?_, ?_, j3⟩
  · unfold fX0_caughtBehind
    rw [e1]
    simp only [Option.bind]
    rw [g1]
    simp only
    rw [p_whoC _ q2.1 q2.2.1]
    simp only
    rw [j1]
  · unfold fX13_setBehind
    rw [e2]
    simp only [Option.bind]
    rw [g2]
    simp only
    rw [p_whoM q1 q2.1 q2.2.1]
    simp only
    rw [j2]
theorem p_caught {σ τ : xM} (hR : pR σ τ) (a1 : Int32) : pOk (fX0_caught σ a1) (fX13_caught τ a1) σ τ := by
  unfold fX0_caught fX13_caught
  rw [show fX13_within a1 0 60 = fX0_in a1 0 60 from rfl]
  by_cases h2 : fX0_in a1 0 60 = 0
  · rw [if_pos h2, if_pos h2]; exact pf0 hR
  rw [if_neg h2, if_neg h2]
  obtain ⟨B, hB⟩ := hR.1.2
  obtain ⟨k, hk, rfl⟩ := p_range (n := 60) (by decide) h2
  obtain ⟨m, s', t', _, j1, j2, j3⟩ := p_behind hR.1.1 hB hR.2 (a := k) (by omega)
  rw [j1, j2]
  exact j3.ok hR _
/-- when a bell is caught -/
theorem p_whenIs {σ τ : xM} (hR : pRow σ 0 τ 20) {B : Nat} (hB : pWB B (σ 0)) {σ0 : xM} (hO : pO σ0 τ) {a b : Nat} (ha : a < 1000) (hb : b < 8) : ∃ x y σ' τ', fX0_whenIs σ (Int32.ofNat b) (Int32.ofNat a) = some (x, σ') ∧ fX13_caughtIn τ (Int32.ofNat b) (Int32.ofNat a) = some (y, τ') ∧ ((∃ j, j ≤ a ∧ x = Int32.ofNat j ∧ y = Int32.ofNat j) ∨ (x = -1 ∧ y = 1000000)) ∧ pBk σ τ σ' τ' := by
  obtain ⟨s, t, e1, e2, e3, e4, e5, _, e6⟩ := p_trip hR hB hO
  have hs := p_seq e3 e4 e5
  have key0 := p_loop (G := fun n (s : Int32 × xM) => gX0_whenIs_13 (Int32.ofNat b) (Int32.ofNat a) n s.1 s.2) (fun k r => r = (Int32.ofNat k, pS0 s k) ∧ k ≤ a + 1 ∧ ∀ i, i < k → ¬ pS0 s i 0 (146 + 5 * b + 4) = 1)
    (Post := fun r => ∃ k, r = (Int32.ofNat k, pS0 s k) ∧ k ≤ a + 1 ∧ (∀ i, i < k → ¬ pS0 s i 0 (146 + 5 * b + 4) = 1) ∧ (k ≤ a → pS0 s k 0 (146 + 5 * b + 4) = 1)) (a + 1) ?_ 0 (0, s) ⟨rfl, Nat.zero_le _, fun i hi => by omega⟩ xfu (by unfold xfu; omega)
  have key1 := p_loop (G := fun n (s : Int32 × xM) => gX13_caughtIn_13 (Int32.ofNat b) (Int32.ofNat a) n s.1 s.2) (fun k r => r = (Int32.ofNat k, pS1 t k) ∧ k ≤ a ∧ ∀ i, i < k → ¬ pS0 s i 0 (146 + 5 * b + 4) = 1)
    (Post := fun r => ∃ k, r = (Int32.ofNat k, pS1 t k) ∧ k ≤ a ∧ (∀ i, i < k → ¬ pS0 s i 0 (146 + 5 * b + 4) = 1) ∧ (k < a → pS0 s k 0 (146 + 5 * b + 4) = 1)) a ?_ 0 (0, t) ⟨rfl, Nat.zero_le _, fun i hi => by omega⟩ xfu (by unfold xfu; omega)
  · obtain ⟨r, h1, k, rfl, hk, hk1, hk2⟩ := key0
    obtain ⟨r', g1, k', rfl, hk', hk1', hk2'⟩ := key1
    dsimp only at h1 g1
    obtain ⟨s', t', j1, j2, j3⟩ := e6 _ _ ((hs k).2.2.1.mono (by decide)) (hs k').2.2.2.1
    unfold fX0_whenIs fX13_caughtIn
    rw [e1, e2]
    simp only [Option.bind]
    rw [show gX0_whenIs_13 (Int32.ofNat b) (Int32.ofNat a) xfu 0 s = _ from h1, show gX13_caughtIn_13 (Int32.ofNat b) (Int32.ofNat a) xfu 0 t = _ from g1]
    simp only
    rw [p_caughtM (hs k').1 hb, j1]
    simp only [j2]
    by_cases q : k ≤ a
    · have e : k' = k := by
        have q1 := hk2 q
        by_cases q2 : k' < k
        · exact absurd (hk2' (by omega)) (hk1 k' q2)
        · by_cases q3 : k < k'
          · exact absurd q1 (hk1' k q3)
          · omega
      subst e
      rw [if_neg (fun w => by have := (p_lt (by omega) (by omega)).1 w; omega), if_pos (hk2 q), if_neg (by decide)]
      exact ⟨_, _, _, _, rfl, rfl, Or.inl ⟨k', q, rfl, rfl⟩, j3⟩
    · have e : k = a + 1 := by omega
      have e' : k' = a := by
        by_cases q2 : k' < a
        · exact absurd (hk2' q2) (hk1 k' (by omega))
        · omega
      subst e e'
      rw [if_pos ((p_lt (by omega) (by omega)).2 (by omega)), if_neg (hk1 k' (by omega)), if_pos rfl]
      exact ⟨_, _, _, _, rfl, rfl, Or.inr ⟨rfl, rfl⟩, j3⟩
  · rintro k n r ⟨rfl, hk, hi⟩
    dsimp only
    by_cases q : k = a
    · right
      refine ⟨(Int32.ofNat k, pS1 t k), ?_, k, rfl, hk, hi, fun w => by omega⟩
      rw [gX13_caughtIn_13, q, if_pos (Int32.le_refl _)]
    · have hle : ¬ Int32.ofNat a ≤ Int32.ofNat k := fun q => by have := (p_le (by omega) (by omega)).1 q; omega
      rw [gX13_caughtIn_13, if_neg hle, p_caughtM (hs k).1 hb]
      simp only [Option.bind]
      by_cases q1 : pS0 s k 0 (146 + 5 * b + 4) = 1
      · right
        rw [if_pos q1, if_neg (by decide)]
        exact ⟨(Int32.ofNat k, pS1 t k), rfl, k, rfl, hk, hi, fun _ => q1⟩
      · left
        refine ⟨by omega, (Int32.ofNat (k + 1), pS1 t (k + 1)), ?_, rfl, by omega, fun i hi2 => ?_⟩
        · rw [if_neg q1, if_pos rfl, (hs k).2.2.2.2.2, p_s]
        · by_cases q2 : i = k
          · rw [q2]; exact q1
          · exact hi i (by omega)
  · rintro k n r ⟨rfl, hk, hi⟩
    dsimp only
    by_cases q : k = a + 1
    · right
      refine ⟨(Int32.ofNat k, pS0 s k), ?_, k, rfl, hk, hi, fun w => by omega⟩
      rw [gX0_whenIs_13, q, if_pos ((p_lt (by omega) (by omega)).2 (by omega))]
    · have hle : ¬ Int32.ofNat a < Int32.ofNat k := fun q => by have := (p_lt (by omega) (by omega)).1 q; omega
      rw [gX0_whenIs_13, if_neg hle, p_caughtC hb]
      simp only [Option.bind]
      by_cases q1 : pS0 s k 0 (146 + 5 * b + 4) = 1
      · right
        rw [if_pos q1, if_neg (by decide)]
        exact ⟨(Int32.ofNat k, pS0 s k), rfl, k, rfl, hk, hi, fun _ => q1⟩
      · left
        refine ⟨by omega, (Int32.ofNat (k + 1), pS0 s (k + 1)), ?_, rfl, by omega, fun i hi2 => ?_⟩
        · rw [if_neg q1, if_pos rfl, (hs k).2.2.2.2.1, p_s]
        · by_cases q2 : i = k
          · rw [q2]; exact q1
          · exact hi i (by omega)

theorem p_orNone {σ τ : xM} (hR : pR σ τ) {x y : Int32} (h : (∃ j, j < 2 ^ 31 ∧ j ≠ 1000000 ∧ x = Int32.ofNat j ∧ y = Int32.ofNat j) ∨ (x = -1 ∧ y = 1000000)) : pOk (fX0_orNone σ x) (fX13_told τ y) σ τ := by
  unfold fX0_orNone fX13_told
  rcases h with ⟨j, hj, hj2, rfl, rfl⟩ | ⟨rfl, rfl⟩
  · have e : ¬ Int32.ofNat j = (1000000 : Int32) := fun q => hj2 ((p_eq (b := 1000000) hj (by decide)).1 q)
    rw [if_neg (p_ne1 _ hj), if_neg e]
    exact pOk.q hR _
  · rw [if_pos rfl, if_pos rfl]; exact pf3 hR
theorem p_orNone' {σ τ : xM} (hR : pR σ τ) {x : Int32} (h : (∃ j, j < 2 ^ 31 ∧ x = Int32.ofNat j) ∨ x = -1) : pOk (fX0_orNone σ x) (fX13_orNone τ x) σ τ := by
  unfold fX0_orNone fX13_orNone
  rcases h with ⟨j, hj, rfl⟩ | rfl
  · rw [if_neg (p_ne1 _ hj), if_pos (p_0le _ hj)]
    exact pOk.q hR _
  · rw [if_pos rfl, if_neg (by decide)]; exact pf3 hR
theorem p_when {σ τ : xM} (hR : pR σ τ) (a1 : Int32) : pOk (fX0_when σ a1) (fX13_when τ a1) σ τ := by
  unfold fX0_when fX13_when
  rw [p_isBell hR]
  simp only [Option.bind]
  by_cases h1 : fX0_isBell σ a1 = 0
  · rw [if_pos h1, if_pos h1]; exact pf0 hR
  rw [if_neg h1, if_neg h1]
  obtain ⟨B, hB⟩ := hR.1.2
  obtain ⟨b, hb, hb8, rfl⟩ := p_bell_of hB h1
  obtain ⟨x, y, s', t', e1, e2, e3, e4⟩ := p_whenIs hR.1.1 hB hR.2 (a := 60) (by omega) hb8
  have e1 : fX0_whenIs σ (Int32.ofNat b) 60 = some (x, s') := e1
  have e2 : fX13_caughtIn τ (Int32.ofNat b) 60 = some (y, t') := e2
  rw [e1, e2]
  simp only
  have h := (p_orNone (e4.r hR) (x := x) (y := y) (by
    rcases e3 with ⟨j, hj, q1, q2⟩ | q
    · exact Or.inl ⟨j, by omega, by omega, q1, q2⟩
    · exact Or.inr q)).then (e4.2.2.1.mono (by decide)) (e4.2.2.2.mono (by decide))
  exact h.b
theorem xup_2 (σ : xM) (v i : Nat) (a b : Int32) : xup (xup σ v i a) v i b = xup σ v i b := by
  funext x y
  unfold xup
  by_cases h : x = v ∧ y = i
  · rw [if_pos h, if_pos h]
  · rw [if_neg h, if_neg h, if_neg h]
/-- the field is as it was, but for the place i0 -/
def pBx (i0 : Nat) (σ τ σ' τ' : xM) : Prop := (∀ i, i < 186 → i ≠ i0 → σ' 0 i = σ 0 i) ∧ (∀ i, i < 186 → i ≠ i0 → τ' 20 i = τ 20 i) ∧ pF [0, 2, 8] σ σ' ∧ pF [20, 22] τ τ'
theorem pBx.refl (i0 : Nat) (σ τ : xM) : pBx i0 σ τ σ τ := ⟨fun _ _ _ => rfl, fun _ _ _ => rfl, pF.refl _ _, pF.refl _ _⟩
theorem pBk.refl (σ τ : xM) : pBk σ τ σ τ := ⟨fun _ _ => rfl, fun _ _ => rfl, pF.refl _ _, pF.refl _ _⟩
theorem pBk.trans {a b c d e f : xM} (h : pBk a b c d) (g : pBk c d e f) : pBk a b e f := ⟨fun i hi => (g.1 i hi).trans (h.1 i hi), fun i hi => (g.2.1 i hi).trans (h.2.1 i hi), h.2.2.1.trans g.2.2.1, h.2.2.2.trans g.2.2.2⟩
theorem pBx.home {i0 : Nat} {σ τ σ' τ' : xM} (h : pBx i0 σ τ σ' τ') {x y : Int32} (hx : x = σ 0 i0) (hy : y = τ 20 i0) : pBk σ τ (xup σ' 0 i0 x) (xup τ' 20 i0 y) := by
  refine ⟨fun i hi => ?_, fun i hi => ?_, h.2.2.1.up _ _ _ (by decide), h.2.2.2.up _ _ _ (by decide)⟩
  · by_cases q : i = i0
    · rw [q, xup_s, hx]
    · rw [xup_n (fun w => q w.2)]; exact h.1 i hi q
  · by_cases q : i = i0
    · rw [q, xup_s, hy]
    · rw [xup_n (fun w => q w.2)]; exact h.2.1 i hi q
theorem pBx.set {i0 : Nat} {σ τ σk τk : xM} (h : pBx i0 σ τ σk τk) (x : Int32) : pBx i0 σ τ (xup σk 0 i0 x) (xup τk 20 i0 x) :=
  ⟨fun i hi q => by rw [xup_n (fun w => q w.2)]; exact h.1 i hi q, fun i hi q => by rw [xup_n (fun w => q w.2)]; exact h.2.1 i hi q, h.2.2.1.up _ _ _ (by decide), h.2.2.2.up _ _ _ (by decide)⟩
theorem pBx.row {i0 : Nat} {σ τ σk τk : xM} (h : pBx i0 σ τ σk τk) (hR : pRow σ 0 τ 20) (x : Int32) : pRow (xup σk 0 i0 x) 0 (xup τk 20 i0 x) 20 := fun i hi => by
  by_cases q : i = i0
  · rw [q, xup_s, xup_s]
  · rw [xup_n (fun w => q w.2), xup_n (fun w => q w.2), h.1 i hi q, h.2.1 i hi q]; exact hR i hi
theorem pBx.wb {i0 B : Nat} {σ τ σk τk : xM} (h : pBx i0 σ τ σk τk) {x : Int32} (hB : pWB B (pUp (σ 0) i0 x)) : pWB B (xup σk 0 i0 x 0) := by
  refine hB.congr (fun i hi => ?_)
  by_cases q : i = i0
  · rw [q, xup_s, pUp_s]
  · rw [xup_n (fun w => q w.2), pUp_n q]; exact h.1 i hi q
theorem pBx.then {i0 : Nat} {σ τ a b c d : xM} (h : pBx i0 σ τ a b) (g : pBk a b c d) : pBx i0 σ τ c d := ⟨fun i hi q => (g.1 i hi).trans (h.1 i hi q), fun i hi q => (g.2.1 i hi).trans (h.2.1 i hi q), h.2.2.1.trans g.2.2.1, h.2.2.2.trans g.2.2.2⟩
theorem p_try {i0 B : Nat} {σ τ σk τk σ0 : xM} (h : pBx i0 σ τ σk τk) (hR : pRow σ 0 τ 20) (hO : pO σ0 τ) {x : Int32} (hB : pWB B (pUp (σ 0) i0 x)) {a b : Nat} (ha : a < 1000) (hb : b < 8) : ∃ X Y σ' τ', fX0_whenIs (xup σk 0 i0 x) (Int32.ofNat b) (Int32.ofNat a) = some (X, σ') ∧ fX13_caughtIn (xup τk 20 i0 x) (Int32.ofNat b) (Int32.ofNat a) = some (Y, τ') ∧ ((∃ j, j ≤ a ∧ X = Int32.ofNat j ∧ Y = Int32.ofNat j) ∨ (X = -1 ∧ Y = 1000000)) ∧ pBx i0 σ τ σ' τ' := by
  have h' := h.set x
  obtain ⟨X, Y, s, t, e1, e2, e3, e4⟩ := p_whenIs (h.row hR x) (h.wb hB) (hO.r h'.2.2.2 (by decide)) ha hb
  exact ⟨X, Y, s, t, e1, e2, e3, h'.then e4⟩
/-- the best so far: none, or a place and the hour -/
def pBs (x y x' y' : Int32) : Prop := x = x' ∧ ((x = -1 ∧ y' = 1000000) ∨ ∃ c j, c < 100 ∧ j ≤ 60 ∧ x = Int32.ofNat c ∧ y = Int32.ofNat j ∧ y' = Int32.ofNat j)
/-- what one trial makes of it: on both sides the same -/
theorem pBs.step {x y x' y' X Y : Int32} (h : pBs x y x' y') {a : Nat} (ha : a ≤ 60) (hX : (∃ j, j ≤ a ∧ X = Int32.ofNat j ∧ Y = Int32.ofNat j) ∨ (X = -1 ∧ Y = 1000000)) {c : Nat} (hc : c < 100) {α α' : Type} (G : Int32 → Int32 → α) (G' : Int32 → Int32 → α') {P : α → α' → Prop} (hP : ∀ u v u' v', pBs u v u' v' → P (G u v) (G' u' v')) :
    P (if X = -1 then G x y else if x = -1 then G (Int32.ofNat c) X else if y ≤ X then G x y else G (Int32.ofNat c) X) (if y' ≤ Y then G' x' (fJ3_min y' Y) else G' (Int32.ofNat c) (fJ3_min y' Y)) := by
  obtain ⟨rfl, h⟩ := h
  rcases hX with ⟨j, hj, rfl, rfl⟩ | ⟨rfl, rfl⟩
  · rw [if_neg (p_ne1 _ (by omega))]
    rcases h with ⟨rfl, rfl⟩ | ⟨c', j', hc', hj', rfl, rfl, rfl⟩
    · have e1 : ¬ (1000000 : Int32) ≤ Int32.ofNat j := fun q => by have := (p_le (a := 1000000) (by decide) (by omega)).1 q; omega
      have e2 : Int32.ofNat j < (1000000 : Int32) := (p_lt (b := 1000000) (by omega) (by decide)).2 (by omega)
      rw [if_pos rfl, if_neg e1]
      unfold fJ3_min
      rw [if_pos e2]
      exact hP _ _ _ _ ⟨rfl, Or.inr ⟨c, j, hc, by omega, rfl, rfl, rfl⟩⟩
    · rw [if_neg (p_ne1 _ (by omega))]
      unfold fJ3_min
      by_cases q : j' ≤ j
      · rw [if_pos ((p_le (by omega) (by omega)).2 q), if_pos ((p_le (by omega) (by omega)).2 q), if_neg (fun w => by have := (p_lt (by omega) (by omega)).1 w; omega)]
        exact hP _ _ _ _ ⟨rfl, Or.inr ⟨c', j', hc', hj', rfl, rfl, rfl⟩⟩
      · rw [if_neg (fun w => q ((p_le (by omega) (by omega)).1 w)), if_neg (fun w => q ((p_le (by omega) (by omega)).1 w)), if_pos ((p_lt (by omega) (by omega)).2 (by omega))]
        exact hP _ _ _ _ ⟨rfl, Or.inr ⟨c, j, hc, by omega, rfl, rfl, rfl⟩⟩
  · rw [if_pos rfl]
    unfold fJ3_min
    rcases h with ⟨rfl, rfl⟩ | ⟨c', j', hc', hj', rfl, rfl, rfl⟩
    · rw [if_pos (Int32.le_refl _), if_neg (by decide)]
      exact hP _ _ _ _ ⟨rfl, Or.inl ⟨rfl, rfl⟩⟩
    · have e1 : Int32.ofNat j' ≤ (1000000 : Int32) := (p_le (b := 1000000) (by omega) (by decide)).2 (by omega)
      have e2 : ¬ (1000000 : Int32) < Int32.ofNat j' := fun w => by have := (p_lt (a := 1000000) (by decide) (by omega)).1 w; omega
      rw [if_pos e1, if_neg e2]
      exact hP _ _ _ _ ⟨rfl, Or.inr ⟨c', j', hc', hj', rfl, rfl, rfl⟩⟩
theorem pBs.end {x y x' y' : Int32} (h : pBs x y x' y') : (∃ j, j < 2 ^ 31 ∧ x = Int32.ofNat j) ∨ x = -1 := by
  rcases h.2 with h | ⟨c, j, hc, _, h, _⟩
  · exact Or.inr h.1
  · exact Or.inl ⟨c, by omega, h⟩
theorem p_bestNet {σ τ : xM} (hR : pR σ τ) {b : Nat} (hb : b < 8) : ∃ r r', gX0_bestNet_7 (Int32.ofNat b) xfu (-1) 0 0 σ = some r ∧ gX13_netFor_23 (Int32.ofNat b) xfu (-1) 1000000 0 τ = some r' ∧ pBs r.1 r.2.1 r'.1 r'.2.1 ∧ pBk σ τ r.2.2.2 r'.2.2.2 := by
  obtain ⟨B, hB⟩ := hR.1.2
  have key := p_lock (G := fun n (s : Int32 × Int32 × Int32 × xM) => gX0_bestNet_7 (Int32.ofNat b) n s.1 s.2.1 s.2.2.1 s.2.2.2) (G' := fun n (s : Int32 × Int32 × Int32 × xM) => gX13_netFor_23 (Int32.ofNat b) n s.1 s.2.1 s.2.2.1 s.2.2.2)
    (fun k s s' => s.2.2.1 = Int32.ofNat k ∧ s'.2.2.1 = Int32.ofNat k ∧ k ≤ 64 ∧ pBs s.1 s.2.1 s'.1 s'.2.1 ∧ pBk σ τ s.2.2.2 s'.2.2.2) (Post := fun r r' => pBs r.1 r.2.1 r'.1 r'.2.1 ∧ pBk σ τ r.2.2.2 r'.2.2.2) 64 ?_ 0 (-1, 0, 0, σ) (-1, 1000000, 0, τ) ⟨rfl, rfl, Nat.zero_le _, ⟨rfl, Or.inl ⟨rfl, rfl⟩⟩, pBk.refl _ _⟩ xfu (by unfold xfu; omega)
  · exact key
  · rintro k n ⟨x, y, z, s⟩ ⟨x', y', z', t⟩ ⟨e1, e2, hk, h1, h2⟩
    dsimp only at e1 e2 hk h1 h2 ⊢
    subst e1 e2
    by_cases hkB : k = 64
    · right
      subst hkB
      refine ⟨(x, y, Int32.ofNat 64, s), (x', y', Int32.ofNat 64, t), ?_, ?_, h1, h2⟩
      · rw [gX0_bestNet_7, if_pos (by decide)]
      · rw [gX13_netFor_23, if_pos (by decide)]
    · left
      refine ⟨by omega, ?_⟩
      have hle : ¬ (64 : Int32) ≤ Int32.ofNat k := fun q => by have := (p_le (a := 64) (by omega) (by omega)).1 q; omega
      have hin : xin (Int32.ofNat k) 64 := (p_in (by omega)).2 (by omega)
      have h18 : (18 : Int32) + Int32.ofNat k = Int32.ofNat (18 + k) := p_add 18 k
      have hin2 : xin (Int32.ofNat (18 + k)) 186 := (p_in (by omega)).2 (by omega)
      have hrow := h2.row hR.1.1
      have hwb := h2.wb hB
      obtain ⟨c, hc, hce⟩ := hwb.2.2.1 k (by omega)
      rw [gX0_bestNet_7, gX13_netFor_23, if_neg hle, if_neg hle, p_hasNet (c := c) (by omega) hc (by rw [hrow _ (by omega)]; exact hce)]
      simp only [Option.bind, if_pos hin, h18, if_pos hin2, p_nat (show k < 2 ^ 31 by omega), p_nat (show 18 + k < 2 ^ 31 by omega), show 18 + 64 * 0 + k = 18 + k from rfl, hce, p_s]
      have c01 : c = 0 ∨ c = 1 := by omega
      rcases c01 with rfl | rfl
      · rw [if_neg (by decide), if_pos (by decide)]
        obtain ⟨X, Y, s', t', d1, d2, d3, d4⟩ := p_try (pBx.refl (18 + k) s t) hrow (hR.2.r h2.2.2.2 (by decide)) (x := 1) (hwb.net k 1 (by omega) ⟨1, by omega, rfl⟩) (a := 20) (by omega) hb
        have d1 : fX0_whenIs (xup s 0 (18 + k) 1) (Int32.ofNat b) 20 = some (X, s') := d1
        have d2 : fX13_caughtIn (xup t 20 (18 + k) 1) (Int32.ofNat b) 20 = some (Y, t') := d2
        rw [d1, d2]
        simp only
        have hh := h2.trans (d4.home (x := Int32.ofNat 0) (y := 0) hce.symm (by rw [hrow _ (by omega), hce]; rfl))
        exact h1.step (a := 20) (by omega) d3 (c := k) (by omega) (fun u v => gX0_bestNet_7 (Int32.ofNat b) n u v (Int32.ofNat (k + 1)) (xup s' 0 (18 + k) (Int32.ofNat 0))) (fun u v => gX13_netFor_23 (Int32.ofNat b) n u v (Int32.ofNat (k + 1)) (xup t' 20 (18 + k) 0)) (P := fun A A' => ∃ w w' : Int32 × Int32 × Int32 × xM, A = gX0_bestNet_7 (Int32.ofNat b) n w.1 w.2.1 w.2.2.1 w.2.2.2 ∧ A' = gX13_netFor_23 (Int32.ofNat b) n w'.1 w'.2.1 w'.2.2.1 w'.2.2.2 ∧ w.2.2.1 = Int32.ofNat (k + 1) ∧ w'.2.2.1 = Int32.ofNat (k + 1) ∧ k + 1 ≤ 64 ∧ pBs w.1 w.2.1 w'.1 w'.2.1 ∧ pBk σ τ w.2.2.2 w'.2.2.2)
          (fun u v u' v' hb => ⟨(u, v, Int32.ofNat (k + 1), xup s' 0 (18 + k) (Int32.ofNat 0)), (u', v', Int32.ofNat (k + 1), xup t' 20 (18 + k) 0), rfl, rfl, rfl, rfl, by omega, hb, hh⟩)
      · rw [if_pos (by decide), if_neg (by decide), xup_2]
        refine ⟨(x, y, Int32.ofNat (k + 1), s), (x', y', Int32.ofNat (k + 1), t), ?_, rfl, rfl, rfl, by omega, h1, h2⟩
        dsimp only
        rw [← hce, xup_id]
theorem p_netFor {σ τ : xM} (hR : pR σ τ) (a1 : Int32) : pOk (fX0_netFor σ a1) (fX13_netFor τ a1) σ τ := by
  unfold fX0_netFor fX13_netFor
  rw [p_isBell hR]
  simp only [Option.bind]
  by_cases h1 : fX0_isBell σ a1 = 0
  · rw [if_pos h1, if_pos h1]; exact pf0 hR
  rw [if_neg h1, if_neg h1]
  obtain ⟨B, hB⟩ := hR.1.2
  obtain ⟨b, hb, hb8, rfl⟩ := p_bell_of hB h1
  obtain ⟨r, r', e1, e2, e3, e4⟩ := p_bestNet hR hb8
  unfold fX0_bestNet
  rw [e1, e2]
  simp only [Option.bind]
  have h := (p_orNone' (e4.r hR) e3.end).then (e4.2.2.1.mono (by decide)) (e4.2.2.2.mono (by decide))
  rw [← e3.1]
  exact h.b

theorem p_onesK : ∀ m, m < 256 → fX0_ones (Int32.ofNat m) = Int32.ofNat (fX0_ones (Int32.ofNat m)).toNatClampNeg ∧ (fX0_ones (Int32.ofNat m)).toNatClampNeg < 9 := by decide +kernel
theorem p_bestAll {σ τ : xM} (hR : pR σ τ) {a : Nat} (ha : a < 1000) : ∃ r r', gX0_bestOfAll_7 (Int32.ofNat a) xfu (-1) (-1) 0 σ = some r ∧ gX13_best_24 (Int32.ofNat a) xfu (-1) (-1) 0 τ = some r' ∧ r.1 = r'.1 ∧ (r.1 = -1 ∨ pI r.1 64) ∧ pBk σ τ r.2.2.2 r'.2.2.2 := by
  obtain ⟨B, hB⟩ := hR.1.2
  have key := p_lock (G := fun n (s : Int32 × Int32 × Int32 × xM) => gX0_bestOfAll_7 (Int32.ofNat a) n s.1 s.2.1 s.2.2.1 s.2.2.2) (G' := fun n (s : Int32 × Int32 × Int32 × xM) => gX13_best_24 (Int32.ofNat a) n s.1 s.2.1 s.2.2.1 s.2.2.2)
    (fun k s s' => s.2.2.1 = Int32.ofNat k ∧ s'.2.2.1 = Int32.ofNat k ∧ k ≤ 64 ∧ s.1 = s'.1 ∧ s.2.1 = s'.2.1 ∧ (s.1 = -1 ∨ pI s.1 64) ∧ (s.2.1 = -1 ∨ pI s.2.1 9) ∧ pBk σ τ s.2.2.2 s'.2.2.2) (Post := fun r r' => r.1 = r'.1 ∧ (r.1 = -1 ∨ pI r.1 64) ∧ pBk σ τ r.2.2.2 r'.2.2.2) 64 ?_ 0 (-1, -1, 0, σ) (-1, -1, 0, τ) ⟨rfl, rfl, Nat.zero_le _, rfl, rfl, Or.inl rfl, Or.inl rfl, pBk.refl _ _⟩ xfu (by unfold xfu; omega)
  · exact key
  · rintro k n ⟨x, y, z, s⟩ ⟨x', y', z', t⟩ ⟨e1, e2, hk, e3, e4, h3, h4, h2⟩
    dsimp only at e1 e2 hk e3 e4 h3 h4 h2 ⊢
    subst e1 e2 e3 e4
    by_cases hkB : k = 64
    · right
      subst hkB
      refine ⟨(x, y, Int32.ofNat 64, s), (x, y, Int32.ofNat 64, t), ?_, ?_, rfl, h3, h2⟩
      · rw [gX0_bestOfAll_7, if_pos (by decide)]
      · rw [gX13_best_24, if_pos (by decide)]
    · left
      refine ⟨by omega, ?_⟩
      have hle : ¬ (64 : Int32) ≤ Int32.ofNat k := fun q => by have := (p_le (a := 64) (by omega) (by omega)).1 q; omega
      have hin : xin (Int32.ofNat k) 64 := (p_in (by omega)).2 (by omega)
      have h18 : (18 : Int32) + Int32.ofNat k = Int32.ofNat (18 + k) := p_add 18 k
      have hin2 : xin (Int32.ofNat (18 + k)) 186 := (p_in (by omega)).2 (by omega)
      have hrow := h2.row hR.1.1
      have hwb := h2.wb hB
      obtain ⟨c, hc, hce⟩ := hwb.2.2.1 k (by omega)
      rw [gX0_bestOfAll_7, gX13_best_24, if_neg hle, if_neg hle, p_hasNet (c := c) (by omega) hc (by rw [hrow _ (by omega)]; exact hce)]
      simp only [Option.bind, if_pos hin, h18, if_pos hin2, p_nat (show k < 2 ^ 31 by omega), p_nat (show 18 + k < 2 ^ 31 by omega), show 18 + 64 * 0 + k = 18 + k from rfl, hce, p_s]
      have hy1 : (-1 : Int32) ≤ y := by
        rcases h4 with rfl | ⟨j, hj, rfl⟩
        · exact Int32.le_refl _
        · exact Int32.le_trans (by decide : (-1 : Int32) ≤ 0) (p_0le _ (by omega))
      have c01 : c = 0 ∨ c = 1 := by omega
      rcases c01 with rfl | rfl
      · rw [if_neg (by decide), if_pos (by decide)]
        have hb1 := (pBx.refl (18 + k) s t).set 1
        obtain ⟨m, s', t', hm, d1, d2, d4⟩ := p_behind ((pBx.refl (18 + k) s t).row hrow 1) ((pBx.refl (18 + k) s t).wb (hwb.net k 1 (by omega) ⟨1, by omega, rfl⟩)) ((hR.2.r h2.2.2.2 (by decide)).r hb1.2.2.2 (by decide)) ha
        rw [d1, d2]
        simp only
        rw [p_bitsK m (by omega)]
        simp only
        have hh := h2.trans ((hb1.then d4).home (x := Int32.ofNat 0) (y := 0) hce.symm (by rw [hrow _ (by omega), hce]; rfl))
        obtain ⟨o1, o2⟩ := p_onesK m hm
        have hmx : fJ3_max y (fX0_ones (Int32.ofNat m)) = -1 ∨ pI (fJ3_max y (fX0_ones (Int32.ofNat m))) 9 := by
          unfold fJ3_max
          by_cases q : y < fX0_ones (Int32.ofNat m)
          · rw [if_pos q]; exact Or.inr ⟨_, o2, o1⟩
          · rw [if_neg q]; exact h4
        by_cases q : fX0_ones (Int32.ofNat m) ≤ y
        · rw [if_pos q, if_pos q]
          exact ⟨(x, _, Int32.ofNat (k + 1), xup s' 0 (18 + k) (Int32.ofNat 0)), (x, _, Int32.ofNat (k + 1), xup t' 20 (18 + k) 0), rfl, rfl, rfl, rfl, by omega, rfl, rfl, h3, hmx, hh⟩
        · rw [if_neg q, if_neg q]
          exact ⟨(Int32.ofNat k, _, Int32.ofNat (k + 1), xup s' 0 (18 + k) (Int32.ofNat 0)), (Int32.ofNat k, _, Int32.ofNat (k + 1), xup t' 20 (18 + k) 0), rfl, rfl, rfl, rfl, by omega, rfl, rfl, Or.inr ⟨k, by omega, rfl⟩, hmx, hh⟩
      · have hmx : fJ3_max y (-1) = y := by
          unfold fJ3_max
          by_cases q : y < -1
          · exact absurd q (Int32.not_lt.2 hy1)
          · rw [if_neg q]
        rw [if_pos (by decide : Int32.ofNat 1 = 1), if_pos hy1, if_neg (by decide : ¬ Int32.ofNat 1 = 0), xup_2, hmx]
        refine ⟨(x, y, Int32.ofNat (k + 1), s), (x, y, Int32.ofNat (k + 1), t), ?_, rfl, rfl, rfl, by omega, rfl, rfl, h3, h4, h2⟩
        dsimp only
        rw [← hce, xup_id]
theorem p_best {σ τ : xM} (hR : pR σ τ) (a1 : Int32) : pOk (fX0_best σ a1) (fX13_best τ a1) σ τ := by
  unfold fX0_best fX13_best
  rw [show fX13_within a1 0 20 = fX0_in a1 0 20 from rfl]
  by_cases h2 : fX0_in a1 0 20 = 0
  · rw [if_pos h2, if_pos h2]; exact pf0 hR
  rw [if_neg h2, if_neg h2]
  obtain ⟨k, hk, rfl⟩ := p_range (n := 20) (by decide) h2
  obtain ⟨r, r', e1, e2, e3, e5, e4⟩ := p_bestAll hR (a := k) (by omega)
  unfold fX0_bestOfAll
  rw [e1, e2]
  simp only [Option.bind]
  have h := (p_orNone' (e4.r hR) (x := r.1) (by
    rcases e5 with q | ⟨j, hj, q⟩
    · exact Or.inr q
    · exact Or.inl ⟨j, by omega, q⟩)).then (e4.2.2.1.mono (by decide)) (e4.2.2.2.mono (by decide))
  rw [← e3]
  exact h.b
theorem p_bestDrive {σ τ : xM} (hR : pR σ τ) {b c : Nat} (hb : b < 8) (hc : c < 4) : ∃ r r', gX0_bestDrive_19 (Int32.ofNat c) (Int32.ofNat b) xfu (-1) 0 0 σ = some r ∧ gX13_drive_42 (Int32.ofNat c) (Int32.ofNat b) xfu (-1) 1000000 0 τ = some r' ∧ pBs r.1 r.2.1 r'.1 r'.2.1 ∧ pBx (14 + c) σ τ r.2.2.2 r'.2.2.2 := by
  obtain ⟨B, hB⟩ := hR.1.2
  have key := p_lock (G := fun n (s : Int32 × Int32 × Int32 × xM) => gX0_bestDrive_19 (Int32.ofNat c) (Int32.ofNat b) n s.1 s.2.1 s.2.2.1 s.2.2.2) (G' := fun n (s : Int32 × Int32 × Int32 × xM) => gX13_drive_42 (Int32.ofNat c) (Int32.ofNat b) n s.1 s.2.1 s.2.2.1 s.2.2.2)
    (fun k s s' => s.2.2.1 = Int32.ofNat k ∧ s'.2.2.1 = Int32.ofNat k ∧ k ≤ 64 ∧ pBs s.1 s.2.1 s'.1 s'.2.1 ∧ pBx (14 + c) σ τ s.2.2.2 s'.2.2.2) (Post := fun r r' => pBs r.1 r.2.1 r'.1 r'.2.1 ∧ pBx (14 + c) σ τ r.2.2.2 r'.2.2.2) 64 ?_ 0 (-1, 0, 0, σ) (-1, 1000000, 0, τ) ⟨rfl, rfl, Nat.zero_le _, ⟨rfl, Or.inl ⟨rfl, rfl⟩⟩, pBx.refl _ _ _⟩ xfu (by unfold xfu; omega)
  · exact key
  · rintro k n ⟨x, y, z, s⟩ ⟨x', y', z', t⟩ ⟨e1, e2, hk, h1, h2⟩
    dsimp only at e1 e2 hk h1 h2 ⊢
    subst e1 e2
    by_cases hkB : k = 64
    · right
      subst hkB
      refine ⟨(x, y, Int32.ofNat 64, s), (x', y', Int32.ofNat 64, t), ?_, ?_, h1, h2⟩
      · rw [gX0_bestDrive_19, if_pos (by decide)]
      · rw [gX13_drive_42, if_pos (by decide)]
    · left
      refine ⟨by omega, ?_⟩
      have hle : ¬ (64 : Int32) ≤ Int32.ofNat k := fun q => by have := (p_le (a := 64) (by omega) (by omega)).1 q; omega
      have hin : xin (Int32.ofNat c) 4 := (p_in (by omega)).2 (by omega)
      have h18 : (14 : Int32) + Int32.ofNat c = Int32.ofNat (14 + c) := p_add 14 c
      have hin2 : xin (Int32.ofNat (14 + c)) 186 := (p_in (by omega)).2 (by omega)
      rw [gX0_bestDrive_19, gX13_drive_42, if_neg hle, if_neg hle]
      simp only [if_pos hin, h18, if_pos hin2, p_nat (show c < 2 ^ 31 by omega), p_nat (show 14 + c < 2 ^ 31 by omega), p_s]
      obtain ⟨X, Y, s', t', d1, d2, d3, d4⟩ := p_try h2 hR.1.1 hR.2 (x := Int32.ofNat k) (hB.hunter c _ hc (Or.inr ⟨k, by omega, rfl⟩)) (a := 20) (by omega) hb
      have d1 : fX0_whenIs (xup s 0 (14 + c) (Int32.ofNat k)) (Int32.ofNat b) 20 = some (X, s') := d1
      have d2 : fX13_caughtIn (xup t 20 (14 + c) (Int32.ofNat k)) (Int32.ofNat b) 20 = some (Y, t') := d2
      rw [d1, d2]
      simp only [Option.bind]
      exact h1.step (a := 20) (by omega) d3 (c := k) (by omega) (fun u v => gX0_bestDrive_19 (Int32.ofNat c) (Int32.ofNat b) n u v (Int32.ofNat (k + 1)) s') (fun u v => gX13_drive_42 (Int32.ofNat c) (Int32.ofNat b) n u v (Int32.ofNat (k + 1)) t') (P := fun A A' => ∃ w w' : Int32 × Int32 × Int32 × xM, A = gX0_bestDrive_19 (Int32.ofNat c) (Int32.ofNat b) n w.1 w.2.1 w.2.2.1 w.2.2.2 ∧ A' = gX13_drive_42 (Int32.ofNat c) (Int32.ofNat b) n w'.1 w'.2.1 w'.2.2.1 w'.2.2.2 ∧ w.2.2.1 = Int32.ofNat (k + 1) ∧ w'.2.2.1 = Int32.ofNat (k + 1) ∧ k + 1 ≤ 64 ∧ pBs w.1 w.2.1 w'.1 w'.2.1 ∧ pBx (14 + c) σ τ w.2.2.2 w'.2.2.2)
          (fun u v u' v' hb => ⟨(u, v, Int32.ofNat (k + 1), s'), (u', v', Int32.ofNat (k + 1), t'), rfl, rfl, rfl, rfl, by omega, hb, d4⟩)
theorem p_drive {σ τ : xM} (hR : pR σ τ) (a1 a2 : Int32) : pOk (fX0_drive σ a1 a2) (fX13_drive τ a1 a2) σ τ := by
  unfold fX0_drive fX13_drive
  rw [p_isBell hR, show fX13_isHunter a1 = fX0_isHunter a1 from rfl]
  simp only [Option.bind]
  by_cases h2 : fX0_isHunter a1 = 0
  · rw [if_pos h2, if_pos h2]; exact pf0 hR
  rw [if_neg h2, if_neg h2]
  by_cases h1 : fX0_isBell σ a2 = 0
  · rw [if_pos h1, if_pos h1]; exact pf0 hR
  rw [if_neg h1, if_neg h1]
  obtain ⟨B, hB⟩ := hR.1.2
  obtain ⟨b, hb, hb8, rfl⟩ := p_bell_of hB h1
  obtain ⟨c, hc, rfl⟩ := p_range (n := 3) (by decide) h2
  obtain ⟨r, r', e1, e2, e3, e4⟩ := p_bestDrive hR hb8 (c := c) (by omega)
  have hin : xin (Int32.ofNat c) 4 := (p_in (by omega)).2 (by omega)
  have h18 : (14 : Int32) + Int32.ofNat c = Int32.ofNat (14 + c) := p_add 14 c
  have hin2 : xin (Int32.ofNat (14 + c)) 186 := (p_in (by omega)).2 (by omega)
  unfold fX0_bestDrive
  simp only [if_pos hin, h18, if_pos hin2, e1, e2, Option.bind, p_nat (show c < 2 ^ 31 by omega), p_nat (show 14 + c < 2 ^ 31 by omega)]
  have e5 := e4.home (x := σ 0 (14 + c)) (y := τ 20 (14 + c)) rfl rfl
  have h := (p_orNone' (e5.r hR) e3.end).then (e5.2.2.1.mono (by decide)) (e5.2.2.2.mono (by decide))
  rw [← e3.1]
  exact h.b
theorem p_minK : ∀ j, j ≤ 60 → fJ3_min 60 (Int32.ofNat j) = Int32.ofNat j := by decide +kernel
theorem p_bestKind {σ τ : xM} (hR : pR σ τ) {b : Nat} (hb : b < 8) : ∃ r r', gX0_bestKind_20 (Int32.ofNat b) xfu 0 (-1) 0 σ = some r ∧ gX13_kindFor_30 (Int32.ofNat b) xfu (-1) (-1) 0 τ = some r' ∧ r.1 = r'.1 ∧ pBx (146 + 5 * b) σ τ r.2.2.2 r'.2.2.2 := by
  obtain ⟨B, hB⟩ := hR.1.2
  have key := p_lock (G := fun n (s : Int32 × Int32 × Int32 × xM) => gX0_bestKind_20 (Int32.ofNat b) n s.1 s.2.1 s.2.2.1 s.2.2.2) (G' := fun n (s : Int32 × Int32 × Int32 × xM) => gX13_kindFor_30 (Int32.ofNat b) n s.1 s.2.1 s.2.2.1 s.2.2.2)
    (fun k s s' => s.2.2.1 = Int32.ofNat k ∧ s'.2.2.1 = Int32.ofNat k ∧ k ≤ 7 ∧ s.2.1 = s'.2.1 ∧ ((k = 0 ∧ s.2.1 = -1) ∨ s.1 = s'.1 ∧ 0 < k) ∧ pBx (146 + 5 * b) σ τ s.2.2.2 s'.2.2.2) (Post := fun r r' => r.1 = r'.1 ∧ pBx (146 + 5 * b) σ τ r.2.2.2 r'.2.2.2) 7 ?_ 0 (0, -1, 0, σ) (-1, -1, 0, τ) ⟨rfl, rfl, Nat.zero_le _, rfl, Or.inl ⟨rfl, rfl⟩, pBx.refl _ _ _⟩ xfu (by unfold xfu; omega)
  · exact key
  · rintro k n ⟨x, y, z, s⟩ ⟨x', y', z', t⟩ ⟨e1, e2, hk, e3, h1, h2⟩
    dsimp only at e1 e2 hk e3 h1 h2 ⊢
    subst e1 e2 e3
    by_cases hkB : k = 7
    · right
      subst hkB
      have h1 : x = x' := by
        rcases h1 with h | h
        · omega
        · exact h.1
      refine ⟨(x, y, Int32.ofNat 7, s), (x', y, Int32.ofNat 7, t), ?_, ?_, h1, h2⟩
      · rw [gX0_bestKind_20, if_pos (by decide)]
      · rw [gX13_kindFor_30, if_pos (by decide)]
    · left
      refine ⟨by omega, ?_⟩
      have hle : ¬ (7 : Int32) ≤ Int32.ofNat k := fun q => by have := (p_le (a := 7) (by omega) (by omega)).1 q; omega
      have hle2 : ¬ (6 : Int32) < Int32.ofNat k := fun q => by have := (p_lt (a := 6) (by omega) (by omega)).1 q; omega
      have hin : xin (Int32.ofNat b) 8 := (p_in (by omega)).2 (by omega)
      have h18 : fX13_at (Int32.ofNat b) 0 = Int32.ofNat (146 + 5 * b + 0) := p_at b 0
      have hin2 : xin (Int32.ofNat (146 + 5 * b)) 186 := (p_in (by omega)).2 (by omega)
      rw [gX0_bestKind_20, gX13_kindFor_30, if_neg hle, if_neg hle2]
      simp only [if_pos hin, h18, Nat.add_zero, if_pos hin2, p_nat (show b < 2 ^ 31 by omega), p_nat (show 146 + 5 * b < 2 ^ 31 by omega), p_s]
      obtain ⟨X, Y, s', t', d1, d2, d3, d4⟩ := p_try h2 hR.1.1 hR.2 (x := Int32.ofNat k) (hB.bell b 0 _ hb (by omega) (fun _ => ⟨k, by omega, rfl⟩) (by omega) (by omega) (by omega) (by omega)) (a := 60) (by omega) hb
      have d1 : fX0_whenIs (xup s 0 (146 + 5 * b) (Int32.ofNat k)) (Int32.ofNat b) 60 = some (X, s') := d1
      have d2 : fX13_caughtIn (xup t 20 (146 + 5 * b) (Int32.ofNat k)) (Int32.ofNat b) 60 = some (Y, t') := d2
      have d5 : ∃ j, j ≤ 60 ∧ fX0_freeFor (xup s 0 (146 + 5 * b) (Int32.ofNat k)) (Int32.ofNat b) = some (Int32.ofNat j, s') ∧ fJ3_min 60 Y = Int32.ofNat j := by
        unfold fX0_freeFor
        rw [d1]
        simp only [Option.bind]
        rcases d3 with ⟨j, hj, rfl, rfl⟩ | ⟨rfl, rfl⟩
        · exact ⟨j, hj, by rw [if_neg (p_ne1 _ (by omega))], p_minK j hj⟩
        · exact ⟨60, Nat.le_refl _, by rw [if_pos rfl]; rfl, by decide⟩
      obtain ⟨j, hj, d5, d6⟩ := d5
      rw [d5, d2]
      simp only [Option.bind, d6]
      by_cases q : Int32.ofNat j ≤ y
      · rw [if_pos q, if_pos q]
        refine ⟨(x, _, Int32.ofNat (k + 1), s'), (x', _, Int32.ofNat (k + 1), t'), rfl, rfl, rfl, rfl, by omega, rfl, Or.inr ⟨?_, by omega⟩, d4⟩
        rcases h1 with h | h
        · rw [h.2] at q
          exact absurd (Int32.le_trans (p_0le j (by omega)) q) (by decide)
        · exact h.1
      · rw [if_neg q, if_neg q]
        exact ⟨(_, _, Int32.ofNat (k + 1), s'), (_, _, Int32.ofNat (k + 1), t'), rfl, rfl, rfl, rfl, by omega, rfl, Or.inr ⟨rfl, by omega⟩, d4⟩
theorem p_kindFor {σ τ : xM} (hR : pR σ τ) (a1 : Int32) : pOk (fX0_kindFor σ a1) (fX13_kindFor τ a1) σ τ := by
  unfold fX0_kindFor fX13_kindFor
  rw [p_isBell hR]
  simp only [Option.bind]
  by_cases h1 : fX0_isBell σ a1 = 0
  · rw [if_pos h1, if_pos h1]; exact pf0 hR
  rw [if_neg h1, if_neg h1]
  obtain ⟨B, hB⟩ := hR.1.2
  obtain ⟨b, hb, hb8, rfl⟩ := p_bell_of hB h1
  obtain ⟨r, r', e1, e2, e3, e4⟩ := p_bestKind hR hb8
  have hin : xin (Int32.ofNat b) 8 := (p_in (by omega)).2 (by omega)
  have h18 : fX13_at (Int32.ofNat b) 0 = Int32.ofNat (146 + 5 * b + 0) := p_at b 0
  have hin2 : xin (Int32.ofNat (146 + 5 * b)) 186 := (p_in (by omega)).2 (by omega)
  have hbi : fX13_bellIs τ (Int32.ofNat b) 0 = some (σ 0 (146 + 5 * b)) := p_bellIs hR.1.1 (b := b) (f := 0) hb8 (by omega)
  unfold fX0_bestKind
  simp only [if_pos hin, h18, Nat.add_zero, if_pos hin2, e1, e2, hbi, Option.bind, p_nat (show b < 2 ^ 31 by omega), p_nat (show 146 + 5 * b < 2 ^ 31 by omega)]
  have e5 := e4.home (x := σ 0 (146 + 5 * b)) (y := σ 0 (146 + 5 * b)) rfl (hR.1.1 _ (by omega)).symm
  rw [e3]
  exact e5.ok hR _

theorem p_own57 : ∀ a b, xown a b = 57 → a = 8 := by
  intro a b h
  unfold xown at h
  by_cases ha : a < 4
  · exfalso
    rw [if_pos ha] at h
    have hwb : xwb a < 42 := by
      have : a = 0 ∨ a = 1 ∨ a = 2 ∨ a = 3 := by omega
      rcases this with rfl | rfl | rfl | rfl <;> decide
    by_cases h1 : b < 4
    · rw [if_pos h1] at h; omega
    rw [if_neg h1] at h
    by_cases h1 : b < 14
    · rw [if_pos h1] at h; omega
    rw [if_neg h1] at h
    by_cases h1 : b < 18
    · rw [if_pos h1] at h; omega
    rw [if_neg h1] at h
    by_cases h1 : b < 82
    · rw [if_pos h1] at h; omega
    rw [if_neg h1] at h
    by_cases h1 : b < 146
    · rw [if_pos h1] at h; omega
    rw [if_neg h1] at h
    omega
  rw [if_neg ha] at h
  by_cases h1 : a < 12
  · rw [if_pos h1] at h
    have : a = 4 ∨ a = 5 ∨ a = 6 ∨ a = 7 ∨ a = 8 ∨ a = 9 ∨ a = 10 ∨ a = 11 := by omega
    rcases this with rfl | rfl | rfl | rfl | rfl | rfl | rfl | rfl <;> simp at h <;> rfl
  exfalso
  rw [if_neg h1] at h
  by_cases h1 : a = 12
  · rw [if_pos h1] at h; omega
  rw [if_neg h1] at h
  by_cases h1 : a < 20
  · rw [if_pos h1] at h; omega
  rw [if_neg h1] at h
  by_cases h2 : a < 34
  · have : a = 20 ∨ a = 21 ∨ a = 22 ∨ a = 23 ∨ a = 24 ∨ a = 25 ∨ a = 26 ∨ a = 27 ∨ a = 28 ∨ a = 29 ∨ a = 30 ∨ a = 31 ∨ a = 32 ∨ a = 33 := by omega
    rcases this with rfl | rfl | rfl | rfl | rfl | rfl | rfl | rfl | rfl | rfl | rfl | rfl | rfl | rfl <;> simp at h
  · rw [List.getD_eq_getElem?_getD, List.getElem?_eq_none (by simp; omega)] at h
    simp at h
theorem p_cp57 (σ : xM) (g : Nat → Nat) : (∀ a b, a ≠ 8 → xcp σ 57 8 0 g a b = σ a b) ∧ ∀ b, b < 8 → xcp σ 57 8 0 g 8 b = σ 0 (g b) := by
  constructor
  · intro a b ha
    unfold xcp
    rw [if_neg (fun q => ha (p_own57 a b q.1))]
  · intro b hb
    unfold xcp
    have e1 : xown 8 b = 57 := rfl
    have e2 : xslt 8 b = b := rfl
    rw [if_pos ⟨e1, by rw [e2]; exact hb⟩, e2]
theorem p_asWere (σ : xM) {B : Nat} (hB8 : B ≤ 8) (hB : σ 0 2 = Int32.ofNat B) (x0 : Int32) (h0 : x0 = 0 ∨ x0 = 1) : ∃ r, gX0_areAsTheyWere_19 σ xfu x0 0 = some r ∧ ((r.1 = 1 ∧ x0 = 1 ∧ ∀ b, b < B → σ 8 b = σ 0 (146 + 5 * b + 1)) ∨ (r.1 = 0 ∧ ¬ (x0 = 1 ∧ ∀ b, b < B → σ 8 b = σ 0 (146 + 5 * b + 1)))) := by
  refine p_loop (G := fun n (s : Int32 × Int32) => gX0_areAsTheyWere_19 σ n s.1 s.2) (fun k s => s.2 = Int32.ofNat k ∧ k ≤ B ∧ ((s.1 = 1 ∧ x0 = 1 ∧ ∀ b, b < k → σ 8 b = σ 0 (146 + 5 * b + 1)) ∨ (s.1 = 0 ∧ ¬ (x0 = 1 ∧ ∀ b, b < k → σ 8 b = σ 0 (146 + 5 * b + 1)))))
    (Post := fun r => (r.1 = 1 ∧ x0 = 1 ∧ ∀ b, b < B → σ 8 b = σ 0 (146 + 5 * b + 1)) ∨ (r.1 = 0 ∧ ¬ (x0 = 1 ∧ ∀ b, b < B → σ 8 b = σ 0 (146 + 5 * b + 1)))) B ?_ 0 (x0, 0) ⟨rfl, Nat.zero_le _, ?_⟩ xfu (by unfold xfu; omega)
  · rintro k n ⟨x, y⟩ ⟨e1, hk, h⟩
    dsimp only at e1 hk h ⊢
    subst e1
    by_cases q : k = B
    · right
      subst q
      refine ⟨(x, Int32.ofNat k), ?_, h⟩
      rw [gX0_areAsTheyWere_19, hB, if_pos (Int32.le_refl _)]
    · left
      have hle : ¬ Int32.ofNat B ≤ Int32.ofNat k := fun q => by have := (p_le (by omega) (by omega)).1 q; omega
      have hin : xin (Int32.ofNat k) 8 := (p_in (by omega)).2 (by omega)
      refine ⟨by omega, ?_⟩
      rw [gX0_areAsTheyWere_19, hB, if_neg hle]
      simp only [if_pos hin, p_nat (show k < 2 ^ 31 by omega), p_s]
      rcases h with ⟨rfl, h1, h2⟩ | ⟨rfl, h1⟩
      · rw [if_neg (by decide)]
        by_cases q : σ 8 k = σ 0 (146 + 5 * k + 1)
        · rw [if_pos q]
          refine ⟨(1, Int32.ofNat (k + 1)), rfl, rfl, by omega, Or.inl ⟨rfl, h1, fun b hb => ?_⟩⟩
          by_cases q2 : b = k
          · rw [q2]; exact q
          · exact h2 b (by omega)
        · rw [if_neg q]
          exact ⟨(0, Int32.ofNat (k + 1)), rfl, rfl, by omega, Or.inr ⟨rfl, fun w => q (w.2 k (by omega))⟩⟩
      · rw [if_pos rfl]
        exact ⟨(0, Int32.ofNat (k + 1)), rfl, rfl, by omega, Or.inr ⟨rfl, fun w => h1 ⟨w.1, fun b hb => w.2 b (by omega)⟩⟩⟩
  · rcases h0 with rfl | rfl
    · exact Or.inr ⟨rfl, fun w => absurd w.1 (by decide)⟩
    · exact Or.inl ⟨rfl, rfl, fun b hb => by omega⟩
theorem p_stays {σ τ : xM} (hR : pRow σ 0 τ 20) {B : Nat} (hB : pWB B (σ 0)) {σ0 : xM} (hO : pO σ0 τ) : ∃ σ' τ', fX0_stays σ = some (if τ' 24 1 = 0 then 1 else 0, σ') ∧ fX13_hour τ = some τ' ∧ pRow σ' 0 τ' 20 ∧ pWB B (σ' 0) ∧ pF [0, 8] σ σ' ∧ pF [20] τ τ' := by
  obtain ⟨c1, c2⟩ := p_cp57 σ (fun j => 146 + 5 * j + 1)
  have r0 : xcp σ 57 8 0 (fun j => 146 + 5 * j + 1) 0 = σ 0 := by funext i; exact c1 0 i (by omega)
  obtain ⟨σ', τ', e1, e2, e3, e4, e5, e6, e7⟩ := p_hour (σ := xcp σ 57 8 0 (fun j => 146 + 5 * j + 1)) (by unfold pRow; rw [r0]; exact hR) (by rw [r0]; exact hB) hO
  have f5 : pF [0, 8] σ σ' := by
    intro v i hv q
    have hv0 : v ≠ 0 := fun w => hv (by rw [w]; decide)
    have hv8 : v ≠ 8 := fun w => hv (by rw [w]; decide)
    rw [e5 v i (fun w => hv0 (List.mem_singleton.1 w)) q]
    exact c1 v i hv8
  refine ⟨σ', τ', ?_, e2, e3, e4, f5, e6⟩
  have w8 : ∀ b, b < 8 → σ' 8 b = σ 0 (146 + 5 * b + 1) := fun b hb => by
    rw [e5 8 b (by decide) (by omega)]; exact c2 b hb
  have hwho : (pMask (σ' 0) B = pMask (σ 0) B ∧ ∀ b, b < B → σ' 8 b = σ' 0 (146 + 5 * b + 1)) ↔ τ' 24 1 = 0 := by
    have hB8 := hB.1
    unfold pMv at e7
    rw [r0] at e7
    rcases e7 with ⟨q1, q2⟩ | ⟨q1, b, hb, q2⟩
    · refine ⟨fun _ => q1, fun _ => ⟨pMask_congr B (fun b hb => q2 _ (by omega)), fun b hb => ?_⟩⟩
      rw [w8 b (by omega), q2 _ (by omega)]
    · refine ⟨fun ⟨a1, a2⟩ => ?_, fun w => ?_⟩
      · exfalso
        rcases q2 with q2 | q2
        · exact q2 ((a2 b hb).symm.trans (w8 b (by omega)))
        · have h1 := (pMask_inj B a1 b hb)
          obtain ⟨k1, hk1, f1⟩ := (e4.2.2.2.2.2.1 b (by omega)).2.2.2.2
          obtain ⟨k2, hk2, f2⟩ := (hB.2.2.2.2.2.1 b (by omega)).2.2.2.2
          rw [f1, f2] at h1 q2
          have g1 : (Int32.ofNat k1 = 1) ↔ k1 = 1 := p_eq (b := 1) (by omega) (by omega)
          have g2 : (Int32.ofNat k2 = 1) ↔ k2 = 1 := p_eq (b := 1) (by omega) (by omega)
          rw [g1, g2] at h1
          apply q2
          congr 1
          omega
      · rw [q1] at w; exact absurd w (by decide)
  unfold fX0_stays fX0_areAsTheyWere
  rw [p_whoC σ hB.1 hB.2.1]
  simp only [Option.bind]
  rw [e1]
  simp only
  rw [p_whoC σ' e4.1 e4.2.1]
  simp only
  have l1 := p_mask256 (f := σ' 0) hB.1
  have l2 := p_mask256 (f := σ 0) hB.1
  by_cases q : pMask (σ' 0) B = pMask (σ 0) B
  · rw [if_pos (by rw [q])]
    obtain ⟨r, d1, d2⟩ := p_asWere σ' e4.1 e4.2.1 1 (Or.inr rfl)
    rw [d1]
    simp only
    rcases d2 with ⟨d2, _, d3⟩ | ⟨d2, d3⟩
    · rw [d2]
      simp only
      rw [if_pos (by decide)]
      simp only
      rw [if_pos (by decide), if_pos (hwho.1 ⟨q, d3⟩)]
    · rw [d2]
      simp only
      rw [if_pos (by decide)]
      simp only
      rw [if_pos (by decide), if_neg (fun w => d3 ⟨rfl, (hwho.2 w).2⟩)]
  · rw [if_neg (fun w => q ((p_eq (by omega) (by omega)).1 w))]
    obtain ⟨r, d1, d2⟩ := p_asWere σ' e4.1 e4.2.1 0 (Or.inl rfl)
    rw [d1]
    simp only
    rcases d2 with ⟨d2, d3, _⟩ | ⟨d2, d3⟩
    · exact absurd d3 (by decide)
    · rw [d2]
      simp only
      rw [if_pos (by decide)]
      simp only
      rw [if_pos (by decide), if_neg (fun w => q (hwho.2 w).1)]
def pS2 (σ : xM) : Nat → xM
  | 0 => σ
  | k + 1 => ((fX0_stays (pS2 σ k)).map (fun r => r.2)).getD (pS2 σ k)
theorem p_seq2 {σ τ : xM} (hR : pRow σ 0 τ 20) {B : Nat} (hB : pWB B (σ 0)) {σ0 : xM} (hO : pO σ0 τ) (k : Nat) : pRow (pS2 σ k) 0 (pS1 τ k) 20 ∧ pWB B (pS2 σ k 0) ∧ pF [0, 8] σ (pS2 σ k) ∧ pF [20] τ (pS1 τ k) ∧ fX0_stays (pS2 σ k) = some (if pS1 τ (k + 1) 24 1 = 0 then 1 else 0, pS2 σ (k + 1)) ∧ fX13_hour (pS1 τ k) = some (pS1 τ (k + 1)) := by
  have step : ∀ k, pRow (pS2 σ k) 0 (pS1 τ k) 20 → pWB B (pS2 σ k 0) → pF [0, 8] σ (pS2 σ k) → pF [20] τ (pS1 τ k) → (fX0_stays (pS2 σ k) = some (if pS1 τ (k + 1) 24 1 = 0 then 1 else 0, pS2 σ (k + 1)) ∧ fX13_hour (pS1 τ k) = some (pS1 τ (k + 1))) ∧ pRow (pS2 σ (k + 1)) 0 (pS1 τ (k + 1)) 20 ∧ pWB B (pS2 σ (k + 1) 0) ∧ pF [0, 8] σ (pS2 σ (k + 1)) ∧ pF [20] τ (pS1 τ (k + 1)) := by
    intro k h1 h2 h3 h4
    obtain ⟨σ', τ', e1, e2, e3, e4, e5, e6⟩ := p_stays h1 h2 (hO.r h4 (by decide))
    have f1 : pS2 σ (k + 1) = σ' := by show ((fX0_stays (pS2 σ k)).map (fun r => r.2)).getD (pS2 σ k) = σ'; rw [e1]; rfl
    have f2 : pS1 τ (k + 1) = τ' := by show (fX13_hour (pS1 τ k)).getD (pS1 τ k) = τ'; rw [e2]; rfl
    rw [f1, f2]
    exact ⟨⟨e1, e2⟩, e3, e4, h3.trans e5, h4.trans e6⟩
  induction k with
  | zero =>
    have := step 0 hR hB (pF.refl _ _) (pF.refl _ _)
    exact ⟨hR, hB, pF.refl _ _, pF.refl _ _, this.1.1, this.1.2⟩
  | succ k ih =>
    have h1 := (step k ih.1 ih.2.1 ih.2.2.1 ih.2.2.2.1).2
    have h2 := step (k + 1) h1.1 h1.2.1 h1.2.2.1 h1.2.2.2
    exact ⟨h1.1, h1.2.1, h1.2.2.1, h1.2.2.2, h2.1.1, h2.1.2⟩
theorem p_still {σ τ : xM} (hR : pR σ τ) : pOk (fX0_still σ) (fX13_still τ) σ τ := by
  obtain ⟨B, hB⟩ := hR.1.2
  obtain ⟨s, t, e1, e2, e3, e4, e5, _, e6⟩ := p_trip hR.1.1 hB hR.2
  have hs := p_seq2 e3 e4 e5
  have key0 := p_loop (G := fun n (s : Int32 × xM) => gX0_stillBehind_13 n s.1 s.2) (fun k r => r = (Int32.ofNat k, pS2 s k) ∧ k ≤ 61 ∧ ∀ i, i < k → ¬ pS1 t (i + 1) 24 1 = 0)
    (Post := fun r => ∃ k j, r = (Int32.ofNat k, pS2 s j) ∧ k ≤ 61 ∧ (∀ i, i < k → ¬ pS1 t (i + 1) 24 1 = 0) ∧ (k ≤ 60 → pS1 t (k + 1) 24 1 = 0)) 61 ?_ 0 (0, s) ⟨rfl, Nat.zero_le _, fun i hi => by omega⟩ xfu (by unfold xfu; omega)
  have key1 := p_loop (G := fun n (s : Int32 × xM) => gX13_still_17 n s.1 s.2) (fun k r => r = (Int32.ofNat k, pS1 t (k + 1)) ∧ k ≤ 60 ∧ ∀ i, i < k → ¬ pS1 t (i + 1) 24 1 = 0)
    (Post := fun r => ∃ k, r = (Int32.ofNat k, pS1 t (k + 1)) ∧ k ≤ 60 ∧ (∀ i, i < k → ¬ pS1 t (i + 1) 24 1 = 0) ∧ (k < 60 → pS1 t (k + 1) 24 1 = 0)) 60 ?_ 0 (0, pS1 t 1) ⟨rfl, Nat.zero_le _, fun i hi => by omega⟩ xfu (by unfold xfu; omega)
  · obtain ⟨r, h1, k, j, rfl, hk, hk1, hk2⟩ := key0
    obtain ⟨r', g1, k', rfl, hk', hk1', hk2'⟩ := key1
    obtain ⟨s', t', j1, j2, j3⟩ := e6 _ _ (hs j).2.2.1 (hs (k' + 1)).2.2.2.1
    unfold fX0_still fX0_stillBehind fX13_still
    rw [e1, e2]
    simp only [Option.bind]
    rw [show gX0_stillBehind_13 xfu 0 s = _ from h1, show fX13_hour t = some (pS1 t 1) from (hs 0).2.2.2.2.2]
    simp only
    rw [show gX13_still_17 xfu 0 (pS1 t 1) = _ from g1]
    simp only
    rw [j1]
    simp only [j2]
    by_cases q : k ≤ 60
    · have e : k' = k := by
        have q1 := hk2 q
        by_cases q2 : k' < k
        · exact absurd (hk2' (by omega)) (hk1 k' q2)
        · by_cases q3 : k < k'
          · exact absurd q1 (hk1' k q3)
          · omega
      subst e
      rw [if_neg (fun w => by have := (p_lt (a := 60) (by omega) (by omega)).1 w; omega), if_pos (hk2 q)]
      exact ((p_orNone (j3.r hR) (Or.inl ⟨k', by omega, by omega, rfl, rfl⟩)).then (j3.2.2.1.mono (by decide)) (j3.2.2.2.mono (by decide))).b
    · have e : k = 61 := by omega
      have e' : k' = 60 := by
        by_cases q2 : k' < 60
        · exact absurd (hk2' q2) (hk1 k' (by omega))
        · omega
      subst e e'
      rw [if_pos (by decide), if_neg (hk1 60 (by omega))]
      exact ((p_orNone (j3.r hR) (Or.inr ⟨rfl, rfl⟩)).then (j3.2.2.1.mono (by decide)) (j3.2.2.2.mono (by decide))).b
  · rintro k n r ⟨rfl, hk, hi⟩
    dsimp only
    by_cases q : k = 60
    · right
      refine ⟨(Int32.ofNat k, pS1 t (k + 1)), ?_, k, rfl, hk, hi, fun w => by omega⟩
      rw [gX13_still_17, q, if_pos (by decide)]
    · have hle : ¬ (60 : Int32) ≤ Int32.ofNat k := fun q => by have := (p_le (a := 60) (by omega) (by omega)).1 q; omega
      rw [gX13_still_17, if_neg hle]
      by_cases q1 : pS1 t (k + 1) 24 1 = 0
      · right
        rw [if_pos q1]
        exact ⟨(Int32.ofNat k, pS1 t (k + 1)), rfl, k, rfl, hk, hi, fun _ => q1⟩
      · left
        refine ⟨by omega, (Int32.ofNat (k + 1), pS1 t (k + 1 + 1)), ?_, rfl, by omega, fun i hi2 => ?_⟩
        · rw [if_neg q1, (hs (k + 1)).2.2.2.2.2, p_s]
          rfl
        · by_cases q2 : i = k
          · rw [q2]; exact q1
          · exact hi i (by omega)
  · rintro k n r ⟨rfl, hk, hi⟩
    dsimp only
    by_cases q : k = 61
    · right
      refine ⟨(Int32.ofNat k, pS2 s k), ?_, k, k, rfl, hk, hi, fun w => by omega⟩
      rw [gX0_stillBehind_13, q, if_pos (by decide)]
    · have hle : ¬ (60 : Int32) < Int32.ofNat k := fun q => by have := (p_lt (a := 60) (by omega) (by omega)).1 q; omega
      rw [gX0_stillBehind_13, if_neg hle, (hs k).2.2.2.2.1]
      simp only [Option.bind]
      by_cases q1 : pS1 t (k + 1) 24 1 = 0
      · right
        rw [if_pos q1, if_neg (by decide)]
        exact ⟨(Int32.ofNat k, pS2 s (k + 1)), rfl, k, k + 1, rfl, hk, hi, fun _ => q1⟩
      · left
        refine ⟨by omega, (Int32.ofNat (k + 1), pS2 s (k + 1)), ?_, rfl, by omega, fun i hi2 => ?_⟩
        · rw [if_neg q1, if_pos rfl, p_s]
        · by_cases q2 : i = k
          · rw [q2]; exact q1
          · exact hi i (by omega)

