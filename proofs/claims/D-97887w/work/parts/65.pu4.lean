set_option maxRecDepth 100000
theorem p_worth {σ τ : xM} (hR : pR σ τ) (a1 a2 : Int32) : pOk (fX0_worth σ a1 a2) (fX13_worth τ a1 a2) σ τ := by
  unfold fX0_worth fX13_worth
  rw [p_isBell hR, show fX13_isCell a2 = fX0_isCell a2 from rfl]
  simp only [Option.bind]
  by_cases h1 : fX0_isBell σ a1 = 0
  · rw [if_pos h1, if_pos h1]; exact pf0 hR
  rw [if_neg h1, if_neg h1]
  by_cases h2 : fX0_isCell a2 = 0
  · rw [if_pos h2, if_pos h2]; exact pf0 hR
  rw [if_neg h2, if_neg h2]
  obtain ⟨B, hB⟩ := hR.1.2
  obtain ⟨b, hb, hb8, rfl⟩ := p_bell_of hB h1
  obtain ⟨c, hc, rfl⟩ := p_range (n := 63) (by decide) h2
  obtain ⟨r, e1, e2⟩ := p_worthOf hR.1.1 hB (a := c) (b := b) (by omega) hb8
  rw [e1, e2]
  exact pOk.q hR r
theorem p_loudC {σ τ : xM} (hR : pRow σ 0 τ 20) {b : Nat} (hb : b < 8) (a : Int32) : fX4_loud σ 0 (Int32.ofNat b) a = some (fX0_loudBy (σ 0 (146 + 5 * b + 3)) (fX0_apart (σ 0 (146 + 5 * b + 1)) a)) ∧ fX13_loudAt τ (Int32.ofNat b) a = some (fX0_loudBy (σ 0 (146 + 5 * b + 3)) (fX0_apart (σ 0 (146 + 5 * b + 1)) a)) := by
  constructor
  · unfold fX4_loud
    have e := (p_in (k := b) (n := 8) (by omega)).2 hb
    rw [if_pos e, if_pos e, p_nat (by omega)]
  · unfold fX13_loudAt
    have h3 : fX13_bellIs τ (Int32.ofNat b) 3 = some (σ 0 (146 + 5 * b + 3)) := p_bellIs hR hb (f := 3) (by omega)
    have h1 : fX13_bellIs τ (Int32.ofNat b) 1 = some (σ 0 (146 + 5 * b + 1)) := p_bellIs hR hb (f := 1) (by omega)
    rw [h3, h1]
    rfl
theorem p_loud {σ τ : xM} (hR : pR σ τ) (a1 a2 : Int32) : pOk (fX0_loud σ a1 a2) (fX13_loud τ a1 a2) σ τ := by
  unfold fX0_loud fX13_loud
  rw [p_isBell hR, show fX13_isCell a2 = fX0_isCell a2 from rfl]
  simp only [Option.bind]
  by_cases h1 : fX0_isBell σ a1 = 0
  · rw [if_pos h1, if_pos h1]; exact pf0 hR
  rw [if_neg h1, if_neg h1]
  by_cases h2 : fX0_isCell a2 = 0
  · rw [if_pos h2, if_pos h2]; exact pf0 hR
  rw [if_neg h2, if_neg h2]
  obtain ⟨B, hB⟩ := hR.1.2
  obtain ⟨b, hb, hb8, rfl⟩ := p_bell_of hB h1
  obtain ⟨e1, e2⟩ := p_loudC hR.1.1 hb8 a2
  rw [e1, e2]
  exact pOk.q hR _
/-- loops over the bells that only look -/
theorem p_bells {σ τ : xM} (hR : pRow σ 0 τ 20) {B : Nat} (hB : pWB B (σ 0)) {X : Type} (G : Nat → X → Int32 → Option (X × Int32)) (G' : Nat → X → Int32 → Option (X × Int32)) (f : Nat → X → X)
    (h0 : ∀ n x y, σ 0 2 ≤ y → G (n + 1) x y = some (x, y)) (h0' : ∀ n x y, τ 20 2 ≤ y → G' (n + 1) x y = some (x, y))
    (h1 : ∀ n x k, k < B → ¬ σ 0 2 ≤ Int32.ofNat k → G (n + 1) x (Int32.ofNat k) = G n (f k x) (Int32.ofNat (k + 1))) (h1' : ∀ n x k, k < B → ¬ τ 20 2 ≤ Int32.ofNat k → G' (n + 1) x (Int32.ofNat k) = G' n (f k x) (Int32.ofNat (k + 1))) (x0 : X) : ∃ r, G xfu x0 0 = some r ∧ G' xfu x0 0 = some r := by
  have hB8 := hB.1
  have e2 := hR 2 (by omega)
  obtain ⟨r, r', k1, k2, k3⟩ := p_lock (G := fun n (s : X × Int32) => G n s.1 s.2) (G' := fun n (s : X × Int32) => G' n s.1 s.2) (fun k s s' => s = s' ∧ s.2 = Int32.ofNat k ∧ k ≤ B) (Post := fun r r' => r = r') B (by
    rintro k n ⟨x, y⟩ s' ⟨rfl, e, hk⟩
    dsimp only at e ⊢
    subst e
    by_cases q : k = B
    · right
      subst q
      exact ⟨(x, Int32.ofNat k), (x, Int32.ofNat k), h0 n x _ (by rw [hB.2.1]; exact Int32.le_refl _), h0' n x _ (by rw [e2, hB.2.1]; exact Int32.le_refl _), rfl⟩
    · left
      have hle : ¬ Int32.ofNat B ≤ Int32.ofNat k := fun q => by have := (p_le (by omega) (by omega)).1 q; omega
      refine ⟨by omega, (f k x, Int32.ofNat (k + 1)), (f k x, Int32.ofNat (k + 1)), h1 n x k (by omega) (by rw [hB.2.1]; exact hle), h1' n x k (by omega) (by rw [e2, hB.2.1]; exact hle), rfl, rfl, by omega⟩) 0 (x0, 0) (x0, 0) ⟨rfl, rfl, Nat.zero_le _⟩ xfu (by unfold xfu; omega)
  subst k3
  exact ⟨r, k1, k2⟩
theorem p_two : ((2 : Int32).toNatClampNeg) = 2 := by decide
theorem p_heard {σ τ : xM} (hR : pRow σ 0 τ 20) {B : Nat} (hB : pWB B (σ 0)) (a : Int32) : ∃ r, fX4_heard σ 0 a = some r ∧ fX13_heardAt τ a = some r := by
  have hB8 := hB.1
  obtain ⟨r, e1, e2⟩ := p_bells hR hB (G := gX4_heard_4 σ 0 a) (G' := gX13_heardAt_4 τ a) (f := fun k x => if σ 0 (146 + 5 * k + 4) = 1 then x else fJ3_max x (fX0_loudBy (σ 0 (146 + 5 * k + 3)) (fX0_apart (σ 0 (146 + 5 * k + 1)) a)))
    (fun n x y h => by rw [gX4_heard_4, if_pos h]) (fun n x y h => by rw [gX13_heardAt_4, p_two, if_pos h])
    (fun n x k hk h => by
      rw [gX4_heard_4, if_neg h, p_caughtC (by omega), p_s]
      simp only [Option.bind]
      by_cases q : σ 0 (146 + 5 * k + 4) = 1
      · rw [if_pos q, if_neg (by decide), if_pos q]
      · rw [if_neg q, if_pos rfl, (p_loudC hR (by omega) a).1, if_neg q])
    (fun n x k hk h => by
      rw [gX13_heardAt_4, p_two, if_neg h, p_caughtM hR (by omega), p_s]
      simp only [Option.bind]
      by_cases q : σ 0 (146 + 5 * k + 4) = 1
      · rw [if_pos q, if_neg (by decide), if_pos q]
      · rw [if_neg q, if_pos rfl, (p_loudC hR (by omega) a).2, if_neg q]) 0
  refine ⟨r.1, ?_, ?_⟩
  · unfold fX4_heard; rw [e1]; rfl
  · unfold fX13_heardAt; rw [e2]; rfl
theorem p_manyAt {σ τ : xM} (hR : pRow σ 0 τ 20) {B : Nat} (hB : pWB B (σ 0)) (a : Int32) : ∃ r, fX4_manyAt σ 0 a = some r ∧ fX13_manyAt τ a = some r := by
  have hB8 := hB.1
  obtain ⟨r, e1, e2⟩ := p_bells hR hB (G := gX4_manyAt_4 σ 0 a) (G' := gX13_manyAt_4 τ a) (f := fun k x => if σ 0 (146 + 5 * k + 1) = a then x + 1 else x + 0)
    (fun n x y h => by rw [gX4_manyAt_4, if_pos h]) (fun n x y h => by rw [gX13_manyAt_4, p_two, if_pos h])
    (fun n x k hk h => by
      rw [gX4_manyAt_4, if_neg h, if_pos ((p_in (by omega)).2 (by omega)), p_nat (by omega), p_s]
      by_cases q : σ 0 (146 + 5 * k + 1) = a
      · rw [if_pos q, if_pos q]
      · rw [if_neg q, if_neg q])
    (fun n x k hk h => by
      have h1 : fX13_bellIs τ (Int32.ofNat k) 1 = some (σ 0 (146 + 5 * k + 1)) := p_bellIs hR (by omega) (f := 1) (by omega)
      rw [gX13_manyAt_4, p_two, if_neg h, h1, p_s]
      simp only [Option.bind]
      by_cases q : σ 0 (146 + 5 * k + 1) = a
      · rw [if_pos q, if_pos q]
      · rw [if_neg q, if_neg q]) 0
  refine ⟨r.1, ?_, ?_⟩
  · unfold fX4_manyAt; rw [e1]; rfl
  · unfold fX13_manyAt; rw [e2]; rfl
theorem p_weights0 {σ τ : xM} (hR : pRow σ 0 τ 20) {B : Nat} (hB : pWB B (σ 0)) : ∃ r, fX4_weights σ 0 0 = some r ∧ fX13_caughtWeight τ = some r := by
  have hB8 := hB.1
  obtain ⟨r, e1, e2⟩ := p_bells hR hB (G := gX4_weights_4 σ 0 0) (G' := gX13_caughtWeight_4 τ) (f := fun k x => if σ 0 (146 + 5 * k + 4) = 1 then x + σ 0 (146 + 5 * k + 3) else x + 0)
    (fun n x y h => by rw [gX4_weights_4, if_pos h]) (fun n x y h => by rw [gX13_caughtWeight_4, p_two, if_pos h])
    (fun n x k hk h => by
      rw [gX4_weights_4, if_neg h, if_pos rfl, p_caughtC (by omega), p_s]
      simp only [Option.bind, if_pos ((p_in (show k < 2 ^ 31 by omega)).2 (show k < 8 by omega)), p_nat (show k < 2 ^ 31 by omega)]
      by_cases q : σ 0 (146 + 5 * k + 4) = 1
      · rw [if_pos q, if_neg (by decide), if_pos q]
      · rw [if_neg q, if_pos rfl, if_neg q])
    (fun n x k hk h => by
      have h1 : fX13_bellIs τ (Int32.ofNat k) 3 = some (σ 0 (146 + 5 * k + 3)) := p_bellIs hR (by omega) (f := 3) (by omega)
      rw [gX13_caughtWeight_4, p_two, if_neg h, p_caughtM hR (by omega), h1, p_s]
      simp only [Option.bind]
      by_cases q : σ 0 (146 + 5 * k + 4) = 1
      · rw [if_pos q, if_neg (by decide), if_pos q]
      · rw [if_neg q, if_pos rfl, if_neg q]) 0
  refine ⟨r.1, ?_, ?_⟩
  · unfold fX4_weights; rw [e1]; rfl
  · unfold fX13_caughtWeight; rw [e2]; rfl
theorem p_weights1 {σ τ : xM} (hR : pRow σ 0 τ 20) {B : Nat} (hB : pWB B (σ 0)) : ∃ r, fX4_weights σ 0 1 = some r.1 ∧ gX13_count_77 τ xfu 0 0 = some r := by
  have hB8 := hB.1
  obtain ⟨r, e1, e2⟩ := p_bells hR hB (G := gX4_weights_4 σ 0 1) (G' := gX13_count_77 τ) (f := fun k x => x + σ 0 (146 + 5 * k + 3))
    (fun n x y h => by rw [gX4_weights_4, if_pos h]) (fun n x y h => by rw [gX13_count_77, p_two, if_pos h])
    (fun n x k hk h => by
      rw [gX4_weights_4, if_neg h, if_neg (by decide), if_pos ((p_in (by omega)).2 (by omega)), p_nat (by omega), p_s])
    (fun n x k hk h => by
      have h1 : fX13_bellIs τ (Int32.ofNat k) 3 = some (σ 0 (146 + 5 * k + 3)) := p_bellIs hR (by omega) (f := 3) (by omega)
      rw [gX13_count_77, p_two, if_neg h, h1, p_s]
      rfl) 0
  refine ⟨r, ?_, e2⟩
  unfold fX4_weights; rw [e1]; rfl
theorem p_nets {σ τ : xM} (hR : pRow σ 0 τ 20) : ∃ r, fX4_nets σ 0 = some r ∧ fX13_nets τ = some r := by
  obtain ⟨r, r', k1, k2, k3⟩ := p_lock (G := fun n (s : Int32 × Int32) => gX4_nets_15 σ 0 64 n s.1 s.2) (G' := fun n (s : Int32 × Int32) => gX13_nets_4 τ n s.1 s.2) (fun k s s' => s = s' ∧ s.2 = Int32.ofNat k ∧ k ≤ 64) (Post := fun r r' => r = r') 64 (by
    rintro k n ⟨x, y⟩ s' ⟨rfl, e, hk⟩
    dsimp only at e ⊢
    subst e
    by_cases q : k = 64
    · right
      subst q
      exact ⟨(x, Int32.ofNat 64), (x, Int32.ofNat 64), by rw [gX4_nets_15, if_pos (by decide)], by rw [gX13_nets_4, if_pos (by decide)], rfl⟩
    · left
      have hle : ¬ (64 : Int32) ≤ Int32.ofNat k := fun q => by have := (p_le (a := 64) (by omega) (by omega)).1 q; omega
      refine ⟨by omega, (x + σ 0 (18 + k), Int32.ofNat (k + 1)), (x + σ 0 (18 + k), Int32.ofNat (k + 1)), ?_, ?_, rfl, rfl, by omega⟩
      · rw [gX4_nets_15, if_neg hle, if_pos ((p_in (by omega)).2 (by omega)), p_nat (by omega), p_s]
      · rw [gX13_nets_4, if_neg hle, show (18 : Int32) + Int32.ofNat k = Int32.ofNat (18 + k) from p_add 18 k, if_pos ((p_in (by omega)).2 (by omega)), p_nat (by omega), p_s, hR _ (by omega)]) 0 (0, 0) (0, 0) ⟨rfl, rfl, Nat.zero_le _⟩ xfu (by unfold xfu; omega)
  subst k3
  refine ⟨r.1, ?_, ?_⟩
  · unfold fX4_nets; rw [k1]; rfl
  · unfold fX13_nets; rw [k2]; rfl
theorem p_cell {σ τ : xM} (hR : pR σ τ) (a1 a2 : Int32) : pOk (fX0_cell σ a1 a2) (fX13_cell τ a1 a2) σ τ := by
  obtain ⟨B, hB⟩ := hR.1.2
  unfold fX0_cell fX13_cell
  rw [show fX13_isCell a1 = fX0_isCell a1 from rfl, show fX13_within a2 0 3 = fX0_in a2 0 3 from rfl]
  by_cases h1 : fX0_isCell a1 = 0
  · rw [if_pos h1, if_pos h1]; exact pf0 hR
  rw [if_neg h1, if_neg h1]
  by_cases h2 : fX0_in a2 0 3 = 0
  · have q0 : ¬ a2 = 0 := fun q => by rw [q] at h2; exact absurd h2 (by decide)
    have q1 : ¬ a2 = 1 := fun q => by rw [q] at h2; exact absurd h2 (by decide)
    have q2 : ¬ a2 = 2 := fun q => by rw [q] at h2; exact absurd h2 (by decide)
    have q3 : ¬ a2 = 3 := fun q => by rw [q] at h2; exact absurd h2 (by decide)
    rw [if_pos h2, if_neg q0, if_neg q1, if_neg q2, if_neg q3]; exact pf0 hR
  rw [if_neg h2]
  obtain ⟨c, hc, rfl⟩ := p_range (n := 63) (by decide) h1
  have hin : xin (Int32.ofNat c) 64 := (p_in (by omega)).2 (by omega)
  have h18 : (18 : Int32) + Int32.ofNat c = Int32.ofNat (18 + c) := p_add 18 c
  have h82 : (82 : Int32) + Int32.ofNat c = Int32.ofNat (82 + c) := p_add 82 c
  have hin18 : xin (Int32.ofNat (18 + c)) 186 := (p_in (by omega)).2 (by omega)
  have hin82 : xin (Int32.ofNat (82 + c)) 186 := (p_in (by omega)).2 (by omega)
  by_cases q0 : a2 = 0
  · subst q0
    rw [if_pos rfl, if_pos rfl, if_pos (by decide : xin (0 : Int32) 2), if_pos hin, h18, if_pos hin18, p_nat (show 18 + c < 2 ^ 31 by omega), p_nat (show c < 2 ^ 31 by omega), show (0 : Int32).toNatClampNeg = 0 from by decide, hR.1.1 _ (by omega)]
    exact pOk.q hR _
  rw [if_neg q0, if_neg q0]
  by_cases q1 : a2 = 1
  · subst q1
    rw [if_pos rfl, if_pos rfl, if_pos (by decide : xin (1 : Int32) 2), if_pos hin, h82, if_pos hin82, p_nat (show 82 + c < 2 ^ 31 by omega), p_nat (show c < 2 ^ 31 by omega), show (1 : Int32).toNatClampNeg = 1 from by decide, hR.1.1 _ (by omega)]
    exact pOk.q hR _
  rw [if_neg q1, if_neg q1]
  by_cases q2 : a2 = 2
  · obtain ⟨r, e1, e2⟩ := p_heard hR.1.1 hB (Int32.ofNat c)
    rw [if_pos q2, if_pos q2, e1, e2]
    exact pOk.q hR _
  rw [if_neg q2, if_neg q2]
  by_cases q3 : a2 = 3
  · obtain ⟨r, e1, e2⟩ := p_manyAt hR.1.1 hB (Int32.ofNat c)
    rw [if_pos q3, e1, e2]
    exact pOk.q hR _
  · exfalso
    obtain ⟨k, hk, rfl⟩ := p_range (n := 3) (by decide) h2
    have : k = 0 ∨ k = 1 ∨ k = 2 ∨ k = 3 := by omega
    rcases this with rfl | rfl | rfl | rfl
    · exact q0 rfl
    · exact q1 rfl
    · exact q2 rfl
    · exact q3 rfl
theorem p_now {σ τ : xM} (hR : pR σ τ) (a1 : Int32) : pOk (fX0_now σ a1) (fX13_now τ a1) σ τ := by
  obtain ⟨B, hB⟩ := hR.1.2
  have h0' : ((0 : Int32).toNatClampNeg) = 0 := by decide
  have h1' : ((1 : Int32).toNatClampNeg) = 1 := by decide
  unfold fX0_now fX13_now
  rw [h0', h1', hR.1.1 0 (by omega), hR.1.1 1 (by omega)]
  by_cases q : a1 = 0
  · rw [if_pos q, if_pos q]; exact pOk.q hR _
  rw [if_neg q, if_neg q]
  by_cases q : a1 = 1
  · rw [if_pos q, if_pos q, p_whoC σ hB.1 hB.2.1, p_whoM hR.1.1 hB.1 hB.2.1]; exact pOk.q hR _
  rw [if_neg q, if_neg q]
  by_cases q : a1 = 2
  · obtain ⟨r, e1, e2⟩ := p_nets hR.1.1
    rw [if_pos q, if_pos q, e1, e2]; exact pOk.q hR _
  rw [if_neg q, if_neg q]
  by_cases q : a1 = 3
  · rw [if_pos q, if_pos q]; exact pOk.q hR _
  rw [if_neg q, if_neg q]
  by_cases q : a1 = 4
  · obtain ⟨r, e1, e2⟩ := p_weights0 hR.1.1 hB
    rw [if_pos q, if_pos q, e1, e2]; exact pOk.q hR _
  rw [if_neg q, if_neg q]
  exact pf0 hR
theorem p_holding {σ τ : xM} (hR : pRow σ 0 τ 20) {B : Nat} (hB : pWB B (σ 0)) : ∃ r, fX0_holding σ = some r.1 ∧ gX13_count_118 τ xfu 0 0 = some r := by
  have hB8 := hB.1
  obtain ⟨r, r', k1, k2, k3⟩ := p_lock (G := fun n (s : Int32 × Int32) => gX0_holding_16 σ 10 n s.1 s.2) (G' := fun n (s : Int32 × Int32) => gX13_count_118 τ n s.1 s.2) (fun k s s' => s = s' ∧ s.2 = Int32.ofNat k ∧ k ≤ 10) (Post := fun r r' => r = r') 10 (by
    rintro k n ⟨x, y⟩ s' ⟨rfl, e, hk⟩
    dsimp only at e ⊢
    subst e
    by_cases q : k = 10
    · right
      subst q
      exact ⟨(x, Int32.ofNat 10), (x, Int32.ofNat 10), by rw [gX0_holding_16, if_pos (by decide)], by rw [gX13_count_118, if_pos (by decide)], rfl⟩
    · left
      have hle : ¬ (10 : Int32) ≤ Int32.ofNat k := fun q => by have := (p_le (a := 10) (by omega) (by omega)).1 q; omega
      refine ⟨by omega, ?_⟩
      rw [gX0_holding_16, gX13_count_118, if_neg hle, if_neg hle, show (4 : Int32) + Int32.ofNat k = Int32.ofNat (4 + k) from p_add 4 k, if_pos ((p_in (by omega)).2 (by omega)), if_pos ((p_in (by omega)).2 (by omega)), p_nat (by omega), p_nat (by omega), p_s, hR _ (by omega)]
      rcases hB.2.2.2.2.1 k (by omega) with q | ⟨c, hc, q⟩
      · rw [q, if_pos rfl, if_neg (by decide)]
        exact ⟨(x + 0, Int32.ofNat (k + 1)), (x + 0, Int32.ofNat (k + 1)), rfl, rfl, rfl, rfl, by omega⟩
      · rw [q, if_neg (p_ne1 _ (by omega)), if_pos (p_0le _ (by omega))]
        exact ⟨(x + 1, Int32.ofNat (k + 1)), (x + 1, Int32.ofNat (k + 1)), rfl, rfl, rfl, rfl, by omega⟩) 0 (0, 0) (0, 0) ⟨rfl, rfl, Nat.zero_le _⟩ xfu (by unfold xfu; omega)
  subst k3
  refine ⟨r, ?_, k2⟩
  unfold fX0_holding; rw [k1]; rfl
theorem p_count {σ τ : xM} (hR : pR σ τ) (a1 : Int32) : pOk (fX0_count σ a1) (fX13_count τ a1) σ τ := by
  obtain ⟨B, hB⟩ := hR.1.2
  have h0' : ((0 : Int32).toNatClampNeg) = 0 := by decide
  have h3' : ((3 : Int32).toNatClampNeg) = 3 := by decide
  unfold fX0_count fX13_count
  rw [h0', p_two, h3', hR.1.1 0 (by omega), hR.1.1 2 (by omega), hR.1.1 3 (by omega), hR.2.2.1.1]
  by_cases q : a1 = 0
  · rw [if_pos q, if_pos q]; exact pOk.q hR _
  rw [if_neg q, if_neg q]
  by_cases q : a1 = 1
  · rw [if_pos q, if_pos q]; exact pOk.q hR _
  rw [if_neg q, if_neg q]
  by_cases q : a1 = 2
  · rw [if_pos q, if_pos q, p_whoC σ hB.1 hB.2.1, p_whoM hR.1.1 hB.1 hB.2.1]
    simp only [Option.bind]
    rw [p_bitsK _ (Nat.lt_trans (p_mask256 hB.1) (by decide))]
    exact pOk.q hR _
  rw [if_neg q, if_neg q]
  by_cases q : a1 = 3
  · obtain ⟨r, e1, e2⟩ := p_nets hR.1.1
    rw [if_pos q, if_pos q, e1, e2]; exact pOk.q hR _
  rw [if_neg q, if_neg q]
  by_cases q : a1 = 4
  · obtain ⟨r, e1, e2⟩ := p_weights1 hR.1.1 hB
    rw [if_pos q, if_pos q, e1, e2]; exact pOk.q hR _
  rw [if_neg q, if_neg q]
  by_cases q : a1 = 5
  · rw [if_pos q, if_pos q]; exact pOk.q hR _
  rw [if_neg q, if_neg q]
  by_cases q : a1 = 6
  · rw [if_pos q, if_pos q]; exact pOk.q hR _
  rw [if_neg q, if_neg q]
  by_cases q : a1 = 7
  · obtain ⟨r, e1, e2⟩ := p_holding hR.1.1 hB
    rw [if_pos q, if_pos q, e1, e2]; exact pOk.q hR _
  rw [if_neg q, if_neg q]
  exact pf0 hR
theorem p_status {σ τ : xM} (hR : pR σ τ) (a1 : Int32) : pOk (fX0_status σ a1) (fX13_status τ a1) σ τ := by
  unfold fX0_status fX13_status
  rw [show fX13_within a1 (-1) 6 = fX0_in a1 (-1) 6 from rfl]
  by_cases h1 : fX0_in a1 (-1) 6 = 0
  · rw [if_pos h1, if_pos h1]; exact pf0 hR
  rw [if_neg h1, if_neg h1]
  obtain ⟨f1, f2⟩ := hR.2.2.2.1
  have st : ∀ b : Int32, ∀ x : Int32, gX0_status_20 σ b xfu x 0 = some ((((((((x + (if b = -1 ∨ b = 0 then σ 7 0 else 0)) + (if b = -1 ∨ b = 1 then σ 7 1 else 0)) + (if b = -1 ∨ b = 2 then σ 7 2 else 0)) + (if b = -1 ∨ b = 3 then σ 7 3 else 0)) + (if b = -1 ∨ b = 4 then σ 7 4 else 0)) + (if b = -1 ∨ b = 5 then σ 7 5 else 0)) + (if b = -1 ∨ b = 6 then σ 7 6 else 0)), 7) := by
    intro b x
    have one : ∀ k, k < 7 → ∀ n x, gX0_status_20 σ b (n + 1) x (Int32.ofNat k) = gX0_status_20 σ b n (x + (if b = -1 ∨ b = Int32.ofNat k then σ 7 k else 0)) (Int32.ofNat (k + 1)) := by
      intro k hk n x
      have hle : ¬ (7 : Int32) ≤ Int32.ofNat k := fun q => by have := (p_le (a := 7) (by omega) (by omega)).1 q; omega
      have hin := (p_in (k := k) (n := 7) (by omega)).2 hk
      rw [gX0_status_20, if_neg hle]
      simp only [if_pos hin, p_nat (show k < 2 ^ 31 by omega), p_s]
      by_cases q1 : b = -1
      · rw [if_pos q1, if_pos (Or.inl q1)]
      · rw [if_neg q1]
        by_cases q2 : b = Int32.ofNat k
        · rw [if_pos q2, if_pos (Or.inr q2)]
        · rw [if_neg q2, if_neg (fun w => w.elim q1 q2)]
    show gX0_status_20 σ b (1992 + 1 + 1 + 1 + 1 + 1 + 1 + 1 + 1) x (Int32.ofNat 0) = _
    rw [one 0 (by omega), one 1 (by omega), one 2 (by omega), one 3 (by omega), one 4 (by omega), one 5 (by omega), one 6 (by omega), gX0_status_20, if_pos (by decide)]
    rfl
  rcases p_rangeN (n := 6) (by decide) h1 with rfl | ⟨k, hk, rfl⟩
  · rw [st, if_pos (by decide : xin ((-1 : Int32) + 1) 8), show ((-1 : Int32) + 1).toNatClampNeg = 0 from by decide, f2]
    simp only [true_or, if_true, Option.bind]
    rw [show (0 : Int32) + σ 7 0 = σ 7 0 from by simp]
    exact pOk.q hR _
  · rw [st, p_s, if_pos ((p_in (by omega)).2 (by omega)), p_nat (by omega), f1 k (by omega)]
    have e : (((((((((0 : Int32) + (if Int32.ofNat k = -1 ∨ Int32.ofNat k = 0 then σ 7 0 else 0)) + (if Int32.ofNat k = -1 ∨ Int32.ofNat k = 1 then σ 7 1 else 0)) + (if Int32.ofNat k = -1 ∨ Int32.ofNat k = 2 then σ 7 2 else 0)) + (if Int32.ofNat k = -1 ∨ Int32.ofNat k = 3 then σ 7 3 else 0)) + (if Int32.ofNat k = -1 ∨ Int32.ofNat k = 4 then σ 7 4 else 0)) + (if Int32.ofNat k = -1 ∨ Int32.ofNat k = 5 then σ 7 5 else 0)) + (if Int32.ofNat k = -1 ∨ Int32.ofNat k = 6 then σ 7 6 else 0))) = σ 7 k := by
      have : k = 0 ∨ k = 1 ∨ k = 2 ∨ k = 3 ∨ k = 4 ∨ k = 5 ∨ k = 6 := by omega
      rcases this with rfl | rfl | rfl | rfl | rfl | rfl | rfl <;> simp <;> rfl
    rw [e]
    exact pOk.q hR _

theorem p_hold {σ τ : xM} (hR : pR σ τ) (a1 a2 : Int32) : pOk (fX0_hold σ a1 a2) (fX13_hold τ a1 a2) σ τ := by
  obtain ⟨B, hB⟩ := hR.1.2
  unfold fX0_hold fX13_hold
  rw [p_isBell hR, show fX13_isSpot a1 = fX0_isSpot a1 from rfl]
  simp only [Option.bind]
  by_cases h1 : fX0_isSpot a1 = 0
  · rw [if_pos h1, if_pos h1]; exact pf0 hR
  rw [if_neg h1, if_neg h1]
  obtain ⟨c, hc, rfl⟩ := p_range (n := 9) (by decide) h1
  have hin : xin (Int32.ofNat c) 10 := (p_in (by omega)).2 (by omega)
  have h4 : (4 : Int32) + Int32.ofNat c = Int32.ofNat (4 + c) := p_add 4 c
  have hin4 : xin (Int32.ofNat (4 + c)) 186 := (p_in (by omega)).2 (by omega)
  rw [if_pos hin, h4, if_pos hin4, p_nat (show 4 + c < 2 ^ 31 by omega), p_nat (show c < 2 ^ 31 by omega)]
  by_cases h2 : a2 = -1
  · rw [if_pos h2, if_pos h2]
    exact pOk.now hR _ (4 + c) _ (hB.spot c _ (by omega) (Or.inl h2))
  rw [if_neg h2, if_neg h2]
  by_cases h3 : fX0_isBell σ a2 = 0
  · rw [if_pos h3, if_pos h3]; exact pf0 hR
  rw [if_neg h3, if_neg h3]
  obtain ⟨b, hb, hb8, rfl⟩ := p_bell_of hB h3
  exact pOk.now hR _ (4 + c) _ (hB.spot c _ (by omega) (Or.inr ⟨b, hb, rfl⟩))
/-- the tape's and the kept field's scalars -/
theorem p_wipe {σ τ : xM} (hR : pR σ τ) : pOk (fX0_wipe σ) (fX13_wipe τ) σ τ := by
  unfold fX0_wipe fX13_wipe
  obtain ⟨hn, h1, h2, h3, h4, h5⟩ := hR
  rw [h2.1]
  refine ⟨_, _, _, rfl, rfl, ⟨⟨fun i hi => hn.1 i hi, hn.2⟩, ⟨by rw [xup_n (by omega), xup_n (by omega)]; exact h1.1, ?_⟩, ⟨by rw [xup_s, xup_s], by rw [xup_s]; exact ⟨0, by omega, rfl⟩, h2.2.2⟩, h3, h4, h5⟩, (pF.refl _ _).up _ _ _ (by decide), (pF.refl _ _).up _ _ _ (by decide)⟩
  rw [xup_n (by omega)]
  exact h1.2
theorem p_tear {σ τ : xM} (hR : pR σ τ) : pOk (fX0_tear σ) (fX13_tear τ) σ τ := by
  unfold fX0_tear fX13_tear
  have key : pR (xup σ 6 1 0) (xup τ 24 0 0) := by
    obtain ⟨hn, h1, h2, h3, h4, h5⟩ := hR
    refine ⟨⟨fun i hi => hn.1 i hi, hn.2⟩, ⟨by rw [xup_s, xup_s], Or.inl (xup_s _ _ _ _)⟩, ⟨by rw [xup_n (by omega), xup_n (by omega)]; exact h2.1, by rw [xup_n (by omega)]; exact h2.2.1, h2.2.2⟩, h3, h4, h5⟩
  rw [hR.2.1.1]
  by_cases q : σ 6 1 = 0
  · rw [if_pos q, if_pos q]
    exact ⟨_, _, _, rfl, rfl, key, (pF.refl _ _).up _ _ _ (by decide), (pF.refl _ _).up _ _ _ (by decide)⟩
  · rw [if_neg q, if_neg q]
    exact ⟨_, _, _, rfl, rfl, key, (pF.refl _ _).up _ _ _ (by decide), (pF.refl _ _).up _ _ _ (by decide)⟩
theorem p_image {σ τ : xM} (hR : pR σ τ) : pOk (fX0_image σ) (fX13_image τ) σ τ := by
  obtain ⟨B, hB⟩ := hR.1.2
  obtain ⟨s, e1, f1, g1⟩ := p_becomeC σ (w := 1) (w1 := 0) (by omega) (by omega)
  obtain ⟨t, e2, f2, g2⟩ := p_copyRow τ (v0 := 20) (v1 := 21) (by omega)
  unfold fX0_image fX13_image
  rw [e1, e2]
  have a0 : ∀ v i, v ≠ 1 → v ≠ 24 → s v i = σ v i := fun v i h h' => f1 v i (fun w => h (List.mem_singleton.1 w)) (fun w => absurd w h')
  have b0 : ∀ v i, v ≠ 21 → v ≠ 24 → t v i = τ v i := fun v i h h' => f2 v i (fun w => h (List.mem_singleton.1 w)) (fun w => absurd w h')
  have b2 : t 24 2 = τ 24 2 := f2 24 2 (by decide) (by omega)
  have s0 : s 0 = σ 0 := by funext i; exact a0 0 i (by omega) (by omega)
  have s5 : s 5 = σ 5 := by funext i; exact a0 5 i (by omega) (by omega)
  have s6 : s 6 = σ 6 := by funext i; exact a0 6 i (by omega) (by omega)
  have s7 : s 7 = σ 7 := by funext i; exact a0 7 i (by omega) (by omega)
  have s13 : s 13 = σ 13 := by funext i; exact a0 13 i (by omega) (by omega)
  have s14 : s 14 = σ 14 := by funext i; exact a0 14 i (by omega) (by omega)
  have s15 : s 15 = σ 15 := by funext i; exact a0 15 i (by omega) (by omega)
  have t20 : t 20 = τ 20 := by funext i; exact b0 20 i (by omega) (by omega)
  have t23 : t 23 = τ 23 := by funext i; exact b0 23 i (by omega) (by omega)
  have t26 : t 26 = τ 26 := by funext i; exact b0 26 i (by omega) (by omega)
  have t28 : t 28 = τ 28 := by funext i; exact b0 28 i (by omega) (by omega)
  have t29 : t 29 = τ 29 := by funext i; exact b0 29 i (by omega) (by omega)
  have t30 : t 30 = τ 30 := by funext i; exact b0 30 i (by omega) (by omega)
  have t32 : t 32 = τ 32 := by funext i; exact b0 32 i (by omega) (by omega)
  have t33 : t 33 = τ 33 := by funext i; exact b0 33 i (by omega) (by omega)
  obtain ⟨hn, h1, h2, h3, h4, h5⟩ := hR
  refine ⟨_, _, _, rfl, rfl, ⟨⟨?_, B, ?_⟩, ⟨by rw [xup_s, xup_s], Or.inr ⟨xup_s _ _ _ _, ?_, B, ?_⟩⟩, ⟨?_, ?_, ?_⟩, ?_, ?_, ?_⟩, (f1.mono (by decide)).up _ _ _ (by decide), (f2.mono (by decide)).up _ _ _ (by decide)⟩
  · intro i hi
    rw [xup_row' (by decide), xup_row' (by decide), s0, t20]
    exact hn.1 i hi
  · rw [xup_row' (by decide), s0]; exact hB
  · intro i hi
    rw [xup_row' (by decide), xup_row' (by decide), g1 i hi, g2 i hi]
    exact hn.1 i hi
  · rw [xup_row' (by decide)]; exact hB.congr g1
  · rw [xup_n (by omega), xup_n (by omega), b2, s6]; exact h2.1
  · rw [xup_n (by omega), s6]; exact h2.2.1
  · rw [xup_row' (by decide), xup_row' (by decide), t26, s5]; exact h2.2.2
  · rw [xup_row' (by decide), xup_row' (by decide), t23, s7]; exact h3
  · rw [xup_row' (by decide), xup_row' (by decide), xup_row' (by decide), xup_row' (by decide), xup_row' (by decide), xup_row' (by decide), t28, t29, t30, s13, s14, s15]; exact h4
  · rw [xup_row' (by decide), xup_row' (by decide), t32, t33]; exact h5
theorem p_undo {σ τ : xM} (hR : pR σ τ) : pOk (fX0_undo σ) (fX13_undo τ) σ τ := by
  have h0' : ((0 : Int32).toNatClampNeg) = 0 := by decide
  unfold fX0_undo fX13_undo
  rw [hR.2.1.1, h0']
  by_cases q : σ 6 1 = 0
  · rw [if_pos q, if_pos q]; exact pf3 hR
  rw [if_neg q, if_neg q]
  obtain ⟨_, k2, B, k3⟩ := hR.2.1.2.resolve_left q
  obtain ⟨s, e1, f1, g1⟩ := p_becomeC σ (w := 0) (w1 := 1) (by omega) (by omega)
  obtain ⟨t, e2, f2, g2⟩ := p_copyRow τ (v0 := 21) (v1 := 20) (by omega)
  rw [e1, e2]
  have row : pRow s 0 t 20 := fun i hi => by rw [g1 i hi, g2 i hi]; exact k2 i hi
  simp only [Option.bind]
  rw [row 0 (by omega)]
  exact ⟨_, _, _, rfl, rfl, hR.mk row (k3.congr g1) f1 f2 (by decide) (by decide), f1.mono (by decide), f2.mono (by decide)⟩
theorem p_min (a b : Int32) : fJ3_min a b = fJ3_min b a := by
  unfold fJ3_min
  by_cases h : b < a
  · rw [if_pos h, if_neg (Int32.not_lt.2 (Int32.le_of_lt h))]
  · rw [if_neg h]
    by_cases h2 : a < b
    · rw [if_pos h2]
    · rw [if_neg h2]
      exact Int32.le_antisymm (Int32.not_lt.1 h) (Int32.not_lt.1 h2)
theorem p_stockG (b1 b2 : Int32) (n : Nat) : ∀ x y, gX13_stockBehind_5 b1 b2 n x y = gX0_stockOf_5 b1 b2 n x y := by
  induction n with
  | zero => intro x y; rfl
  | succ n ih =>
    intro x y
    rw [gX13_stockBehind_5, gX0_stockOf_5, p_min b1 x, ih]
theorem p_stockE (a b c : Int32) : fX13_stockBehind a b c = fX0_stockOf a b c := by
  unfold fX13_stockBehind fX0_stockOf
  rw [p_stockG]
theorem p_stockT (a b : Int32) {c : Nat} (hc : c < 1000) : ∃ r, fX0_stockOf a b (Int32.ofNat c) = some r := by
  obtain ⟨r, h1, _⟩ := p_loop (G := fun n (s : Int32 × Int32) => gX0_stockOf_5 b (Int32.ofNat c) n s.1 s.2) (fun k s => s.2 = Int32.ofNat k ∧ k ≤ c) (Post := fun _ => True) c (by
    rintro k n ⟨x, y⟩ ⟨e, hk⟩
    dsimp only at e ⊢
    subst e
    by_cases q : k = c
    · right
      subst q
      exact ⟨(x, Int32.ofNat k), by rw [gX0_stockOf_5, if_pos (Int32.le_refl _)], trivial⟩
    · left
      have hle : ¬ Int32.ofNat c ≤ Int32.ofNat k := fun q => by have := (p_le (by omega) (by omega)).1 q; omega
      exact ⟨by omega, (_, Int32.ofNat (k + 1)), by rw [gX0_stockOf_5, if_neg hle, p_s], rfl, by omega⟩) 0 (a, 0) ⟨rfl, Nat.zero_le _⟩ xfu (by unfold xfu; omega)
  refine ⟨r.1, ?_⟩
  unfold fX0_stockOf
  rw [h1]; rfl
theorem p_stock {σ τ : xM} (hR : pR σ τ) (a1 a2 a3 : Int32) : pOk (fX0_stock σ a1 a2 a3) (fX13_stock τ a1 a2 a3) σ τ := by
  unfold fX0_stock fX13_stock
  rw [show fX13_within a1 0 9999 = fX0_in a1 0 9999 from rfl, show fX13_within a2 0 999 = fX0_in a2 0 999 from rfl, show fX13_within a3 0 99 = fX0_in a3 0 99 from rfl, p_stockE]
  by_cases h1 : fX0_in a1 0 9999 = 0
  · rw [if_pos h1, if_pos h1]; exact pf0 hR
  rw [if_neg h1, if_neg h1]
  by_cases h2 : fX0_in a2 0 999 = 0
  · rw [if_pos h2, if_pos h2]; exact pf0 hR
  rw [if_neg h2, if_neg h2]
  by_cases h3 : fX0_in a3 0 99 = 0
  · rw [if_pos h3, if_pos h3]; exact pf0 hR
  rw [if_neg h3, if_neg h3]
  obtain ⟨c, hc, rfl⟩ := p_range (n := 99) (by decide) h3
  obtain ⟨r, e⟩ := p_stockT a1 a2 (c := c) (by omega)
  rw [e]
  exact pOk.q hR _
/-- with nothing taken the stock does not fall -/
theorem p_div {a b : Nat} (ha : a < 2 ^ 31) (hb : b < 2 ^ 31) : Int32.ofNat a / Int32.ofNat b = Int32.ofNat (a / b) := by
  have h1 : a / b ≤ a := Nat.div_le_self a b
  apply Int32.toInt_inj.1
  rw [Int32.toInt_div, p_int ha, p_int hb, p_int (by omega), Int.tdiv_eq_ediv_of_nonneg (by omega), ← Int.natCast_ediv]
  have h2 : (0 : Int) ≤ ((a / b : Nat) : Int) := Int.natCast_nonneg (a / b)
  have h3 : ((a / b : Nat) : Int) < 2 ^ 31 := by
    have : a / b < 2 ^ 31 := by omega
    exact Int.ofNat_lt.2 this
  generalize ((a / b : Nat) : Int) = z at h2 h3
  exact Int.bmod_eq_of_le (by omega) (by omega)
theorem p_pred (a : Nat) : Int32.ofNat (a + 1) + -1 = Int32.ofNat a := by
  rw [← p_s, Int32.add_assoc, show (1 : Int32) + -1 = 0 from by decide, Int32.add_zero]
theorem p_grow (x : Nat) (hx : x ≤ 9999) : fJ3_min 9999 ((Int32.ofNat x - fJ3_min (Int32.ofNat x) 0) + (Int32.ofNat x - fJ3_min (Int32.ofNat x) 0) / 10) = Int32.ofNat (min 9999 (x + x / 10)) := by
  have h0 : fJ3_min (Int32.ofNat x) 0 = 0 := by
    unfold fJ3_min
    by_cases q : (0 : Int32) < Int32.ofNat x
    · rw [if_pos q]
    · rw [if_neg q]
      have h2 : ¬ 0 < x := fun w => q ((p_lt (a := 0) (by omega) (by omega)).2 w)
      rw [show x = 0 by omega]; rfl
  have h10 : Int32.ofNat x / 10 = Int32.ofNat (x / 10) := p_div (b := 10) (by omega) (by omega)
  rw [h0, show Int32.ofNat x - 0 = Int32.ofNat x by simp, h10, p_add]
  unfold fJ3_min
  by_cases q : x + x / 10 < 9999
  · have e : Int32.ofNat (x + x / 10) < (9999 : Int32) := (p_lt (b := 9999) (by omega) (by omega)).2 q
    rw [if_pos e]
    congr 1
    omega
  · have e : ¬ Int32.ofNat (x + x / 10) < (9999 : Int32) := fun w => q ((p_lt (b := 9999) (by omega) (by omega)).1 w)
    rw [if_neg e, show min 9999 (x + x / 10) = 9999 by omega]
    rfl
theorem p_stock0 {a c : Nat} (ha : a ≤ 9999) (hc : c < 1000) : ∃ r, a ≤ r ∧ r ≤ 9999 ∧ fX0_stockOf (Int32.ofNat a) 0 (Int32.ofNat c) = some (Int32.ofNat r) := by
  obtain ⟨r, h1, x, hx1, hx2, hx3⟩ := p_loop (G := fun n (s : Int32 × Int32) => gX0_stockOf_5 0 (Int32.ofNat c) n s.1 s.2) (fun k s => s.2 = Int32.ofNat k ∧ k ≤ c ∧ ∃ x, a ≤ x ∧ x ≤ 9999 ∧ s.1 = Int32.ofNat x) (Post := fun r => ∃ x, a ≤ x ∧ x ≤ 9999 ∧ r.1 = Int32.ofNat x) c (by
    rintro k n ⟨x, y⟩ ⟨e, hk, z, hz1, hz2, hz3⟩
    dsimp only at e hz3 ⊢
    subst e hz3
    by_cases q : k = c
    · right
      subst q
      exact ⟨(Int32.ofNat z, Int32.ofNat k), by rw [gX0_stockOf_5, if_pos (Int32.le_refl _)], z, hz1, hz2, rfl⟩
    · left
      have hle : ¬ Int32.ofNat c ≤ Int32.ofNat k := fun q => by have := (p_le (by omega) (by omega)).1 q; omega
      refine ⟨by omega, (Int32.ofNat (min 9999 (z + z / 10)), Int32.ofNat (k + 1)), ?_, rfl, by omega, _, ?_, ?_, rfl⟩
      · rw [gX0_stockOf_5, if_neg hle, p_s, p_grow z hz2]
      · omega
      · omega) 0 (Int32.ofNat a, 0) ⟨rfl, Nat.zero_le _, a, Nat.le_refl _, ha, rfl⟩ xfu (by unfold xfu; omega)
  refine ⟨x, hx1, hx2, ?_⟩
  unfold fX0_stockOf
  rw [h1, ← hx3]; rfl
theorem p_lasts {σ τ : xM} (hR : pR σ τ) (a1 a2 : Int32) : pOk (fX0_lasts σ a1 a2) (fX13_lasts τ a1 a2) σ τ := by
  unfold fX0_lasts fX13_lasts
  rw [show fX13_within a1 0 9999 = fX0_in a1 0 9999 from rfl, show fX13_within a2 1 99 = fX0_in a2 1 99 from rfl]
  by_cases h1 : fX0_in a1 0 9999 = 0
  · rw [if_pos h1, if_pos h1]; exact pf0 hR
  rw [if_neg h1, if_neg h1]
  by_cases h2 : fX0_in a2 1 99 = 0
  · rw [if_pos h2, if_pos h2]; exact pf0 hR
  rw [if_neg h2, if_neg h2]
  obtain ⟨a, ha, rfl⟩ := p_range (n := 9999) (by decide) h1
  obtain ⟨c, _, hc, rfl⟩ := p_range1 (n := 99) (m := 1) (by decide) (by decide) h2
  obtain ⟨r, r', e1, e2, e3⟩ := p_lock (G := fun n (s : Int32) => gX0_lasts_31 (Int32.ofNat a) (Int32.ofNat c) n s) (G' := fun n (s : Int32) => gX13_lasts_32 (Int32.ofNat a) (Int32.ofNat c) n s) (fun k s s' => s = s' ∧ k ≤ 999 ∧ s = Int32.ofNat (999 - k)) (Post := fun r r' => r = r') 999 (by
    rintro k n s s' ⟨rfl, hk, e⟩
    subst e
    by_cases q : k = 999
    · right
      subst q
      refine ⟨0, 0, ?_, ?_, rfl⟩
      · obtain ⟨r, hr1, hr2, hr3⟩ := p_stock0 ha (c := c) (by omega)
        rw [gX0_lasts_31, show Int32.ofNat (999 - 999) = 0 from rfl, hr3]
        simp only [Option.bind]
        rw [if_pos ((p_le (by omega) (by omega)).2 hr1)]
      · rw [gX13_lasts_32, if_pos (by decide)]
        rfl
    · have hpos : ¬ Int32.ofNat (999 - k) ≤ 0 := fun q => by have := (p_le (b := 0) (by omega) (by omega)).1 q; omega
      obtain ⟨r, hr⟩ := p_stockT (Int32.ofNat a) (Int32.ofNat (999 - k)) (c := c) (by omega)
      rw [gX0_lasts_31, gX13_lasts_32, if_neg hpos, p_stockE, hr]
      simp only [Option.bind]
      by_cases q2 : Int32.ofNat a ≤ r
      · right
        rw [if_pos q2, if_pos q2]
        exact ⟨_, _, rfl, rfl, rfl⟩
      · left
        rw [if_neg q2, if_neg q2]
        refine ⟨by omega, _, _, rfl, rfl, rfl, by omega, ?_⟩
        have e : 999 - k = (999 - (k + 1)) + 1 := by omega
        rw [e, p_pred]) 0 999 999 ⟨rfl, Nat.zero_le _, rfl⟩ xfu (by unfold xfu; omega)
  subst e3
  rw [show gX0_lasts_31 (Int32.ofNat a) (Int32.ofNat c) xfu 999 = some r from e1, show gX13_lasts_32 (Int32.ofNat a) (Int32.ofNat c) xfu 999 = some r from e2]
  exact pOk.q hR _
theorem p_changesG (b : Int32) (n : Nat) : ∀ x y, gX13_changes_23 b n x y = gX0_changes_22 b n x y := by
  induction n with
  | zero => intro x y; rfl
  | succ n ih =>
    intro x y
    rw [gX13_changes_23, gX0_changes_22, ih]
theorem p_changes {σ τ : xM} (hR : pR σ τ) (a1 : Int32) : pOk (fX0_changes σ a1) (fX13_changes τ a1) σ τ := by
  unfold fX0_changes fX13_changes
  rw [show fX13_within a1 0 20 = fX0_in a1 0 20 from rfl, p_changesG]
  by_cases h1 : fX0_in a1 0 20 = 0
  · rw [if_pos h1, if_pos h1]
    obtain ⟨r, s, t, e1, e2, e3⟩ := p_find 0 (by decide) hR (a := 0) (b := -1000001) (by decide) (by decide)
    rw [e1, e2]
    exact ⟨_, s, t, rfl, rfl, e3⟩
  rw [if_neg h1, if_neg h1]
  obtain ⟨c, hc, rfl⟩ := p_range (n := 20) (by decide) h1
  obtain ⟨r, e, _⟩ := p_loop (G := fun n (s : Int64 × Int32) => gX0_changes_22 (Int32.ofNat c) n s.1 s.2) (fun k s => s.2 = Int32.ofNat (k + 2) ∧ k ≤ 19) (Post := fun _ => True) 19 (by
    rintro k n ⟨x, y⟩ ⟨e, hk⟩
    dsimp only at e ⊢
    subst e
    by_cases q : c < k + 2
    · right
      exact ⟨(x, Int32.ofNat (k + 2)), by rw [gX0_changes_22, if_pos ((p_lt (by omega) (by omega)).2 q)], trivial⟩
    · left
      exact ⟨by omega, (_, Int32.ofNat (k + 1 + 2)), by rw [gX0_changes_22, if_neg (fun w => q ((p_lt (by omega) (by omega)).1 w)), p_s], rfl, by omega⟩) 0 (1, 2) ⟨rfl, by omega⟩ xfu (by unfold xfu; omega)
  rw [show gX0_changes_22 (Int32.ofNat c) xfu 1 2 = some r from e]
  exact pOk.q hR _

theorem pWB.more {B : Nat} {f : Nat → Int32} (h : pWB B f) (hB : B < 8) : pWB (B + 1) (pUp f 2 (Int32.ofNat (B + 1))) := by
  obtain ⟨h1, h2, h3, h4, h5, h6, h7, h8⟩ := h
  refine ⟨by omega, pUp_s _ _ _, fun c hc => by rw [pUp_n (by omega)]; exact h3 c hc, fun c hc => by rw [pUp_n (by omega)]; exact h4 c hc, fun c hc => ?_, fun b hb => ?_, by rw [pUp_n (by omega)]; exact h7, fun c hc => by rw [pUp_n (by omega)]; exact h8 c hc⟩
  · rw [pUp_n (by omega)]
    rcases h5 c hc with q | ⟨k, hk, q⟩
    · exact Or.inl q
    · exact Or.inr ⟨k, by omega, q⟩
  · rw [pUp_n (by omega), pUp_n (by omega), pUp_n (by omega), pUp_n (by omega), pUp_n (by omega)]
    exact h6 b hb
/-- a bell comes -/
def pAdd (v : Nat) (s : xM) (B : Nat) (a1 a2 a3 a4 : Int32) : xM := xup (xup (xup (xup (xup (xup s v (146 + 5 * B + 0) a1) v (146 + 5 * B + 1) a2) v (146 + 5 * B + 2) a3) v (146 + 5 * B + 3) a4) v (146 + 5 * B + 4) 0) v 2 (Int32.ofNat (B + 1))
theorem p_comes {τ : xM} {B : Nat} (hB8 : B < 8) (h2 : τ 20 2 = Int32.ofNat B) (a1 a2 a3 a4 : Int32) : fX13_comes τ a1 a2 a3 a4 = some (Int32.ofNat B, pAdd 20 τ B a1 a2 a3 a4) := by
  have hx : ∀ (s : xM) (j f : Nat) (x : Int32), (xup s 20 (146 + 5 * j + f) x) 20 2 = s 20 2 := fun s j f x => xup_n (by omega)
  have at0 : fX13_at (Int32.ofNat B) 0 = Int32.ofNat (146 + 5 * B + 0) := p_at B 0
  have at1 : fX13_at (Int32.ofNat B) 1 = Int32.ofNat (146 + 5 * B + 1) := p_at B 1
  have at2 : fX13_at (Int32.ofNat B) 2 = Int32.ofNat (146 + 5 * B + 2) := p_at B 2
  have at3 : fX13_at (Int32.ofNat B) 3 = Int32.ofNat (146 + 5 * B + 3) := p_at B 3
  have at4 : fX13_at (Int32.ofNat B) 4 = Int32.ofNat (146 + 5 * B + 4) := p_at B 4
  have i0 : xin (Int32.ofNat (146 + 5 * B + 0)) 186 := (p_in (by omega)).2 (by omega)
  have i1 : xin (Int32.ofNat (146 + 5 * B + 1)) 186 := (p_in (by omega)).2 (by omega)
  have i2 : xin (Int32.ofNat (146 + 5 * B + 2)) 186 := (p_in (by omega)).2 (by omega)
  have i3 : xin (Int32.ofNat (146 + 5 * B + 3)) 186 := (p_in (by omega)).2 (by omega)
  have i4 : xin (Int32.ofNat (146 + 5 * B + 4)) 186 := (p_in (by omega)).2 (by omega)
  unfold fX13_comes pAdd
  simp only [p_two, h2, at0, at1, at2, at3, at4, if_pos i0, if_pos i1, if_pos i2, if_pos i3, if_pos i4, p_nat (show 146 + 5 * B + 0 < 2 ^ 31 by omega), p_nat (show 146 + 5 * B + 1 < 2 ^ 31 by omega), p_nat (show 146 + 5 * B + 2 < 2 ^ 31 by omega), p_nat (show 146 + 5 * B + 3 < 2 ^ 31 by omega), p_nat (show 146 + 5 * B + 4 < 2 ^ 31 by omega), hx, p_s]
theorem p_add0 {σ : xM} {w B : Nat} (hB8 : B < 8) (h2 : σ w 2 = Int32.ofNat B) (a1 a2 : Int32) : fX4_add σ w a1 a2 = some (pAdd w σ B a1 a2 0 10) := by
  have hx : ∀ (s : xM) (j f : Nat) (x : Int32), (xup s w (146 + 5 * j + f) x) w 2 = s w 2 := fun s j f x => xup_n (by omega)
  have i0 : xin (Int32.ofNat B) 8 := (p_in (by omega)).2 (by omega)
  unfold fX4_add pAdd
  simp only [hx, h2, if_pos i0, p_nat (show B < 2 ^ 31 by omega), p_s]
theorem pAdd_row {s : xM} {v B : Nat} {a1 a2 a3 a4 : Int32} : pAdd v s B a1 a2 a3 a4 v = pUp (pUp (pUp (pUp (pUp (pUp (s v) (146 + 5 * B + 0) a1) (146 + 5 * B + 1) a2) (146 + 5 * B + 2) a3) (146 + 5 * B + 3) a4) (146 + 5 * B + 4) 0) 2 (Int32.ofNat (B + 1)) := by
  unfold pAdd
  rw [xup_row, xup_row, xup_row, xup_row, xup_row, xup_row]
theorem pAdd_F (s : xM) (v B : Nat) (a1 a2 a3 a4 : Int32) : pF [v] s (pAdd v s B a1 a2 a3 a4) := by
  have m : v ∈ [v] := List.mem_singleton.2 rfl
  exact ((((((pF.refl _ _).up _ _ _ m).up _ _ _ m).up _ _ _ m).up _ _ _ m).up _ _ _ m).up _ _ _ m
theorem pUp_congr {f g : Nat → Int32} (h : ∀ i, i < 186 → g i = f i) (k : Nat) (x : Int32) : ∀ i, i < 186 → pUp g k x i = pUp f k x i := fun i hi => by
  unfold pUp
  by_cases q : i = k
  · rw [if_pos q, if_pos q]
  · rw [if_neg q, if_neg q]; exact h i hi
theorem pWB.add {B : Nat} {f : Nat → Int32} (h : pWB B f) (hB : B < 8) {a1 a2 a3 a4 : Int32} (h1 : pI a1 7) (h2 : pI a2 64) (h3 : pI a3 12) (h4 : pI a4 100) : pWB (B + 1) (pUp (pUp (pUp (pUp (pUp (pUp f (146 + 5 * B + 0) a1) (146 + 5 * B + 1) a2) (146 + 5 * B + 2) a3) (146 + 5 * B + 3) a4) (146 + 5 * B + 4) 0) 2 (Int32.ofNat (B + 1))) := by
  have g0 := h.bell B 0 a1 hB (by omega) (fun _ => h1) (by omega) (by omega) (by omega) (by omega)
  have g1 := g0.bell B 1 a2 hB (by omega) (by omega) (fun _ => h2) (by omega) (by omega) (by omega)
  have g2 := g1.bell B 2 a3 hB (by omega) (by omega) (by omega) (fun _ => h3) (by omega) (by omega)
  have g3 := g2.bell B 3 a4 hB (by omega) (by omega) (by omega) (by omega) (fun _ => h4) (by omega)
  have g4 := g3.bell B 4 0 hB (by omega) (by omega) (by omega) (by omega) (by omega) (fun _ => ⟨0, by omega, rfl⟩)
  exact g4.more hB
theorem p_bell {σ τ : xM} (hR : pR σ τ) (a1 a2 : Int32) : pOk (fX0_bell σ a1 a2) (fX13_bell τ a1 a2) σ τ := by
  obtain ⟨B, hB⟩ := hR.1.2
  unfold fX0_bell fX13_bell
  rw [show fX13_isKind a1 = fX0_isKind a1 from rfl, show fX13_isCell a2 = fX0_isCell a2 from rfl, p_two, hR.1.1 2 (by omega)]
  by_cases h1 : fX0_isKind a1 = 0
  · rw [if_pos h1, if_pos h1]; exact pf0 hR
  rw [if_neg h1, if_neg h1]
  by_cases h2 : fX0_isCell a2 = 0
  · rw [if_pos h2, if_pos h2]; exact pf0 hR
  rw [if_neg h2, if_neg h2]
  by_cases h3 : σ 0 2 = 8
  · rw [if_pos h3, if_pos h3]; exact pf1 hR
  rw [if_neg h3, if_neg h3]
  have hB8 : B < 8 := by
    have := hB.1
    have : B ≠ 8 := fun q => h3 (by rw [hB.2.1, q]; rfl)
    omega
  obtain ⟨k, hk, rfl⟩ := p_range (n := 6) (by decide) h1
  obtain ⟨c, hc, rfl⟩ := p_range (n := 63) (by decide) h2
  rw [p_add0 hB8 hB.2.1, p_comes hB8 (by rw [hR.1.1 2 (by omega)]; exact hB.2.1)]
  simp only [Option.bind]
  have e : pAdd 0 σ B (Int32.ofNat k) (Int32.ofNat c) 0 10 0 2 - 1 = Int32.ofNat B := by
    rw [pAdd_row, pUp_s, ← p_s]; simp
  rw [e]
  refine ⟨_, _, _, rfl, rfl, hR.mk (B := B + 1) ?_ ?_ (pAdd_F _ _ _ _ _ _ _) (pAdd_F _ _ _ _ _ _ _) (by decide) (by decide), (pAdd_F _ _ _ _ _ _ _).mono (by decide), (pAdd_F _ _ _ _ _ _ _).mono (by decide)⟩
  · unfold pRow
    rw [pAdd_row, pAdd_row]
    exact pUp_congr (pUp_congr (pUp_congr (pUp_congr (pUp_congr (pUp_congr hR.1.1 _ _) _ _) _ _) _ _) _ _) _ _
  · rw [pAdd_row]
    exact hB.add hB8 ⟨k, by omega, rfl⟩ ⟨c, by omega, rfl⟩ ⟨0, by omega, rfl⟩ ⟨10, by omega, rfl⟩
theorem p_kndK : ∀ k, k < 7 → xknd k = Int32.ofNat k := by decide +kernel
theorem p_of {σ τ : xM} (hR : pR σ τ) (a1 a2 : Int32) : pOk (fX0_of σ a1 a2) (fX13_of τ a1 a2) σ τ := by
  obtain ⟨B, hB⟩ := hR.1.2
  unfold fX0_of fX13_of
  rw [p_isBell hR, show fX13_within a2 0 6 = fX0_in a2 0 6 from rfl]
  simp only [Option.bind]
  by_cases h1 : fX0_isBell σ a1 = 0
  · rw [if_pos h1, if_pos h1]; exact pf0 hR
  rw [if_neg h1, if_neg h1]
  obtain ⟨b, hb, hb8, rfl⟩ := p_bell_of hB h1
  obtain ⟨κ, hκ, hκe, hbo⟩ := p_bellOf hB hb8
  obtain ⟨p, hp, hpe⟩ := (hB.2.2.2.2.2.1 b hb8).2.1
  obtain ⟨w, hw, hw'⟩ := p_worthOf hR.1.1 hB hp hb8
  obtain ⟨nx, hn, hn', _⟩ := p_nextOf hR.1.1 hB hR.2 hb8
  have hin : xin (Int32.ofNat b) 8 := (p_in (by omega)).2 (by omega)
  have hbi : ∀ f, f < 5 → fX13_bellIs τ (Int32.ofNat b) (Int32.ofNat f) = some (σ 0 (146 + 5 * b + f)) := fun f hf => p_bellIs hR.1.1 hb8 hf
  by_cases h2 : fX0_in a2 0 6 = 0
  · have q0 : ∀ k, k ≤ 6 → ¬ a2 = Int32.ofNat k := fun k hk q => by
      subst q
      have : k = 0 ∨ k = 1 ∨ k = 2 ∨ k = 3 ∨ k = 4 ∨ k = 5 ∨ k = 6 := by omega
      rcases this with rfl | rfl | rfl | rfl | rfl | rfl | rfl <;> exact absurd h2 (by decide)
    rw [if_pos h2, if_neg (show ¬ a2 = 0 from q0 0 (by omega)), if_neg (show ¬ a2 = 1 from q0 1 (by omega)), if_neg (show ¬ a2 = 2 from q0 2 (by omega)), if_neg (show ¬ a2 = 3 from q0 3 (by omega)), if_neg (show ¬ a2 = 4 from q0 4 (by omega)), if_neg (show ¬ a2 = 5 from q0 5 (by omega)), if_neg (show ¬ a2 = 6 from q0 6 (by omega))]
    exact pf0 hR
  rw [if_neg h2]
  obtain ⟨k, hk, rfl⟩ := p_range (n := 6) (by decide) h2
  have : k = 0 ∨ k = 1 ∨ k = 2 ∨ k = 3 ∨ k = 4 ∨ k = 5 ∨ k = 6 := by omega
  have e8 : (8 * κ + b) / 8 = κ := by omega
  rcases this with rfl | rfl | rfl | rfl | rfl | rfl | rfl
  · rw [if_pos (show Int32.ofNat 0 = 0 from rfl), if_neg (show ¬ (5 : Int32) ≤ Int32.ofNat 0 by decide), hbi 0 (by omega), hbo]
    simp only [e8, p_kndK κ hκ, Nat.add_zero, hκe]
    exact pOk.q hR _
  · rw [if_neg (show ¬ Int32.ofNat 1 = 0 by decide), if_pos (show Int32.ofNat 1 = 1 from rfl), if_neg (show ¬ (5 : Int32) ≤ Int32.ofNat 1 by decide), hbi 1 (by omega), if_pos (by decide : xin (Int32.ofNat 1) 5), if_pos hin, p_nat (show b < 2 ^ 31 by omega), p_nat (show 1 < 2 ^ 31 by omega)]
    exact pOk.q hR _
  · rw [if_neg (show ¬ Int32.ofNat 2 = 0 by decide), if_neg (show ¬ Int32.ofNat 2 = 1 by decide), if_pos (show Int32.ofNat 2 = 2 from rfl), if_neg (show ¬ (5 : Int32) ≤ Int32.ofNat 2 by decide), hbi 2 (by omega), if_pos (by decide : xin (Int32.ofNat 2) 5), if_pos hin, p_nat (show b < 2 ^ 31 by omega), p_nat (show 2 < 2 ^ 31 by omega)]
    exact pOk.q hR _
  · rw [if_neg (show ¬ Int32.ofNat 3 = 0 by decide), if_neg (show ¬ Int32.ofNat 3 = 1 by decide), if_neg (show ¬ Int32.ofNat 3 = 2 by decide), if_pos (show Int32.ofNat 3 = 3 from rfl), if_neg (show ¬ (5 : Int32) ≤ Int32.ofNat 3 by decide), hbi 3 (by omega), if_pos (by decide : xin (Int32.ofNat 3) 5), if_pos hin, p_nat (show b < 2 ^ 31 by omega), p_nat (show 3 < 2 ^ 31 by omega)]
    exact pOk.q hR _
  · rw [if_neg (show ¬ Int32.ofNat 4 = 0 by decide), if_neg (show ¬ Int32.ofNat 4 = 1 by decide), if_neg (show ¬ Int32.ofNat 4 = 2 by decide), if_neg (show ¬ Int32.ofNat 4 = 3 by decide), if_pos (show Int32.ofNat 4 = 4 from rfl), if_neg (show ¬ (5 : Int32) ≤ Int32.ofNat 4 by decide), hbi 4 (by omega), if_pos (by decide : xin (Int32.ofNat 4) 5), if_pos hin, p_nat (show b < 2 ^ 31 by omega), p_nat (show 4 < 2 ^ 31 by omega)]
    exact pOk.q hR _
  · rw [if_neg (show ¬ Int32.ofNat 5 = 0 by decide), if_neg (show ¬ Int32.ofNat 5 = 1 by decide), if_neg (show ¬ Int32.ofNat 5 = 2 by decide), if_neg (show ¬ Int32.ofNat 5 = 3 by decide), if_neg (show ¬ Int32.ofNat 5 = 4 by decide), if_pos (show Int32.ofNat 5 = 5 from rfl), if_pos (show (5 : Int32) ≤ Int32.ofNat 5 by decide), if_pos (show Int32.ofNat 5 = 5 from rfl), hn, hn']
    exact pOk.q hR _
  · have h1i : fX13_bellIs τ (Int32.ofNat b) 1 = some (σ 0 (146 + 5 * b + 1)) := hbi 1 (by omega)
    rw [if_neg (show ¬ Int32.ofNat 6 = 0 by decide), if_neg (show ¬ Int32.ofNat 6 = 1 by decide), if_neg (show ¬ Int32.ofNat 6 = 2 by decide), if_neg (show ¬ Int32.ofNat 6 = 3 by decide), if_neg (show ¬ Int32.ofNat 6 = 4 by decide), if_neg (show ¬ Int32.ofNat 6 = 5 by decide), if_pos (show Int32.ofNat 6 = 6 from rfl), if_pos (show (5 : Int32) ≤ Int32.ofNat 6 by decide), if_neg (show ¬ Int32.ofNat 6 = 5 by decide), if_pos hin, p_nat (show b < 2 ^ 31 by omega), hpe, hw, h1i, hpe]
    simp only
    rw [hw']
    exact pOk.q hR _
theorem p_as {σ τ : xM} (hR : pR σ τ) (a1 a2 : Int32) : pOk (fX0_as σ a1 a2) (fX13_as τ a1 a2) σ τ := by
  obtain ⟨B, hB⟩ := hR.1.2
  have hB8 := hB.1
  unfold fX0_as fX13_as
  rw [show fX13_isSpot a1 = fX0_isSpot a1 from rfl, show fX13_isKind a2 = fX0_isKind a2 from rfl]
  by_cases h1 : fX0_isSpot a1 = 0
  · rw [if_pos h1, if_pos h1]; exact pf0 hR
  rw [if_neg h1, if_neg h1]
  by_cases h2 : fX0_isKind a2 = 0
  · rw [if_pos h2, if_pos h2]; exact pf0 hR
  rw [if_neg h2, if_neg h2]
  obtain ⟨c, hc, rfl⟩ := p_range (n := 9) (by decide) h1
  obtain ⟨u, hu, rfl⟩ := p_range (n := 6) (by decide) h2
  have hin : xin (Int32.ofNat c) 10 := (p_in (by omega)).2 (by omega)
  have h4 : (4 : Int32) + Int32.ofNat c = Int32.ofNat (4 + c) := p_add 4 c
  have hin4 : xin (Int32.ofNat (4 + c)) 186 := (p_in (by omega)).2 (by omega)
  have key : ∀ x, pR (xup σ 12 c x) τ := fun x => ⟨⟨fun i hi => hR.1.1 i hi, hR.1.2⟩, hR.2.l (L := [12]) ((pF.refl _ _).up _ _ _ (by decide)) (by decide)⟩
  have kf : ∀ x, pF pC σ (xup σ 12 c x) := fun x => (pF.refl _ _).up _ _ _ (by decide)
  unfold fX0_thingAt
  simp only [if_pos hin, h4, if_pos hin4, p_nat (show 4 + c < 2 ^ 31 by omega), p_nat (show c < 2 ^ 31 by omega), hR.1.1 (4 + c) (show 4 + c < 186 by omega)]
  rcases hB.2.2.2.2.1 c (by omega) with q | ⟨b, hb, q⟩
  · rw [q, if_pos rfl, if_neg (by decide)]
    exact (pf5 (key _)).then (kf _) (pF.refl _ _)
  · obtain ⟨κ, hκ, hκe, hbo⟩ := p_bellOf hB (b := b) (by omega)
    have hbi : fX13_bellIs τ (Int32.ofNat b) 0 = some (σ 0 (146 + 5 * b)) := p_bellIs hR.1.1 (b := b) (f := 0) (by omega) (by omega)
    have e8 : (8 * κ + b) / 8 = κ := by omega
    have e9 : (8 * κ + b) % 8 = b := by omega
    rw [q, if_neg (p_ne1 _ (by omega)), if_pos (p_0le _ (by omega)), hbo, hbi, hκe]
    simp only [Option.bind, xro]
    rw [p_underK κ hκ u (by omega), if_pos (show 8 * κ + b < 56 by omega), e8]
    simp only
    by_cases h3 : xund κ (Int32.ofNat u) = 0
    · rw [if_pos h3, if_pos h3]
      exact (pf2 (key _)).then (kf _) (pF.refl _ _)
    · rw [if_neg h3, if_neg h3]
      have hcast : fX0_cast_b (8 * κ + b) (Int32.ofNat u) = some (8 * κ + b) := by
        have cs : ∀ u, u < 7 → ∀ κ, κ < 7 → ∀ b, b < 8 → ¬ xund κ (Int32.ofNat u) = 0 → fX0_cast_b (8 * κ + b) (Int32.ofNat u) = some (8 * κ + b) := by decide +kernel
        exact cs u (by omega) κ hκ b (by omega) h3
      rw [hcast]
      simp only [e9]
      exact (pOk.q (key _) _).then (kf _) (pF.refl _ _)

theorem p_i8 (v : Int32) : (v.toInt8.toInt32).toInt8.toInt32 &&& 255 = v &&& 255 := by
  rw [Int8.toInt8_toInt32]
  apply Int32.toBitVec_inj.1
  apply BitVec.eq_of_getLsbD_eq
  intro i hi
  have h255 : (255 : Int32).toBitVec.getLsbD i = decide (i < 8) := by
    have : ∀ i, i < 32 → (255 : Int32).toBitVec.getLsbD i = decide (i < 8) := by decide +kernel
    exact this i hi
  rw [Int32.toBitVec_and, Int32.toBitVec_and, BitVec.getLsbD_and, BitVec.getLsbD_and, h255]
  by_cases h8 : i < 8
  · simp [h8, Int8.toBitVec_toInt32, Int32.toBitVec_toInt8, BitVec.getElem_signExtend, hi]
  · simp [h8]
theorem p_feedG {σ τ : xM} (hR : pR σ τ) (b1 : Int32) {m : Nat} (hm : m ≤ 4) {q : Nat} (hq : q + m ≤ 120) (h6 : σ 6 0 = Int32.ofNat q) : ∃ r r', gX0_feed_36 b1 xfu (Int32.ofNat m - 1) σ = some r ∧ gX13_feed_38 b1 xfu (Int32.ofNat m - 1) τ = some r' ∧ pR r.2 r'.2 ∧ pF pC σ r.2 ∧ pF pM τ r'.2 := by
  refine p_lock (G := fun n (s : Int32 × xM) => gX0_feed_36 b1 n s.1 s.2) (G' := fun n (s : Int32 × xM) => gX13_feed_38 b1 n s.1 s.2) (fun k s s' => k ≤ m ∧ s.1 = Int32.ofNat (m - k) - 1 ∧ s'.1 = Int32.ofNat (m - k) - 1 ∧ s.2 6 0 = Int32.ofNat (q + k) ∧ pR s.2 s'.2 ∧ pF pC σ s.2 ∧ pF pM τ s'.2) (Post := fun r r' => pR r.2 r'.2 ∧ pF pC σ r.2 ∧ pF pM τ r'.2) m ?_ 0 (Int32.ofNat m - 1, σ) (Int32.ofNat m - 1, τ) ⟨Nat.zero_le _, rfl, rfl, h6, hR, pF.refl _ _, pF.refl _ _⟩ xfu (by unfold xfu; omega)
  rintro k n ⟨x, s⟩ ⟨x', t⟩ ⟨hk, e1, e2, e3, e4, e5, e6⟩
  dsimp only at e1 e2 e3 e4 e5 e6 ⊢
  subst e1 e2
  by_cases hkm : k = m
  · right
    subst hkm
    rw [Nat.sub_self]
    refine ⟨(Int32.ofNat 0 - 1, s), (Int32.ofNat 0 - 1, t), ?_, ?_, e4, e5, e6⟩
    · rw [gX0_feed_36, if_pos (by decide)]
    · rw [gX13_feed_38, if_pos (by decide)]
  · left
    refine ⟨by omega, ?_⟩
    have hx : Int32.ofNat (m - k) - 1 = Int32.ofNat (m - k - 1) := by
      have : m - k = (m - k - 1) + 1 := by omega
      rw [this, ← p_s]
      simp
    have hx2 : Int32.ofNat (m - k - 1) + -1 = Int32.ofNat (m - (k + 1)) - 1 := by
      rw [show m - (k + 1) = m - k - 1 by omega, Int32.sub_eq_add_neg]
    have hin : xin (Int32.ofNat (q + k)) 120 := (p_in (by omega)).2 (by omega)
    obtain ⟨hn, h1, h2, h3, h4, h5⟩ := e4
    have h62 : t 24 2 = Int32.ofNat (q + k) := by rw [h2.1]; exact e3
    rw [hx, gX0_feed_36, gX13_feed_38, if_neg (p_nlt0 _ (by omega)), if_neg (p_nlt0 _ (by omega)), e3, h62]
    simp only [if_pos hin, p_nat (show q + k < 2 ^ 31 by omega), hx2]
    have u1 : ∀ z : Int32, (xup s 5 (q + k) z) 6 0 = Int32.ofNat (q + k) := fun z => by rw [xup_n (by omega)]; exact e3
    have u2 : ∀ z : Int32, (xup t 26 (q + k) z) 24 2 = Int32.ofNat (q + k) := fun z => by rw [xup_n (by omega)]; exact h62
    rw [u1, u2, p_s]
    refine ⟨(Int32.ofNat (m - (k + 1)) - 1, xup (xup s 5 (q + k) ((((b1 >>> ((8 * Int32.ofNat (m - k - 1)) &&& 31)).toInt8.toInt32)).toInt8.toInt32)) 6 0 (Int32.ofNat (q + k + 1))), (Int32.ofNat (m - (k + 1)) - 1, xup (xup t 26 (q + k) ((b1 >>> ((8 * Int32.ofNat (m - k - 1)) &&& 31)) &&& 255)) 24 2 (Int32.ofNat (q + k + 1))), rfl, rfl, by omega, rfl, rfl, ?_, ?_, (e5.up _ _ _ (by decide)).up _ _ _ (by decide), (e6.up _ _ _ (by decide)).up _ _ _ (by decide)⟩
    · dsimp only
      rw [xup_s]; rfl
    · dsimp only
      refine ⟨⟨fun i hi => hn.1 i hi, hn.2⟩, ⟨?_, ?_⟩, ⟨by rw [xup_s, xup_s], by rw [xup_s]; exact ⟨q + k + 1, by omega, rfl⟩, fun i hi => ?_⟩, h3, h4, h5⟩
      · rw [xup_n (by omega), xup_n (by omega), xup_n (by omega), xup_n (by omega)]; exact h1.1
      · rw [xup_n (by omega), xup_n (by omega)]; exact h1.2
      · rw [xup_row' (by decide : 26 ≠ 24), xup_row' (by decide : 5 ≠ 6), xup_row, xup_row]
        unfold pUp
        by_cases w : i = q + k
        · rw [if_pos w, if_pos w, p_i8]
        · rw [if_neg w, if_neg w]; exact h2.2.2 i hi
theorem p_feed {σ τ : xM} (hR : pR σ τ) (a1 a2 : Int32) : pOk (fX0_feed σ a1 a2) (fX13_feed τ a1 a2) σ τ := by
  unfold fX0_feed fX13_feed
  rw [show fX13_within a2 1 4 = fX0_in a2 1 4 from rfl, hR.2.2.1.1]
  by_cases h1 : fX0_in a2 1 4 = 0
  · rw [if_pos h1, if_pos h1]; exact pf0 hR
  rw [if_neg h1, if_neg h1]
  by_cases h2 : σ 6 0 + a2 ≤ 120
  · rw [if_pos h2, if_pos h2]
    obtain ⟨m, _, hm, rfl⟩ := p_range1 (n := 4) (m := 1) (by decide) (by decide) h1
    obtain ⟨q, hq, h6⟩ := hR.2.2.1.2.1
    rw [h6, p_add] at h2
    have h3 := (p_le (b := 120) (by omega) (by decide)).1 h2
    obtain ⟨r, r', e1, e2, e3, e4, e5⟩ := p_feedG hR a1 hm h3 h6
    rw [e1, e2]
    simp only [Option.bind]
    rw [e3.2.2.1.1]
    exact ⟨_, _, _, rfl, rfl, e3, e4, e5⟩
  · rw [if_neg h2, if_neg h2]; exact pf1 hR

theorem p_shr (x : Int32) : ∃ k, k < 2 ^ 24 ∧ (x.toUInt32 >>> ((8 : Int32).toUInt32 &&& Int32.toUInt32 31)).toInt32 = Int32.ofNat k := by
  have e8 : ((8 : Int32).toUInt32 &&& Int32.toUInt32 31).toNat % 32 = 8 := by decide
  refine ⟨(x.toUInt32 >>> ((8 : Int32).toUInt32 &&& Int32.toUInt32 31)).toNat, ?_, ?_⟩
  · rw [UInt32.toNat_shiftRight, e8, Nat.shiftRight_eq_div_pow]
    have := x.toUInt32.toNat_lt
    omega
  · generalize (x.toUInt32 >>> ((8 : Int32).toUInt32 &&& Int32.toUInt32 31)) = u
    apply Int32.toBitVec_inj.1
    apply BitVec.eq_of_toNat_eq
    show u.toNat = u.toNat % 2 ^ 32
    rw [Nat.mod_eq_of_lt u.toNat_lt]
theorem p_modK {a b : Nat} (ha : a < 2 ^ 31) (hb : b < 2 ^ 31) (_ : 0 < b) : Int32.ofNat a - Int32.ofNat a / Int32.ofNat b * Int32.ofNat b = Int32.ofNat (a % b) := by
  have h1 : a % b + b * (a / b) = a := Nat.mod_add_div a b
  rw [p_div ha hb, p_mul]
  have e : Int32.ofNat a = Int32.ofNat (a % b) + Int32.ofNat (a / b * b) := by rw [p_add, Nat.mul_comm (a / b) b, h1]
  rw [e]
  simp
theorem p_thunderS {σ τ : xM} (hR : pRow σ 0 τ 20) {B : Nat} (hB : pWB B (σ 0)) (hB0 : 0 < B) : ∃ k c s t, k < B ∧ c < 64 ∧ pRow s 0 t 20 ∧ pWB B (s 0) ∧ pF [0] σ s ∧ pF [20] τ t ∧ (∃ r1 s1, fX4_draw σ 0 = some (r1, s1) ∧ (s1 0 2 = Int32.ofNat B) ∧ r1 - r1 / Int32.ofNat B * Int32.ofNat B = Int32.ofNat k ∧ ∃ r2, fX4_draw s1 0 = some (r2, s) ∧ r2 - r2 / 64 * 64 = Int32.ofNat c) ∧ (∃ t1, fX13_drawn τ (Int32.ofNat B) = some (Int32.ofNat k, t1) ∧ fX13_drawn t1 64 = some (Int32.ofNat c, t)) := by
  have h3' : ((3 : Int32).toNatClampNeg) = 3 := by decide
  have hB8 := hB.1
  have hBn : ¬ Int32.ofNat B = 0 := fun q => by have := (p_eq (b := 0) (by omega) (by omega)).1 q; omega
  have e3 := hR 3 (by omega)
  obtain ⟨k1, hk1, f1⟩ := p_shr ((σ 0 3 * 1103515245) + 12345)
  obtain ⟨k2, hk2, f2⟩ := p_shr ((((σ 0 3 * 1103515245) + 12345) * 1103515245) + 12345)
  have step : ∀ {s t : xM}, pRow s 0 t 20 → pWB B (s 0) → pF [0] σ s → pF [20] τ t → ∀ x, pRow (xup s 0 3 x) 0 (xup t 20 3 x) 20 ∧ pWB B (xup s 0 3 x 0) ∧ pF [0] σ (xup s 0 3 x) ∧ pF [20] τ (xup t 20 3 x) := by
    intro s t a1 a2 a3 a4 x
    refine ⟨fun i hi => ?_, by rw [xup_row]; exact a2.one 3 x (by omega), a3.up _ _ _ (by decide), a4.up _ _ _ (by decide)⟩
    rw [xup_row, xup_row]
    exact pUp_congr a1 3 x i hi
  obtain ⟨a1, a2, a3, a4⟩ := step hR hB (pF.refl _ _) (pF.refl _ _) ((σ 0 3 * 1103515245) + 12345)
  obtain ⟨b1, b2, b3, b4⟩ := step a1 a2 a3 a4 ((((σ 0 3 * 1103515245) + 12345) * 1103515245) + 12345)
  refine ⟨k1 % B, k2 % 64, _, _, Nat.mod_lt _ hB0, Nat.mod_lt _ (by omega), b1, b2, b3, b4, ⟨Int32.ofNat k1, xup σ 0 3 ((σ 0 3 * 1103515245) + 12345), ?_, ?_, p_modK (by omega) (by omega) hB0, Int32.ofNat k2, ?_, p_modK (b := 64) (by omega) (by omega) (by omega)⟩, ⟨xup τ 20 3 ((σ 0 3 * 1103515245) + 12345), ?_, ?_⟩⟩
  · unfold fX4_draw
    rw [xup_s, f1]
  · rw [xup_n (by omega)]; exact hB.2.1
  · unfold fX4_draw
    rw [xup_s, xup_s, f2]
  · unfold fX13_drawn
    rw [if_neg hBn, h3', e3, xup_s, f1, p_modK (by omega) (by omega) hB0]
  · unfold fX13_drawn
    rw [if_neg (by decide : ¬ (64 : Int32) = 0), h3', xup_s, xup_s, f2, show (64 : Int32) = Int32.ofNat 64 from rfl, p_modK (by omega) (by omega) (by omega)]
theorem p_thunders {σ τ : xM} (hR : pRow σ 0 τ 20) {B : Nat} (hB : pWB B (σ 0)) (hB0 : 0 < B) {σ0 : xM} (hO : pO σ0 τ) {a : Nat} (ha : a < 1000) : ∃ r r', gX0_thunders_2 (Int32.ofNat a) xfu 0 σ = some r ∧ gX13_thunder_48 (Int32.ofNat a) xfu 0 τ = some r' ∧ pRow r.2 0 r'.2 20 ∧ pWB B (r.2 0) ∧ pF [0] σ r.2 ∧ pF [20] τ r'.2 := by
  have hB8 := hB.1
  refine p_lock (G := fun n (s : Int32 × xM) => gX0_thunders_2 (Int32.ofNat a) n s.1 s.2) (G' := fun n (s : Int32 × xM) => gX13_thunder_48 (Int32.ofNat a) n s.1 s.2) (fun k s s' => k ≤ a ∧ s.1 = Int32.ofNat k ∧ s'.1 = Int32.ofNat k ∧ pRow s.2 0 s'.2 20 ∧ pWB B (s.2 0) ∧ pF [0] σ s.2 ∧ pF [20] τ s'.2) (Post := fun r r' => pRow r.2 0 r'.2 20 ∧ pWB B (r.2 0) ∧ pF [0] σ r.2 ∧ pF [20] τ r'.2) a ?_ 0 (0, σ) (0, τ) ⟨Nat.zero_le _, rfl, rfl, hR, hB, pF.refl _ _, pF.refl _ _⟩ xfu (by unfold xfu; omega)
  rintro k n ⟨x, s⟩ ⟨x', t⟩ ⟨hk, e1, e2, e3, e4, e5, e6⟩
  dsimp only at e1 e2 e3 e4 e5 e6 ⊢
  subst e1 e2
  by_cases q : k = a
  · right
    subst q
    refine ⟨(Int32.ofNat k, s), (Int32.ofNat k, t), ?_, ?_, e3, e4, e5, e6⟩
    · rw [gX0_thunders_2, if_pos (Int32.le_refl _)]
    · rw [gX13_thunder_48, if_pos (Int32.le_refl _)]
  · left
    have hle : ¬ Int32.ofNat a ≤ Int32.ofNat k := fun q => by have := (p_le (by omega) (by omega)).1 q; omega
    refine ⟨by omega, ?_⟩
    obtain ⟨b, c, s2, t2, hb, hc, g1, g2, g3, g4, ⟨r1, s1, d1, d2, d3, r2, d4, d5⟩, t1, d6, d7⟩ := p_thunderS e3 e4 hB0
    have hBn : ¬ Int32.ofNat B = 0 := fun q => by have := (p_eq (b := 0) (by omega) (by omega)).1 q; omega
    have hin : xin (Int32.ofNat b) 8 := (p_in (by omega)).2 (by omega)
    have at1 : fX13_at (Int32.ofNat b) 1 = Int32.ofNat (146 + 5 * b + 1) := p_at b 1
    have hin1 : xin (Int32.ofNat (146 + 5 * b + 1)) 186 := (p_in (by omega)).2 (by omega)
    have hbi : fX13_bellIs t2 (Int32.ofNat b) 1 = some (s2 0 (146 + 5 * b + 1)) := p_bellIs g1 (by omega) (f := 1) (by omega)
    rw [gX0_thunders_2, gX13_thunder_48, if_neg hle, if_neg hle, p_two, e3 2 (by omega), e4.2.1, d1, d6]
    have hBn' : ¬ s1 0 2 = 0 := by rw [d2]; exact hBn
    have hin' : xin (r1 - r1 / s1 0 2 * s1 0 2) 8 := by rw [d2, d3]; exact hin
    have hnat : (r1 - r1 / s1 0 2 * s1 0 2).toNatClampNeg = b := by rw [d2, d3]; exact p_nat (by omega)
    have hcC : fX4_isCaught s2 0 (r1 - r1 / s1 0 2 * s1 0 2) = some (if s2 0 (146 + 5 * b + 4) = 1 then 1 else 0) := by rw [d2, d3]; exact p_caughtC (by omega)
    rw [Option.bind_some, Option.bind_some]
    dsimp only
    rw [if_neg hBn', d4, d7, Option.bind_some, Option.bind_some]
    dsimp only
    have hinA : xin (fX13_at (Int32.ofNat b) 1) 186 := by rw [at1]; exact hin1
    have natA : (fX13_at (Int32.ofNat b) 1).toNatClampNeg = 146 + 5 * b + 1 := by rw [at1]; exact p_nat (by omega)
    rw [hcC, p_caughtM g1 (by omega), d5, Option.bind_some, Option.bind_some]
    have go : ∀ y, pI y 64 → ∃ w w' : Int32 × xM, (fX0_passes_2 (xup s2 0 (146 + 5 * b + 1) y)).bind (fun r12 => gX0_thunders_2 (Int32.ofNat a) n (Int32.ofNat (k + 1)) r12) = gX0_thunders_2 (Int32.ofNat a) n w.1 w.2 ∧ (fX13_hour (xup t2 20 (146 + 5 * b + 1) y)).bind (fun r16 => gX13_thunder_48 (Int32.ofNat a) n (Int32.ofNat (k + 1)) r16) = gX13_thunder_48 (Int32.ofNat a) n w'.1 w'.2 ∧ k + 1 ≤ a ∧ w.1 = Int32.ofNat (k + 1) ∧ w'.1 = Int32.ofNat (k + 1) ∧ pRow w.2 0 w'.2 20 ∧ pWB B (w.2 0) ∧ pF [0] σ w.2 ∧ pF [20] τ w'.2 := by
      intro y hy
      have f1 : pRow (xup s2 0 (146 + 5 * b + 1) y) 0 (xup t2 20 (146 + 5 * b + 1) y) 20 := fun i hi => by
        rw [xup_row, xup_row]; exact pUp_congr g1 _ y i hi
      have f2 : pWB B (xup s2 0 (146 + 5 * b + 1) y 0) := by
        rw [xup_row]
        exact g2.bell b 1 y (by omega) (by omega) (by omega) (fun _ => hy) (by omega) (by omega) (by omega)
      have f3 : pF [20] τ (xup t2 20 (146 + 5 * b + 1) y) := (e6.trans g4).up _ _ _ (by decide)
      have f4 : pF [0] σ (xup s2 0 (146 + 5 * b + 1) y) := (e5.trans g3).up _ _ _ (by decide)
      obtain ⟨s3, t3, h1, h2, h3, h4, h5, h6, _⟩ := p_hour f1 f2 (hO.r f3 (by decide))
      rw [h1, h2]
      simp only [Option.bind_some]
      exact ⟨(_, s3), (_, t3), rfl, rfl, by omega, rfl, rfl, h3, h4, f4.trans h5, f3.trans h6⟩
    by_cases q2 : s2 0 (146 + 5 * b + 4) = 1
    · have h10 : ¬ (1 : Int32) = 0 := by decide
      rw [if_pos q2, if_neg h10, if_neg h10, if_pos hin', if_pos hin', hbi, Option.bind_some, if_pos hinA, hnat, natA, p_s]
      exact go _ (g2.2.2.2.2.2.1 b (by omega)).2.1
    · rw [if_neg q2, if_pos rfl, if_pos rfl, if_pos hin', if_pos hinA, hnat, natA, p_s]
      exact go _ ⟨c, hc, rfl⟩
theorem p_thunder {σ τ : xM} (hR : pR σ τ) (a1 : Int32) : pOk (fX0_thunder σ a1) (fX13_thunder τ a1) σ τ := by
  have h0' : ((0 : Int32).toNatClampNeg) = 0 := by decide
  obtain ⟨B, hB⟩ := hR.1.2
  have hB8 := hB.1
  unfold fX0_thunder fX13_thunder fX4_isLate
  rw [show fX13_within a1 1 20 = fX0_in a1 1 20 from rfl, h0', p_two, hR.1.1 0 (by omega), hR.1.1 2 (by omega), hB.2.1]
  by_cases h1 : fX0_in a1 1 20 = 0
  · rw [if_pos h1, if_pos h1]; exact pf0 hR
  rw [if_neg h1, if_neg h1]
  by_cases h2 : Int32.ofNat B = 0
  · rw [if_pos h2, if_pos h2]; exact pf4 hR
  rw [if_neg h2, if_neg h2]
  have hB0 : 0 < B := by
    have : B ≠ 0 := fun q => h2 (by rw [q]; rfl)
    omega
  by_cases h3 : σ 0 0 + a1 ≤ 99999
  · rw [if_pos h3, if_pos h3, if_pos rfl]
    obtain ⟨k, _, hk, rfl⟩ := p_range1 (n := 20) (m := 1) (by decide) (by decide) h1
    obtain ⟨r, r', e1, e2, s1, s2, s3, s4⟩ := p_thunders hR.1.1 hB hB0 hR.2 (a := k) (by omega)
    unfold fX0_thunders
    rw [e1, e2]
    simp only [Option.bind]
    rw [p_whoC _ s2.1 s2.2.1, p_whoM s1 s2.1 s2.2.1]
    simp only
    rw [p_bitsK _ (Nat.lt_trans (p_mask256 s2.1) (by decide))]
    exact ⟨_, _, _, rfl, rfl, hR.mk s1 s2 s3 s4 (by decide) (by decide), s3.mono (by decide), s4.mono (by decide)⟩
  · rw [if_neg h3, if_neg h3, if_neg (by decide)]; exact pf4 hR

