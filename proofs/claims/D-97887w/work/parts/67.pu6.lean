set_option maxRecDepth 100000
/-! ears -/
theorem p_ears {σ τ : xM} (hR : pR σ τ) {s N : Nat} (hs : s < 4) (hN : N ≤ 40) (hl : fX0_length σ s = some (Int32.ofNat N)) (h29 : τ 29 s = Int32.ofNat N) : fX0_ears σ s = some (Int32.ofNat (N / 2)) ∧ fX13_ears τ (Int32.ofNat s) = some (Int32.ofNat (N / 2)) := by
  have e2 : Int32.ofNat N / 2 = Int32.ofNat (N / 2) := p_div (b := 2) (by omega) (by omega)
  constructor
  · unfold fX0_ears
    rw [hl, Option.bind_some, e2]
  · unfold fX13_ears
    rw [if_pos ((p_in (by omega)).2 hs), p_nat (by omega), h29, e2]
/-- every ear stands on a cell -/
def pEar (σ : xM) (s N : Nat) : Prop := ∀ k, k < N / 2 → ¬ fX0_isCell (σ 15 (40 * s + 2 * k)) = 0
theorem p_twice (k : Nat) : (2 : Int32) * Int32.ofNat k = Int32.ofNat (2 * k) := p_mul 2 k
theorem p_needEars {σ τ : xM} (hR : pR σ τ) {s N : Nat} (hs : s < 4) (hN : N ≤ 40) (hw : ¬ σ 13 s = 0) (h14 : σ 14 s = Int32.ofNat N) : (pEar σ s N ∧ fX0_needEars σ s = some (some (), σ)) ∨ (¬ pEar σ s N ∧ fX0_needEars σ s = some (none, xup σ 11 0 4)) := by
  obtain ⟨N', hN', h14', h29, hl, hnum, h30⟩ := p_sheetN hR hs hw
  have eN : N' = N := (p_eq (by omega) (by omega)).1 (h14'.symm.trans h14)
  subst eN
  obtain ⟨ee, _⟩ := p_ears hR hs hN hl h29
  have key := p_loop (G := fun n (r : Int32 × xM) => gX0_needEars_2 s n r.1 r.2) (fun k r => k ≤ N' / 2 ∧ r = (Int32.ofNat k, σ) ∧ ∀ i, i < k → ¬ fX0_isCell (σ 15 (40 * s + 2 * i)) = 0) (Post := fun r => (pEar σ s N' ∧ ∃ x, r = (some x, σ)) ∨ (¬ pEar σ s N' ∧ r = (none, xup σ 11 0 4))) (N' / 2) ?_ 0 (0, σ) ⟨Nat.zero_le _, rfl, fun i hi => by omega⟩ xfu (by unfold xfu; omega)
  · obtain ⟨r, h1, h2⟩ := key
    unfold fX0_needEars
    rw [show gX0_needEars_2 s xfu 0 σ = some r from h1]
    rcases h2 with ⟨h2, x, rfl⟩ | ⟨h2, rfl⟩
    · exact Or.inl ⟨h2, rfl⟩
    · exact Or.inr ⟨h2, rfl⟩
  · rintro k n r ⟨hk, rfl, h1⟩
    dsimp only
    rw [gX0_needEars_2, ee, Option.bind_some]
    by_cases q : k = N' / 2
    · right
      rw [if_pos (by rw [q]; exact Int32.le_refl _)]
      exact ⟨_, rfl, Or.inl ⟨fun i hi => h1 i (by omega), _, rfl⟩⟩
    · have hle : ¬ Int32.ofNat (N' / 2) ≤ Int32.ofNat k := fun q => by have := (p_le (by omega) (by omega)).1 q; omega
      rw [if_neg hle, p_twice, hnum (2 * k) (by omega), Option.bind_some]
      by_cases q2 : fX0_isCell (σ 15 (40 * s + 2 * k)) = 0
      · right
        rw [q2, p_need0]
        exact ⟨_, rfl, Or.inr ⟨fun w => w k (by omega) q2, rfl⟩⟩
      · left
        rw [p_need1 σ q2, p_s]
        refine ⟨by omega, (Int32.ofNat (k + 1), σ), rfl, by omega, rfl, fun i hi => ?_⟩
        by_cases w : i = k
        · rw [w]; exact q2
        · exact h1 i (by omega)
theorem p_earOf {σ τ : xM} (hR : pR σ τ) {s k : Nat} (hs : s < 4) (hk : 2 * k < 40) : fX13_earOf τ (Int32.ofNat s) (Int32.ofNat k) = some (σ 15 (40 * s + 2 * k)) := by
  unfold fX13_earOf
  rw [p_twice, p_ij, if_pos ((p_in (by omega)).2 (by omega)), p_nat (by omega), ((hR.2.2.2.2.1 s hs).2.2.2.2 (2 * k) hk).1]
theorem p_areEars {σ τ : xM} (hR : pR σ τ) {s N : Nat} (hs : s < 4) (hN : N ≤ 40) (hw : ¬ σ 13 s = 0) (h14 : σ 14 s = Int32.ofNat N) : (pEar σ s N ∧ fX13_areEars τ (Int32.ofNat s) = some 1) ∨ (¬ pEar σ s N ∧ fX13_areEars τ (Int32.ofNat s) = some 0) := by
  obtain ⟨N', hN', h14', h29, hl, hnum, h30⟩ := p_sheetN hR hs hw
  have eN : N' = N := (p_eq (by omega) (by omega)).1 (h14'.symm.trans h14)
  subst eN
  obtain ⟨_, ee⟩ := p_ears hR hs hN hl h29
  have key := p_loop (G := fun n (r : Int32 × Int32) => gX13_areEars_4 τ (Int32.ofNat s) n r.1 r.2) (fun k r => k ≤ N' / 2 ∧ r.2 = Int32.ofNat k ∧ ((r.1 = 1 ∧ ∀ i, i < k → ¬ fX0_isCell (σ 15 (40 * s + 2 * i)) = 0) ∨ (r.1 = 0 ∧ ¬ ∀ i, i < k → ¬ fX0_isCell (σ 15 (40 * s + 2 * i)) = 0))) (Post := fun r => (pEar σ s N' ∧ r.1 = 1) ∨ (¬ pEar σ s N' ∧ r.1 = 0)) (N' / 2) ?_ 0 (1, 0) ⟨Nat.zero_le _, rfl, Or.inl ⟨rfl, fun i hi => by omega⟩⟩ xfu (by unfold xfu; omega)
  · obtain ⟨r, h1, h2⟩ := key
    unfold fX13_areEars
    rw [show gX13_areEars_4 τ (Int32.ofNat s) xfu 1 0 = some r from h1, Option.bind_some]
    rcases h2 with ⟨h2, h3⟩ | ⟨h2, h3⟩
    · rw [h3]; exact Or.inl ⟨h2, rfl⟩
    · rw [h3]; exact Or.inr ⟨h2, rfl⟩
  · rintro k n ⟨x, y⟩ ⟨hk, e, h1⟩
    dsimp only at e h1 ⊢
    subst e
    rw [gX13_areEars_4, ee, Option.bind_some]
    by_cases q : k = N' / 2
    · right
      rw [if_pos (by rw [q]; exact Int32.le_refl _)]
      refine ⟨_, rfl, ?_⟩
      unfold pEar
      rw [← q]
      rcases h1 with ⟨h1, h2⟩ | ⟨h1, h2⟩
      · exact Or.inl ⟨h2, h1⟩
      · exact Or.inr ⟨h2, h1⟩
    · left
      have hle : ¬ Int32.ofNat (N' / 2) ≤ Int32.ofNat k := fun q => by have := (p_le (by omega) (by omega)).1 q; omega
      rw [if_neg hle, p_earOf hR hs (by omega), Option.bind_some, p_s, show fX13_isCell (σ 15 (40 * s + 2 * k)) = fX0_isCell (σ 15 (40 * s + 2 * k)) from rfl]
      refine ⟨by omega, ?_⟩
      rcases h1 with ⟨rfl, h2⟩ | ⟨rfl, h2⟩
      · rw [if_neg (by decide : ¬ (1 : Int32) = 0)]
        by_cases q2 : fX0_isCell (σ 15 (40 * s + 2 * k)) = 0
        · rw [if_pos q2]
          exact ⟨(_, _), rfl, by omega, rfl, Or.inr ⟨rfl, fun w => w k (by omega) q2⟩⟩
        · rw [if_neg q2]
          refine ⟨(_, _), rfl, by omega, rfl, Or.inl ⟨rfl, fun i hi => ?_⟩⟩
          by_cases w : i = k
          · rw [w]; exact q2
          · exact h2 i (by omega)
      · rw [if_pos rfl]
        exact ⟨(_, _), rfl, by omega, rfl, Or.inr ⟨rfl, fun w => h2 (fun i hi => w i (by omega))⟩⟩
/-- does it sound so: both sides alike -/
theorem p_so {σ τ : xM} (hR : pR σ τ) {s N : Nat} (hs : s < 4) (hN : N ≤ 40) (hw : ¬ σ 13 s = 0) (h14 : σ 14 s = Int32.ofNat N) (hE : pEar σ s N) (w : Int32) {p : Nat} (hp : p < 64) : ∃ r, fX0_soundsSo σ s w (Int32.ofNat p) = some r ∧ fX13_isSo τ (Int32.ofNat s) w (Int32.ofNat p) = some r ∧ (r = 0 ∨ r = 1) := by
  obtain ⟨N', hN', h14', h29, hl, hnum, h30⟩ := p_sheetN hR hs hw
  have eN : N' = N := (p_eq (by omega) (by omega)).1 (h14'.symm.trans h14)
  subst eN
  obtain ⟨ee, ee'⟩ := p_ears hR hs hN hl h29
  have key := p_lock (G := fun n (r : Int32 × Int32) => gX0_soundsSo_5 σ s w (Int32.ofNat p) n r.1 r.2) (G' := fun n (r : Int32 × Int32) => gX13_isSo_6 τ (Int32.ofNat s) w (Int32.ofNat p) n r.1 r.2) (fun k r r' => r = r' ∧ k ≤ N' / 2 ∧ r.2 = Int32.ofNat k ∧ (r.1 = 0 ∨ r.1 = 1)) (Post := fun r r' => r = r' ∧ (r.1 = 0 ∨ r.1 = 1)) (N' / 2) ?_ 0 (1, 0) (1, 0) ⟨rfl, Nat.zero_le _, rfl, Or.inr rfl⟩ xfu (by unfold xfu; omega)
  · obtain ⟨r, r', h1, h2, rfl, h3⟩ := key
    refine ⟨r.1, ?_, ?_, h3⟩
    · unfold fX0_soundsSo
      rw [show gX0_soundsSo_5 σ s w (Int32.ofNat p) xfu 1 0 = some r from h1, Option.bind_some, if_pos h3]
    · unfold fX13_isSo
      rw [show gX13_isSo_6 τ (Int32.ofNat s) w (Int32.ofNat p) xfu 1 0 = some r from h2, Option.bind_some, if_pos h3]
  · rintro k n ⟨x, y⟩ r' ⟨rfl, hk, e, h1⟩
    dsimp only at e h1 ⊢
    subst e
    rw [gX0_soundsSo_5, gX13_isSo_6, ee, ee', Option.bind_some, Option.bind_some]
    by_cases q : k = N' / 2
    · right
      rw [if_pos (by rw [q]; exact Int32.le_refl _), if_pos (by rw [q]; exact Int32.le_refl _)]
      exact ⟨_, _, rfl, rfl, rfl, h1⟩
    · left
      refine ⟨by omega, ?_⟩
      have hle : ¬ Int32.ofNat (N' / 2) ≤ Int32.ofNat k := fun q => by have := (p_le (by omega) (by omega)).1 q; omega
      obtain ⟨c, hc, hce⟩ := p_range (n := 63) (by decide) (hE k (by omega))
      have h21 : Int32.ofNat (2 * k) + 1 = Int32.ofNat (2 * k + 1) := p_s _
      have h22 : Int32.ofNat (40 * s + 2 * k) + 1 = Int32.ofNat (40 * s + 2 * k + 1) := p_s _
      rw [if_neg hle, if_neg hle, p_earOf hR hs (by omega), Option.bind_some, p_twice, hnum (2 * k) (by omega), Option.bind_some, h21, hnum (2 * k + 1) (by omega), Option.bind_some, p_ij, h22, if_pos ((p_in (by omega)).2 (by omega)), p_nat (by omega), Nat.add_assoc, h30 (2 * k + 1) (by omega), hce, p_s]
      have hlo : fX13_loudOf w (Int32.ofNat p) (Int32.ofNat c) = fX0_loudBy w (fX0_apart (Int32.ofNat c) (Int32.ofNat p)) := by
        unfold fX13_loudOf fX0_loudBy
        rw [p_apartS (by omega) hp]
      rw [hlo]
      rcases h1 with rfl | rfl
      · rw [if_pos rfl, if_pos rfl]
        exact ⟨(_, _), (_, _), rfl, rfl, rfl, by omega, rfl, Or.inl rfl⟩
      · rw [if_neg (by decide : ¬ (1 : Int32) = 0), if_neg (by decide : ¬ (1 : Int32) = 0)]
        by_cases q2 : fX0_loudBy w (fX0_apart (Int32.ofNat c) (Int32.ofNat p)) = σ 15 (40 * s + (2 * k + 1))
        · rw [if_pos q2, if_pos q2]
          exact ⟨(_, _), (_, _), rfl, rfl, rfl, by omega, rfl, Or.inr rfl⟩
        · rw [if_neg q2, if_neg q2]
          exact ⟨(_, _), (_, _), rfl, rfl, rfl, by omega, rfl, Or.inl rfl⟩
theorem p_earsOf {σ τ : xM} (hR : pR σ τ) (a : Int32) : (∃ k x, (k = 0 ∧ x = 0 ∨ k = 5 ∧ x = 5) ∧ fX0_earsOf σ a = some (none, xup σ 11 0 x) ∧ fX13_lacks τ a = some (-1000001 - Int32.ofNat k) ∧ x = Int32.ofNat k) ∨ (∃ s, s < 4 ∧ a = Int32.ofNat s ∧ ¬ σ 13 s = 0 ∧ fX0_earsOf σ a = some (some (some s), σ) ∧ fX13_lacks τ a = some 0) := by
  unfold fX0_earsOf
  rcases p_rowAt hR a with ⟨h, e, e'⟩ | ⟨h, s, hs, rfl, ⟨hw, e, e'⟩ | ⟨hw, e, e'⟩⟩
  · left
    refine ⟨0, 0, Or.inl ⟨rfl, rfl⟩, ?_, e', rfl⟩
    rw [e]; rfl
  · left
    refine ⟨5, 5, Or.inr ⟨rfl, rfl⟩, ?_, e', rfl⟩
    rw [e]
    simp only [xbt, xro]
    rw [p_need0]
  · right
    refine ⟨s, hs, rfl, hw, ?_, e'⟩
    rw [e]
    simp only [xbt, xro]
    rw [if_pos hs, p_need1 σ (by decide)]
theorem p_whose {σ τ : xM} (hR : pR σ τ) (a1 : Int32) : pOk (fX0_whose σ a1) (fX13_whose τ a1) σ τ := by
  unfold fX0_whose fX13_whose fX13_lacksOf
  rcases p_earsOf hR a1 with ⟨k, x, hk, e, e', hx⟩ | ⟨s, hs, rfl, hw, e, e'⟩
  · have hne : ¬ (-1000001 - Int32.ofNat k) = 0 := by rcases hk with ⟨rfl, _⟩ | ⟨rfl, _⟩ <;> decide
    rw [e, e', Option.bind_some, if_neg hne, Option.bind_some, if_neg hne]
    exact p_ref hR k (by omega) rfl hx
  · obtain ⟨N, hN, h14, h29, hl, hnum, h30⟩ := p_sheetN hR hs hw
    obtain ⟨B, hB⟩ := hR.1.2
    have hB8 := hB.1
    rw [e, e', Option.bind_some, if_pos rfl, if_neg (by decide : ¬ fX13_within 1 1 99 = 0)]
    simp only [xct, xro]
    rw [if_pos hs]
    rcases p_needEars hR hs hN hw h14 with ⟨hE, d⟩ | ⟨hE, d⟩
    · rcases p_areEars hR hs hN hw h14 with ⟨_, d'⟩ | ⟨hE', _⟩
      · rw [d, d', Option.bind_some, if_neg (by decide : ¬ (1 : Int32) = 0), Option.bind_some, if_pos rfl]
        simp only
        have hso : ∀ k, k < B → ∃ r, fX0_soundsSo σ s (σ 0 (146 + 5 * k + 3)) (σ 0 (146 + 5 * k + 1)) = some r ∧ fX13_isSo τ (Int32.ofNat s) (σ 0 (146 + 5 * k + 3)) (σ 0 (146 + 5 * k + 1)) = some r := by
          intro k hk
          obtain ⟨p, hp, hpe⟩ := (hB.2.2.2.2.2.1 k (by omega)).2.1
          rw [hpe]
          obtain ⟨r, r1, r2, _⟩ := p_so hR hs hN hw h14 hE (σ 0 (146 + 5 * k + 3)) hp
          exact ⟨r, r1, r2⟩
        obtain ⟨r, e1, e2⟩ := p_bells hR.1.1 hB (G := gX0_whose_16 σ s) (G' := gX13_whose_24 τ (Int32.ofNat s)) (f := fun k x => if σ 0 (146 + 5 * k + 4) = 1 then x ||| 0 else (if (fX0_soundsSo σ s (σ 0 (146 + 5 * k + 3)) (σ 0 (146 + 5 * k + 1))).getD 0 = 0 then x ||| 0 else x ||| (1 <<< (Int32.ofNat k &&& 31))))
          (fun n x y h => by rw [gX0_whose_16, if_pos h]) (fun n x y h => by rw [gX13_whose_24, p_two, if_pos h])
          (fun n x k hk h => by
            obtain ⟨r, r1, r2⟩ := hso k hk
            have hin : xin (Int32.ofNat k) 8 := (p_in (by omega)).2 (by omega)
            rw [gX0_whose_16, if_neg h, p_caughtC (by omega), Option.bind_some, if_pos hin, if_pos hin, p_nat (show k < 2 ^ 31 by omega), r1, p_s, Option.bind_some]
            by_cases q : σ 0 (146 + 5 * k + 4) = 1
            · rw [if_pos q, if_neg (by decide : ¬ (1 : Int32) = 0), if_pos q]
            · rw [if_neg q, if_pos rfl, if_neg q]
              simp only [Option.getD]
              by_cases q2 : r = 0
              · rw [if_pos q2, if_pos q2]
              · rw [if_neg q2, if_neg q2])
          (fun n x k hk h => by
            obtain ⟨r, r1, r2⟩ := hso k hk
            have h3 : fX13_bellIs τ (Int32.ofNat k) 3 = some (σ 0 (146 + 5 * k + 3)) := p_bellIs hR.1.1 (by omega) (f := 3) (by omega)
            have h1 : fX13_bellIs τ (Int32.ofNat k) 1 = some (σ 0 (146 + 5 * k + 1)) := p_bellIs hR.1.1 (by omega) (f := 1) (by omega)
            rw [gX13_whose_24, p_two, if_neg h, p_caughtM hR.1.1 (by omega), Option.bind_some, h3, Option.bind_some, h1, Option.bind_some, r1, r2, p_s, Option.bind_some]
            by_cases q : σ 0 (146 + 5 * k + 4) = 1
            · rw [if_pos q, if_neg (by decide : ¬ (1 : Int32) = 0), if_pos q]
            · rw [if_neg q, if_pos rfl, if_neg q]
              simp only [Option.getD]
              by_cases q2 : r = 0
              · rw [if_pos q2, if_pos q2]
              · rw [if_neg q2, if_neg q2]) 0
        rw [e1, e2, Option.bind_some, Option.bind_some]
        exact pOk.q hR _
      · exact absurd hE hE'
    · rcases p_areEars hR hs hN hw h14 with ⟨hE', _⟩ | ⟨_, d'⟩
      · exact absurd hE' hE
      · rw [d, d', Option.bind_some, if_pos rfl, Option.bind_some, if_neg (by decide)]
        exact p_ref hR 4 (by decide) (b := -1000005) (x := 4) (by decide) (by decide)

def pCnt (f : Nat → Int32) : Nat → Nat
  | 0 => 0
  | k + 1 => pCnt f k + (if f k = 0 then 0 else 1)
theorem pCnt_s (f : Nat → Int32) (k : Nat) : pCnt f (k + 1) = pCnt f k + (if f k = 0 then 0 else 1) := rfl
theorem pCnt_le (f : Nat → Int32) (k : Nat) : pCnt f k ≤ k := by
  induction k with
  | zero => exact Nat.le_refl _
  | succ k ih =>
    rw [pCnt_s]
    by_cases q : f k = 0
    · rw [if_pos q]; omega
    · rw [if_neg q]; omega
theorem pCnt_mono (f : Nat → Int32) {a b : Nat} (h : a ≤ b) : pCnt f a ≤ pCnt f b := by
  induction b with
  | zero =>
    have : a = 0 := by omega
    subst this; exact Nat.le_refl _
  | succ b ih =>
    by_cases q : a = b + 1
    · subst q; exact Nat.le_refl _
    · have := ih (by omega)
      rw [pCnt_s]
      omega
theorem pCnt_0 (f : Nat → Int32) (k : Nat) : pCnt f k = 0 ↔ ∀ p, p < k → f p = 0 := by
  induction k with
  | zero => exact ⟨fun _ p hp => by omega, fun _ => rfl⟩
  | succ k ih =>
    rw [pCnt_s]
    by_cases q : f k = 0
    · rw [if_pos q, Nat.add_zero, ih]
      refine ⟨fun h p hp => ?_, fun h p hp => h p (by omega)⟩
      by_cases w : p = k
      · rw [w]; exact q
      · exact h p (by omega)
    · rw [if_neg q]
      exact ⟨fun h => by omega, fun h => absurd (h k (by omega)) q⟩
/-- all that is known of the places: which of them sound so -/
def pFt (σ τ : xM) (s : Nat) (w : Int32) (f : Nat → Int32) : Prop := (∀ p, f p = 0 ∨ f p = 1) ∧ (∀ σ', pT σ σ' → ∀ p, p < 64 → fX0_soundsSo σ' s w (Int32.ofNat p) = some (f p)) ∧ ∀ τ', pF [25] τ τ' → ∀ p, p < 64 → fX13_isSo τ' (Int32.ofNat s) w (Int32.ofNat p) = some (f p)
theorem p_fit {σ τ : xM} (hR : pR σ τ) {s N : Nat} (hs : s < 4) (hN : N ≤ 40) (hw : ¬ σ 13 s = 0) (h14 : σ 14 s = Int32.ofNat N) (hE : pEar σ s N) (w : Int32) : ∃ f, pFt σ τ s w f := by
  have key : ∀ σ' τ', pT σ σ' → pF [25] τ τ' → ∀ p, p < 64 → ∃ r, fX0_soundsSo σ' s w (Int32.ofNat p) = some r ∧ fX13_isSo τ' (Int32.ofNat s) w (Int32.ofNat p) = some r ∧ (r = 0 ∨ r = 1) := by
    intro σ' τ' h1 h2 p hp
    have hR' := h1.r hR
    have hR2 : pR σ' τ' := ⟨⟨fun i hi => by rw [h2 20 i (by decide) (by omega)]; exact hR'.1.1 i hi, hR'.1.2⟩, hR'.2.r h2 (by decide)⟩
    refine p_so hR2 hs hN ?_ ?_ ?_ w hp
    · rw [h1.row (v := 13) (by omega)]; exact hw
    · rw [h1.row (v := 14) (by omega)]; exact h14
    · unfold pEar
      rw [h1.row (v := 15) (by omega)]; exact hE
  refine ⟨fun p => if p < 64 then (fX13_isSo τ (Int32.ofNat s) w (Int32.ofNat p)).getD 0 else 0, fun p => ?_, fun σ' h1 p hp => ?_, fun τ' h2 p hp => ?_⟩
  · by_cases hp : p < 64
    · obtain ⟨r, _, e, hr⟩ := key σ τ (pT.refl _) (pF.refl _ _) p hp
      dsimp only
      rw [if_pos hp, e]
      exact hr
    · dsimp only
      rw [if_neg hp]; exact Or.inl rfl
  · obtain ⟨r, e1, e2, _⟩ := key σ' τ h1 (pF.refl _ _) p hp
    dsimp only
    rw [if_pos hp, e1, e2]; rfl
  · obtain ⟨r, e1, e2, _⟩ := key σ τ' (pT.refl _) h2 p hp
    obtain ⟨r', e1', e2', _⟩ := key σ τ (pT.refl _) (pF.refl _ _) p hp
    dsimp only
    rw [if_pos hp, e2, e2']
    exact e1.symm.trans e1'
theorem p_tells {σ τ : xM} {s : Nat} {w : Int32} {f : Nat → Int32} (hf : pFt σ τ s w f) {σ1 : xM} (h1 : pT σ σ1) (h6 : σ1 6 2 = -1) : ∃ σ', (∃ x, gX0_tellsFits_32 s w xfu 0 63 σ1 = some (Int32.ofNat (pCnt f 64), x, σ')) ∧ pT σ σ' ∧ (∀ p, p < 64 → σ' 9 p = f p) ∧ ((σ' 6 2 = -1 ∧ ∀ p, p < 64 → f p = 0) ∨ ∃ p, p < 64 ∧ σ' 6 2 = Int32.ofNat p ∧ ¬ f p = 0 ∧ ∀ q, q < p → f q = 0) := by
  have nb0 : vp_nar .boolean 0 = 0 := rfl
  have nb1 : vp_nar .boolean 1 = 1 := rfl
  have key := p_loop (G := fun n (r : Int32 × Int32 × xM) => gX0_tellsFits_32 s w n r.1 r.2.1 r.2.2) (fun k r => k ≤ 64 ∧ r.2.1 = Int32.ofNat (64 - k) - 1 ∧ r.1 = Int32.ofNat (pCnt f 64 - pCnt f (64 - k)) ∧ pT σ r.2.2 ∧ (∀ p, 64 - k ≤ p → p < 64 → r.2.2 9 p = f p) ∧ ((r.2.2 6 2 = -1 ∧ ∀ p, 64 - k ≤ p → p < 64 → f p = 0) ∨ ∃ p, 64 - k ≤ p ∧ p < 64 ∧ r.2.2 6 2 = Int32.ofNat p ∧ ¬ f p = 0 ∧ ∀ q, 64 - k ≤ q → q < p → f q = 0))
    (Post := fun r => r.1 = Int32.ofNat (pCnt f 64) ∧ pT σ r.2.2 ∧ (∀ p, p < 64 → r.2.2 9 p = f p) ∧ ((r.2.2 6 2 = -1 ∧ ∀ p, p < 64 → f p = 0) ∨ ∃ p, p < 64 ∧ r.2.2 6 2 = Int32.ofNat p ∧ ¬ f p = 0 ∧ ∀ q, q < p → f q = 0)) 64 ?_ 0 (0, 63, σ1) ⟨Nat.zero_le _, rfl, by rw [Nat.sub_zero, Nat.sub_self]; rfl, h1, fun p h h' => by omega, Or.inl ⟨h6, fun p h h' => by omega⟩⟩ xfu (by unfold xfu; omega)
  · obtain ⟨⟨r1, r2, r3⟩, g1, g2, g3, g4, g5⟩ := key
    dsimp only at g1 g2 g3 g4 g5
    subst g2
    exact ⟨r3, ⟨r2, g1⟩, g3, g4, g5⟩
  · rintro k n ⟨x, y, a⟩ ⟨hk, e1, e2, g1, g2, g3⟩
    dsimp only at e1 e2 g1 g2 g3 ⊢
    subst e1 e2
    by_cases q : k = 64
    · right
      subst q
      rw [gX0_tellsFits_32, if_pos (by decide)]
      refine ⟨_, rfl, by rw [Nat.sub_self]; rfl, g1, fun p hp => g2 p (by omega) hp, ?_⟩
      rcases g3 with ⟨g3, g4⟩ | ⟨p, hp, hp2, g3, g4, g5⟩
      · exact Or.inl ⟨g3, fun p hp => g4 p (by omega) hp⟩
      · exact Or.inr ⟨p, hp2, g3, g4, fun q hq => g5 q (by omega) hq⟩
    · left
      refine ⟨by omega, ?_⟩
      obtain ⟨p, hp⟩ : ∃ p, p = 64 - k - 1 := ⟨_, rfl⟩
      have hp64 : p < 64 := by omega
      have hkp : 64 - k = p + 1 := by omega
      have hkp2 : 64 - (k + 1) = p := by omega
      have e63 : Int32.ofNat (64 - k) - 1 = Int32.ofNat p := by
        rw [hkp, ← p_s]; simp
      have hin : xin (Int32.ofNat p) 64 := (p_in (by omega)).2 hp64
      have hnp : (Int32.ofNat p).toNatClampNeg = p := p_nat (by omega)
      have e62 : Int32.ofNat p + -1 = Int32.ofNat (64 - (k + 1)) - 1 := by rw [hkp2, Int32.sub_eq_add_neg]
      have hc1 := pCnt_mono f (show p + 1 ≤ 64 by omega)
      have hc2 := pCnt_s f p
      rw [e63, gX0_tellsFits_32, if_neg (p_nlt0 _ (by omega)), hf.2.1 a g1 p hp64, Option.bind_some]
      simp only [if_pos hin]
      rw [hnp, e62]
      rcases hf.1 p with hv | hv
      · rw [hv, nb0, xup_s, if_pos rfl]
        have z : (xup (xup a 9 p 0) 6 2 ((xup a 9 p 0) 6 2)) 9 p = 0 := by rw [xup_n (by omega), xup_s]
        rw [if_pos z]
        rw [if_pos hv] at hc2
        refine ⟨(_, _, xup (xup a 9 p 0) 6 2 ((xup a 9 p 0) 6 2)), rfl, by omega, rfl, ?_, (g1.up _ _ _ (by omega)).up _ _ _ (by omega), fun p' h h' => ?_, ?_⟩
        · dsimp only
          rw [hkp2, hkp, hc2]; simp
        · dsimp only
          rw [xup_n (by omega)]
          by_cases w : p' = p
          · rw [w, xup_s, hv]
          · rw [xup_n (by omega)]; exact g2 p' (by omega) h'
        · dsimp only
          rw [xup_s, xup_n (by omega)]
          rcases g3 with ⟨g3, g4⟩ | ⟨p', hp1, hp2, g3, g4, g5⟩
          · refine Or.inl ⟨g3, fun q h h' => ?_⟩
            by_cases w : q = p
            · rw [w]; exact hv
            · exact g4 q (by omega) h'
          · refine Or.inr ⟨p', by omega, hp2, g3, g4, fun q h h' => ?_⟩
            by_cases w : q = p
            · rw [w]; exact hv
            · exact g5 q (by omega) h'
      · rw [hv, nb1, xup_s, if_neg (by decide : ¬ (1 : Int32) = 0)]
        have z : ¬ (xup (xup a 9 p 1) 6 2 (Int32.ofNat p)) 9 p = 0 := by rw [xup_n (by omega), xup_s]; decide
        rw [if_neg z]
        have hvn : ¬ f p = 0 := by rw [hv]; decide
        rw [if_neg hvn] at hc2
        refine ⟨(_, _, xup (xup a 9 p 1) 6 2 (Int32.ofNat p)), rfl, by omega, rfl, ?_, (g1.up _ _ _ (by omega)).up _ _ _ (by omega), fun p' h h' => ?_, ?_⟩
        · dsimp only
          rw [hkp2, hkp, p_s]
          congr 1
          omega
        · dsimp only
          rw [xup_n (by omega)]
          by_cases w : p' = p
          · rw [w, xup_s, hv]
          · rw [xup_n (by omega)]; exact g2 p' (by omega) h'
        · dsimp only
          rw [xup_s]
          exact Or.inr ⟨p, by omega, hp64, rfl, hvn, fun q h h' => by omega⟩
/-- what 'tellsFits' gives, and 'lacksOf' -/
theorem p_tellsFits {σ τ : xM} (hR : pR σ τ) (a1 a2 : Int32) : (∃ k x, k < 7 ∧ x = Int32.ofNat k ∧ fX0_tellsFits σ a1 a2 = some (none, xup σ 11 0 x) ∧ fX13_lacksOf τ a1 a2 = some (-1000001 - Int32.ofNat k) ∧ ¬ (-1000001 - Int32.ofNat k) = 0) ∨ (∃ s f σ' W, s < 4 ∧ a1 = Int32.ofNat s ∧ 1 ≤ W ∧ W ≤ 99 ∧ a2 = Int32.ofNat W ∧ pFt σ τ s a2 f ∧ fX0_tellsFits σ a1 a2 = some (some (Int32.ofNat (pCnt f 64)), σ') ∧ fX13_lacksOf τ a1 a2 = some 0 ∧ pT σ σ' ∧ (∀ p, p < 64 → σ' 9 p = f p) ∧ ((σ' 6 2 = -1 ∧ ∀ p, p < 64 → f p = 0) ∨ ∃ p, p < 64 ∧ σ' 6 2 = Int32.ofNat p ∧ ¬ f p = 0 ∧ ∀ q, q < p → f q = 0)) := by
  unfold fX0_tellsFits fX13_lacksOf
  rcases p_earsOf hR a1 with ⟨k, x, hk, e, e', hx⟩ | ⟨s, hs, rfl, hw, e, e'⟩
  · left
    have hne : ¬ (-1000001 - Int32.ofNat k) = 0 := by rcases hk with ⟨rfl, _⟩ | ⟨rfl, _⟩ <;> decide
    refine ⟨k, x, by omega, hx, ?_, ?_, hne⟩
    · rw [e]; rfl
    · rw [e', Option.bind_some, if_neg hne]
  · obtain ⟨N, hN, h14, h29, hl, hnum, h30⟩ := p_sheetN hR hs hw
    rw [e, e', Option.bind_some, if_pos rfl, show fX13_within a2 1 99 = fX0_isWeight a2 from rfl]
    simp only [xbt, xro]
    rw [if_pos hs]
    by_cases hwt : fX0_isWeight a2 = 0
    · left
      refine ⟨0, 0, by omega, rfl, ?_, ?_, by decide⟩
      · rw [hwt, p_need0]
      · rw [if_pos hwt]; rfl
    rw [p_need1 σ hwt, if_neg hwt]
    simp only
    rcases p_needEars hR hs hN hw h14 with ⟨hE, d⟩ | ⟨hE, d⟩
    · rcases p_areEars hR hs hN hw h14 with ⟨_, d'⟩ | ⟨hE', _⟩
      · right
        obtain ⟨W, hW1, hW2, rfl⟩ := p_range1 (n := 99) (m := 1) (by decide) (by decide) hwt
        obtain ⟨f, hf⟩ := p_fit hR hs hN hw h14 hE (Int32.ofNat W)
        obtain ⟨σ', ⟨y, g1⟩, g2, g3, g4⟩ := p_tells hf (σ1 := xup σ 6 2 (-1)) ((pT.refl _).up _ _ _ (by omega)) (xup_s _ _ _ _)
        refine ⟨s, f, σ', W, hs, rfl, hW1, hW2, rfl, hf, ?_, ?_, g2, g3, g4⟩
        · rw [d]
          simp only
          rw [g1, Option.bind_some]
        · rw [d', Option.bind_some, if_neg (by decide : ¬ (1 : Int32) = 0)]
      · exact absurd hE hE'
    · rcases p_areEars hR hs hN hw h14 with ⟨hE', _⟩ | ⟨_, d'⟩
      · exact absurd hE' hE
      · left
        refine ⟨4, 4, by omega, rfl, ?_, ?_, by decide⟩
        · rw [d]
        · rw [d', Option.bind_some, if_pos rfl]; rfl
theorem p_stands {σ τ : xM} (hR : pR σ τ) (a1 a2 : Int32) : pOk (fX0_stands σ a1 a2) (fX13_stands τ a1 a2) σ τ := by
  unfold fX0_stands fX13_stands
  rcases p_tellsFits hR a1 a2 with ⟨k, x, hk, hx, e, e', hne⟩ | ⟨s, f, σ', W, hs, rfl, hW1, hW2, rfl, hf, e, e', hT, h9, h6⟩
  · rw [e, e', Option.bind_some, if_neg hne]
    exact p_ref hR k hk rfl hx
  · rw [e, e', Option.bind_some, if_pos rfl]
    simp only [xct]
    obtain ⟨⟨r1, r2⟩, g1, g2⟩ := p_loop (G := fun n (r : Int32 × Int32) => gX13_stands_25 τ (Int32.ofNat s) (Int32.ofNat W) n r.1 r.2) (fun k r => k ≤ 64 ∧ r = (Int32.ofNat (pCnt f k), Int32.ofNat k)) (Post := fun r => r.1 = Int32.ofNat (pCnt f 64)) 64 (by
      rintro k n r ⟨hk, rfl⟩
      dsimp only
      by_cases q : k = 64
      · right
        subst q
        rw [gX13_stands_25, if_pos (by decide)]
        exact ⟨_, rfl, rfl⟩
      · left
        have hle : ¬ (64 : Int32) ≤ Int32.ofNat k := fun q => by have := (p_le (a := 64) (by omega) (by omega)).1 q; omega
        refine ⟨by omega, (Int32.ofNat (pCnt f (k + 1)), Int32.ofNat (k + 1)), ?_, by omega, rfl⟩
        rw [gX13_stands_25, if_neg hle, hf.2.2 τ (pF.refl _ _) k (by omega), Option.bind_some, p_s, p_s, pCnt_s]
        by_cases w : f k = 0
        · rw [if_pos w, if_pos w]; simp
        · rw [if_neg w, if_neg w]) 0 (0, 0) ⟨Nat.zero_le _, rfl⟩ xfu (by unfold xfu; omega)
    dsimp only at g1 g2
    rw [show gX13_stands_25 τ (Int32.ofNat s) (Int32.ofNat W) xfu 0 0 = _ from g1, Option.bind_some, g2]
    exact hT.ok (pOk.q (hT.r hR) _)
theorem p_where {σ τ : xM} (hR : pR σ τ) (a1 a2 : Int32) : pOk (fX0_where σ a1 a2) (fX13_where τ a1 a2) σ τ := by
  unfold fX0_where fX13_where
  rcases p_tellsFits hR a1 a2 with ⟨k, x, hk, hx, e, e', hne⟩ | ⟨s, f, σ', W, hs, rfl, hW1, hW2, rfl, hf, e, e', hT, h9, h6⟩
  · rw [e, e', Option.bind_some, if_neg hne]
    exact p_ref hR k hk rfl hx
  · rw [e, e', Option.bind_some, if_pos rfl]
    simp only [xct]
    obtain ⟨r1, g1, k, rfl, hk, g2, g3⟩ := p_loop (G := fun n (r : Int32) => gX13_where_22 τ (Int32.ofNat s) (Int32.ofNat W) n r) (fun k r => k ≤ 64 ∧ r = Int32.ofNat k ∧ ∀ p, p < k → f p = 0) (Post := fun r => ∃ k, r = Int32.ofNat k ∧ k ≤ 64 ∧ (∀ p, p < k → f p = 0) ∧ (k < 64 → ¬ f k = 0)) 64 (by
      rintro k n r ⟨hk, rfl, h1⟩
      by_cases q : k = 64
      · right
        subst q
        rw [gX13_where_22, if_pos (by decide)]
        exact ⟨_, rfl, 64, rfl, by omega, h1, fun w => by omega⟩
      · have hle : ¬ (64 : Int32) ≤ Int32.ofNat k := fun q => by have := (p_le (a := 64) (by omega) (by omega)).1 q; omega
        rw [gX13_where_22, if_neg hle, hf.2.2 τ (pF.refl _ _) k (by omega), Option.bind_some, p_s]
        by_cases w : f k = 0
        · left
          rw [if_pos w]
          refine ⟨by omega, _, rfl, by omega, rfl, fun p hp => ?_⟩
          by_cases v : p = k
          · rw [v]; exact w
          · exact h1 p (by omega)
        · right
          rw [if_neg w]
          exact ⟨_, rfl, k, rfl, hk, h1, fun _ => w⟩) 0 0 ⟨Nat.zero_le _, rfl, fun p hp => by omega⟩ xfu (by unfold xfu; omega)
    rw [show gX13_where_22 τ (Int32.ofNat s) (Int32.ofNat W) xfu 0 = _ from g1, Option.bind_some]
    have hc := pCnt_le f 64
    have hR' := hT.r hR
    rcases h6 with ⟨h6, h7⟩ | ⟨p, hp, h6, h7, h8⟩
    · have hz := (pCnt_0 f 64).2 h7
      have hk64 : k = 64 := by
        by_cases q : k < 64
        · exact absurd (h7 k q) (g3 q)
        · omega
      subst hk64
      rw [hz, if_pos (by decide : Int32.ofNat 0 ≤ 0), if_pos (by decide : Int32.ofNat 64 = 64), p_need0]
      exact hT.ok (p_ref hR' 3 (by decide) (b := -1000004) (x := 3) (by decide) (by decide))
    · have hz : ¬ Int32.ofNat (pCnt f 64) ≤ 0 := fun w => by
        have h1 := (p_le (b := 0) (by omega) (by omega)).1 w
        exact h7 ((pCnt_0 f 64).1 (by omega) p hp)
      have hkp : k = p := by
        by_cases q : k < p
        · exact absurd (h8 k q) (g3 (by omega))
        · by_cases q2 : p < k
          · exact absurd (g2 p q2) h7
          · omega
      subst hkp
      have hne : ¬ Int32.ofNat k = 64 := fun w => by have := (p_eq (b := 64) (by omega) (by omega)).1 w; omega
      rw [if_neg hz, if_neg hne, p_need1 σ' (by decide)]
      simp only
      rw [h6]
      exact hT.ok (pOk.q hR' _)

theorem p_max {a b : Nat} (ha : a < 2 ^ 31) (hb : b < 2 ^ 31) : fJ3_max (Int32.ofNat a) (Int32.ofNat b) = Int32.ofNat (max a b) := by
  unfold fJ3_max
  by_cases q : a < b
  · rw [if_pos ((p_lt ha hb).2 q), show max a b = b by omega]
  · rw [if_neg (fun w => q ((p_lt ha hb).1 w)), show max a b = a by omega]
theorem p_loudK : ∀ W, W < 100 → ∀ d, d < 15 → fX0_loudBy (Int32.ofNat W) (Int32.ofNat d) = Int32.ofNat (W - 3 * d) := by decide +kernel
theorem p_loudI {W p q : Nat} (hW : W < 100) (hp : p < 64) (hq : q < 64) : ∃ I, I < 100 ∧ fX0_loudBy (Int32.ofNat W) (fX0_apart (Int32.ofNat p) (Int32.ofNat q)) = Int32.ofNat I ∧ fX13_loudOf (Int32.ofNat W) (Int32.ofNat q) (Int32.ofNat p) = Int32.ofNat I := by
  obtain ⟨d, hd, e⟩ := p_apartI hp hq
  refine ⟨W - 3 * d, by omega, ?_, ?_⟩
  · rw [e, p_loudK W hW d hd]
  · unfold fX13_loudOf
    rw [p_apartS hp hq]
    show fX0_loudBy (Int32.ofNat W) (fX0_apart (Int32.ofNat p) (Int32.ofNat q)) = _
    rw [e, p_loudK W hW d hd]
theorem p_zero0 (σ : xM) : ∃ r, gX0_leftBy_2 xfu 0 σ = some r ∧ (∀ v i, v ≠ 10 → r.2 v i = σ v i) ∧ ∀ i, i < 100 → r.2 10 i = 0 := by
  refine p_loop (G := fun n (r : Int32 × xM) => gX0_leftBy_2 n r.1 r.2) (fun k r => k ≤ 100 ∧ r.1 = Int32.ofNat k ∧ (∀ v i, v ≠ 10 → r.2 v i = σ v i) ∧ ∀ i, i < k → r.2 10 i = 0) (Post := fun r => (∀ v i, v ≠ 10 → r.2 v i = σ v i) ∧ ∀ i, i < 100 → r.2 10 i = 0) 100 ?_ 0 (0, σ) ⟨Nat.zero_le _, rfl, fun _ _ _ => rfl, fun i hi => by omega⟩ xfu (by unfold xfu; omega)
  rintro k n ⟨x, a⟩ ⟨hk, e, h1, h2⟩
  dsimp only at e h1 h2 ⊢
  subst e
  by_cases q : k = 100
  · right
    subst q
    rw [gX0_leftBy_2, if_pos (by decide)]
    exact ⟨_, rfl, h1, h2⟩
  · left
    have hle : ¬ (99 : Int32) < Int32.ofNat k := fun q => by have := (p_lt (a := 99) (by omega) (by omega)).1 q; omega
    refine ⟨by omega, (Int32.ofNat (k + 1), xup a 10 k 0), ?_, by omega, rfl, fun v i hv => ?_, fun i hi => ?_⟩
    · rw [gX0_leftBy_2, if_neg hle, if_pos ((p_in (by omega)).2 (by omega)), p_nat (by omega), p_s]
    · dsimp only
      rw [xup_n (by omega)]; exact h1 v i hv
    · dsimp only
      by_cases w : i = k
      · rw [w, xup_s]
      · rw [xup_n (by omega)]; exact h2 i (by omega)
theorem p_zero1 (τ : xM) : ∃ r, gX13_worst_3 xfu 0 τ = some r ∧ pF [25] τ r.2 ∧ ∀ i, i < 100 → r.2 25 i = 0 := by
  refine p_loop (G := fun n (r : Int32 × xM) => gX13_worst_3 n r.1 r.2) (fun k r => k ≤ 100 ∧ r.1 = Int32.ofNat k ∧ pF [25] τ r.2 ∧ ∀ i, i < k → r.2 25 i = 0) (Post := fun r => pF [25] τ r.2 ∧ ∀ i, i < 100 → r.2 25 i = 0) 100 ?_ 0 (0, τ) ⟨Nat.zero_le _, rfl, pF.refl _ _, fun i hi => by omega⟩ xfu (by unfold xfu; omega)
  rintro k n ⟨x, a⟩ ⟨hk, e, h1, h2⟩
  dsimp only at e h1 h2 ⊢
  subst e
  by_cases q : k = 100
  · right
    subst q
    rw [gX13_worst_3, if_pos (by decide)]
    exact ⟨_, rfl, h1, h2⟩
  · left
    have hle : ¬ (99 : Int32) < Int32.ofNat k := fun q => by have := (p_lt (a := 99) (by omega) (by omega)).1 q; omega
    refine ⟨by omega, (Int32.ofNat (k + 1), xup a 25 k 0), ?_, by omega, rfl, h1.up _ _ _ (by decide), fun i hi => ?_⟩
    · rw [gX13_worst_3, if_neg hle, if_pos ((p_in (by omega)).2 (by omega)), p_nat (by omega), p_s]
    · dsimp only
      by_cases w : i = k
      · rw [w, xup_s]
      · rw [xup_n (by omega)]; exact h2 i (by omega)
theorem p_left {σ τ : xM} {s W : Nat} {f : Nat → Int32} (hW : W < 100) (hf : pFt σ τ s (Int32.ofNat W) f) {p : Nat} (hp : p < 64) {σ1 τ1 : xM} (h1 : pT σ σ1) (h9 : ∀ q, q < 64 → σ1 9 q = f q) (g1 : pF [25] τ τ1) : ∃ M σ2 τ2, fX0_leftBy σ1 (Int32.ofNat p) (Int32.ofNat W) = some (Int32.ofNat M, σ2) ∧ fX13_worst τ1 (Int32.ofNat s) (Int32.ofNat W) (Int32.ofNat p) = some (Int32.ofNat M, τ2) ∧ pT σ σ2 ∧ (∀ q, q < 64 → σ2 9 q = f q) ∧ pF [25] τ τ2 ∧ M ≤ 64 ∧ (M = 0 ↔ pCnt f 64 = 0) := by
  obtain ⟨⟨z, a⟩, a1, a2, a3⟩ := p_zero0 σ1
  obtain ⟨⟨z', b⟩, b1, b2, b3⟩ := p_zero1 τ1
  dsimp only at a1 a2 a3 b1 b2 b3
  have aT : pT σ a := fun v i c1 c2 c3 c4 c5 c6 c7 c8 c9 => (a2 v i c4).trans (h1 v i c1 c2 c3 c4 c5 c6 c7 c8 c9)
  have a9 : ∀ q, q < 64 → a 9 q = f q := fun q hq => (a2 9 q (by omega)).trans (h9 q hq)
  have key := p_lock (G := fun n (r : Int32 × Int32 × xM) => gX0_leftBy_26 (Int32.ofNat p) (Int32.ofNat W) n r.1 r.2.1 r.2.2) (G' := fun n (r : Int32 × Int32 × xM) => gX13_worst_30 (Int32.ofNat s) (Int32.ofNat W) (Int32.ofNat p) n r.1 r.2.1 r.2.2)
    (fun k r r' => k ≤ 64 ∧ r.2.1 = Int32.ofNat k ∧ r'.2.1 = Int32.ofNat k ∧ pT σ r.2.2 ∧ (∀ q, q < 64 → r.2.2 9 q = f q) ∧ pF [25] τ r'.2.2 ∧ ∃ M h, r.1 = Int32.ofNat M ∧ r'.1 = Int32.ofNat M ∧ M ≤ k ∧ (M = 0 ↔ pCnt f k = 0) ∧ ∀ i, i < 100 → r.2.2 10 i = Int32.ofNat (h i) ∧ r'.2.2 25 i = Int32.ofNat (h i) ∧ h i ≤ M)
    (Post := fun r r' => pT σ r.2.2 ∧ (∀ q, q < 64 → r.2.2 9 q = f q) ∧ pF [25] τ r'.2.2 ∧ ∃ M, r.1 = Int32.ofNat M ∧ r'.1 = Int32.ofNat M ∧ M ≤ 64 ∧ (M = 0 ↔ pCnt f 64 = 0)) 64 ?_ 0 (0, 0, a) (0, 0, b) ⟨Nat.zero_le _, rfl, rfl, aT, a9, g1.trans b2, 0, fun _ => 0, rfl, rfl, Nat.le_refl _, ⟨fun _ => rfl, fun _ => rfl⟩, fun i hi => ⟨a3 i hi, b3 i hi, Nat.le_refl _⟩⟩ xfu (by unfold xfu; omega)
  · obtain ⟨⟨r1, r2, r3⟩, ⟨t1, t2, t3⟩, d1, d2, d3, d4, d5, M, d6, d7, d8, d9⟩ := key
    dsimp only at d1 d2 d3 d4 d5 d6 d7
    subst d6 d7
    refine ⟨M, r3, t3, ?_, ?_, d3, d4, d5, d8, d9⟩
    · unfold fX0_leftBy
      rw [a1, Option.bind_some]
      dsimp only
      rw [d1, Option.bind_some]
    · unfold fX13_worst
      rw [b1, Option.bind_some]
      dsimp only
      rw [d2, Option.bind_some]
  · rintro k n ⟨x, y, c⟩ ⟨x', y', d⟩ ⟨hk, e1, e2, c1, c2, c3, M, h, e3, e4, hM, hM0, hh⟩
    dsimp only at e1 e2 c1 c2 c3 e3 e4 hh ⊢
    subst e1 e2 e3 e4
    by_cases q : k = 64
    · right
      subst q
      rw [gX0_leftBy_26, gX13_worst_30, if_pos (by decide), if_pos (by decide)]
      exact ⟨_, _, rfl, rfl, c1, c2, c3, M, rfl, rfl, hM, hM0⟩
    · left
      refine ⟨by omega, ?_⟩
      have hle : ¬ (64 : Int32) ≤ Int32.ofNat k := fun q => by have := (p_le (a := 64) (by omega) (by omega)).1 q; omega
      obtain ⟨I, hI, l1, l2⟩ := p_loudI hW hp (q := k) (by omega)
      have hin : xin (Int32.ofNat I) 100 := (p_in (by omega)).2 hI
      have hink : xin (Int32.ofNat k) 64 := (p_in (by omega)).2 (by omega)
      have hI0 : xin (fX0_loudBy (Int32.ofNat W) (fX0_apart (Int32.ofNat p) (Int32.ofNat k))) 100 := by rw [l1]; exact hin
      have hI1 : xin (fX13_loudOf (Int32.ofNat W) (Int32.ofNat k) (Int32.ofNat p)) 100 := by rw [l2]; exact hin
      have nI0 : (fX0_loudBy (Int32.ofNat W) (fX0_apart (Int32.ofNat p) (Int32.ofNat k))).toNatClampNeg = I := by rw [l1]; exact p_nat (by omega)
      have nI1 : (fX13_loudOf (Int32.ofNat W) (Int32.ofNat k) (Int32.ofNat p)).toNatClampNeg = I := by rw [l2]; exact p_nat (by omega)
      rw [gX0_leftBy_26, gX13_worst_30, if_neg hle, if_neg hle, if_pos hI0, if_pos hI1, if_pos hink, hf.2.2 d c3 k (by omega), Option.bind_some]
      simp only [if_pos hI0, if_pos hI1]
      rw [nI0, nI1, p_nat (show k < 2 ^ 31 by omega), c2 k (by omega), xup_s, xup_s, xup_s, xup_s, (hh I hI).1, (hh I hI).2.1, p_s, p_s, show Int32.ofNat (h I) + 0 = Int32.ofNat (h I) by simp]
      have hIM := (hh I hI).2.2
      rw [p_max (by omega) (by omega), p_max (by omega) (by omega)]
      have hs := pCnt_s f k
      by_cases w : f k = 0
      · rw [if_pos w] at hs
        rw [if_pos w, if_pos w]
        refine ⟨(_, _, xup c 10 I (Int32.ofNat (h I))), (_, _, xup d 25 I (Int32.ofNat (h I))), rfl, rfl, by omega, rfl, rfl, c1.up _ _ _ (by omega), fun q hq => by dsimp only; rw [xup_n (by omega)]; exact c2 q hq, c3.up _ _ _ (by decide), max M (h I), h, rfl, rfl, by omega, ?_, fun i hi => ?_⟩
        · rw [hs, Nat.add_zero, ← hM0]; omega
        · dsimp only
          have := (hh i hi).2.2
          by_cases v : i = I
          · rw [v, xup_s, xup_s]; exact ⟨rfl, rfl, by omega⟩
          · rw [xup_n (by omega), xup_n (by omega)]; exact ⟨(hh i hi).1, (hh i hi).2.1, by omega⟩
      · rw [if_neg w] at hs
        rw [if_neg w, if_neg w]
        refine ⟨(_, _, xup c 10 I (Int32.ofNat (h I + 1))), (_, _, xup d 25 I (Int32.ofNat (h I + 1))), rfl, rfl, by omega, rfl, rfl, c1.up _ _ _ (by omega), fun q hq => by dsimp only; rw [xup_n (by omega)]; exact c2 q hq, c3.up _ _ _ (by decide), max M (h I + 1), fun i => if i = I then h I + 1 else h i, rfl, rfl, by omega, by omega, fun i hi => ?_⟩
        dsimp only
        have := (hh i hi).2.2
        by_cases v : i = I
        · rw [v, xup_s, xup_s, if_pos rfl]; exact ⟨rfl, rfl, by omega⟩
        · rw [xup_n (by omega), xup_n (by omega), if_neg v]; exact ⟨(hh i hi).1, (hh i hi).2.1, by omega⟩
/-- how many are left at worst, by the place -/
def pLf (σ τ : xM) (s W : Nat) (f : Nat → Int32) (l : Nat → Nat) : Prop := (∀ p, p < 64 → l p ≤ 64 ∧ (l p = 0 ↔ pCnt f 64 = 0)) ∧ (∀ σ1, pT σ σ1 → (∀ q, q < 64 → σ1 9 q = f q) → ∀ p, p < 64 → ∃ σ2, fX0_leftBy σ1 (Int32.ofNat p) (Int32.ofNat W) = some (Int32.ofNat (l p), σ2) ∧ pT σ σ2 ∧ ∀ q, q < 64 → σ2 9 q = f q) ∧ ∀ τ1, pF [25] τ τ1 → ∀ p, p < 64 → ∃ τ2, fX13_worst τ1 (Int32.ofNat s) (Int32.ofNat W) (Int32.ofNat p) = some (Int32.ofNat (l p), τ2) ∧ pF [25] τ τ2
theorem p_lefts {σ τ : xM} {s W : Nat} {f : Nat → Int32} (hW : W < 100) (hf : pFt σ τ s (Int32.ofNat W) f) {σ1 : xM} (h1 : pT σ σ1) (h9 : ∀ q, q < 64 → σ1 9 q = f q) : ∃ l, pLf σ τ s W f l := by
  have base : ∀ p, p < 64 → ∃ M, M ≤ 64 ∧ (M = 0 ↔ pCnt f 64 = 0) ∧ (∃ σ2, fX0_leftBy σ1 (Int32.ofNat p) (Int32.ofNat W) = some (Int32.ofNat M, σ2)) ∧ ∃ τ2, fX13_worst τ (Int32.ofNat s) (Int32.ofNat W) (Int32.ofNat p) = some (Int32.ofNat M, τ2) := by
    intro p hp
    obtain ⟨M, s2, t2, e1, e2, _, _, _, e3, e4⟩ := p_left hW hf hp h1 h9 (pF.refl _ _)
    exact ⟨M, e3, e4, ⟨s2, e1⟩, t2, e2⟩
  refine ⟨fun p => ((fX13_worst τ (Int32.ofNat s) (Int32.ofNat W) (Int32.ofNat p)).map (fun r => r.1.toNatClampNeg)).getD 0, fun p hp => ?_, fun σ3 k1 k2 p hp => ?_, fun τ3 k1 p hp => ?_⟩
  · obtain ⟨M, e1, e2, _, t2, e3⟩ := base p hp
    dsimp only
    rw [e3]
    simp only [Option.map_some, Option.getD_some]
    rw [p_nat (by omega)]
    exact ⟨e1, e2⟩
  · obtain ⟨M, e1, _, _, t2, e3⟩ := base p hp
    obtain ⟨M', s2, t2', d1, d2, d3, d4, _, d5, _⟩ := p_left hW hf hp k1 k2 (pF.refl _ _)
    have eM : M' = M := by
      have := d2.symm.trans e3
      exact (p_eq (by omega) (by omega)).1 (Prod.mk.inj (Option.some.inj this)).1
    dsimp only
    rw [e3]
    simp only [Option.map_some, Option.getD_some]
    rw [p_nat (by omega), ← eM]
    exact ⟨s2, d1, d3, d4⟩
  · obtain ⟨M, e1, _, ⟨s2, e2⟩, t2, e3⟩ := base p hp
    obtain ⟨M', s2', t2', d1, d2, _, _, d4, d5, _⟩ := p_left hW hf hp h1 h9 k1
    have eM : M' = M := by
      have := d1.symm.trans e2
      exact (p_eq (by omega) (by omega)).1 (Prod.mk.inj (Option.some.inj this)).1
    dsimp only
    rw [e3]
    simp only [Option.map_some, Option.getD_some]
    rw [p_nat (by omega), ← eM]
    exact ⟨t2', d2, d4⟩
theorem p_ear {σ τ : xM} (hR : pR σ τ) (a1 a2 : Int32) : pOk (fX0_ear σ a1 a2) (fX13_ear τ a1 a2) σ τ := by
  unfold fX0_ear fX13_ear
  rcases p_tellsFits hR a1 a2 with ⟨k, x, hk, hx, e, e', hne⟩ | ⟨s, f, σ', W, hs, rfl, hW1, hW2, rfl, hf, e, e', hT, h9, h6⟩
  · rw [e, e', Option.bind_some, if_neg hne]
    exact p_ref hR k hk rfl hx
  · rw [e, e', Option.bind_some, if_pos rfl]
    simp only [xct]
    obtain ⟨l, hl⟩ := p_lefts (by omega) hf hT h9
    have hc := pCnt_le f 64
    have hR' := hT.r hR
    obtain ⟨⟨m1, m2, m3, m4⟩, g1, g2, b, hb, g3, g4, g5, g6⟩ := p_loop (G := fun n (r : Int32 × Int32 × Int32 × xM) => gX13_ear_29 (Int32.ofNat s) (Int32.ofNat W) n r.1 r.2.1 r.2.2.1 r.2.2.2) (fun k r => k ≤ 64 ∧ r.2.2.1 = Int32.ofNat k ∧ pF [25] τ r.2.2.2 ∧ ((k = 0 ∧ r.1 = 0 ∧ r.2.1 = 1000000) ∨ ∃ b, b < k ∧ r.1 = Int32.ofNat b ∧ r.2.1 = Int32.ofNat (l b) ∧ (∀ p, p < k → l b ≤ l p) ∧ ∀ p, p < b → l b < l p))
      (Post := fun r => pF [25] τ r.2.2.2 ∧ ∃ b, b < 64 ∧ r.1 = Int32.ofNat b ∧ r.2.1 = Int32.ofNat (l b) ∧ (∀ p, p < 64 → l b ≤ l p) ∧ ∀ p, p < b → l b < l p) 64 (by
      rintro k n ⟨x, y, z, t⟩ ⟨hk, e1, c1, c2⟩
      dsimp only at e1 c1 c2 ⊢
      subst e1
      by_cases q : k = 64
      · right
        subst q
        rw [gX13_ear_29, if_pos (by decide)]
        refine ⟨_, rfl, c1, ?_⟩
        rcases c2 with ⟨c2, _⟩ | c2
        · omega
        · exact c2
      · left
        refine ⟨by omega, ?_⟩
        have hle : ¬ (64 : Int32) ≤ Int32.ofNat k := fun q => by have := (p_le (a := 64) (by omega) (by omega)).1 q; omega
        obtain ⟨t2, d1, d2⟩ := hl.2.2 t c1 k (by omega)
        have lk := (hl.1 k (by omega)).1
        rw [gX13_ear_29, if_neg hle, d1, Option.bind_some, p_s]
        dsimp only
        rcases c2 with ⟨c2, rfl, rfl⟩ | ⟨b, hb, rfl, rfl, c3, c4⟩
        · have n1 : ¬ (1000000 : Int32) ≤ Int32.ofNat (l k) := fun w => by have := (p_le (a := 1000000) (by omega) (by omega)).1 w; omega
          have n2 : fJ3_min 1000000 (Int32.ofNat (l k)) = Int32.ofNat (l k) := by
            unfold fJ3_min
            have : Int32.ofNat (l k) < (1000000 : Int32) := (p_lt (b := 1000000) (by omega) (by omega)).2 (by omega)
            rw [if_pos this]
          rw [if_neg n1, n2]
          refine ⟨(_, _, _, t2), rfl, by omega, rfl, d2, Or.inr ⟨k, by omega, rfl, rfl, fun p hp => ?_, fun p hp => by omega⟩⟩
          have : p = k := by omega
          rw [this]; exact Nat.le_refl _
        · have lb := (hl.1 b (by omega)).1
          by_cases w : l b ≤ l k
          · have n2 : fJ3_min (Int32.ofNat (l b)) (Int32.ofNat (l k)) = Int32.ofNat (l b) := by
              unfold fJ3_min
              rw [if_neg (fun v => by have := (p_lt (by omega) (by omega)).1 v; omega)]
            rw [if_pos ((p_le (by omega) (by omega)).2 w), n2]
            refine ⟨(_, _, _, t2), rfl, by omega, rfl, d2, Or.inr ⟨b, by omega, rfl, rfl, fun p hp => ?_, c4⟩⟩
            by_cases v : p = k
            · rw [v]; exact w
            · exact c3 p (by omega)
          · have n2 : fJ3_min (Int32.ofNat (l b)) (Int32.ofNat (l k)) = Int32.ofNat (l k) := by
              unfold fJ3_min
              rw [if_pos ((p_lt (by omega) (by omega)).2 (by omega))]
            rw [if_neg (fun v => w ((p_le (by omega) (by omega)).1 v)), n2]
            refine ⟨(_, _, _, t2), rfl, by omega, rfl, d2, Or.inr ⟨k, by omega, rfl, rfl, fun p hp => ?_, fun p hp => ?_⟩⟩
            · by_cases v : p = k
              · rw [v]; exact Nat.le_refl _
              · have := c3 p (by omega); omega
            · have := c3 p hp; omega) 0 (0, 1000000, 0, τ) ⟨Nat.zero_le _, rfl, pF.refl _ _, Or.inl ⟨rfl, rfl, rfl⟩⟩ xfu (by unfold xfu; omega)
    dsimp only at g1 g2 g3 g4
    subst g3 g4
    rw [show gX13_ear_29 (Int32.ofNat s) (Int32.ofNat W) xfu 0 1000000 0 τ = _ from g1, Option.bind_some]
    dsimp only
    have lb := hl.1 b hb
    have hR2 : pR σ' m4 := ⟨⟨fun i hi => by rw [g2 20 i (by decide) (by omega)]; exact hR'.1.1 i hi, hR'.1.2⟩, hR'.2.r g2 (by decide)⟩
    by_cases q : pCnt f 64 = 0
    · rw [q, if_pos (by decide : Int32.ofNat 0 ≤ 0), lb.2.2 q, if_pos (by decide : Int32.ofNat 0 = 0), p_need0]
      exact (p_ref hR2 3 (by decide) (b := -1000004) (x := 3) (by decide) (by decide)).then hT.f (g2.mono (by decide))
    · have hz : ¬ Int32.ofNat (pCnt f 64) ≤ 0 := fun w => by
        have h1 := (p_le (b := 0) (by omega) (by omega)).1 w
        omega
      have hz2 : ¬ Int32.ofNat (l b) = 0 := fun w => q (lb.2.1 ((p_eq (b := 0) (by omega) (by omega)).1 w))
      rw [if_neg hz, if_neg hz2, p_need1 σ' (by decide)]
      simp only
      obtain ⟨⟨n1, n2, n3⟩, k1, k2, k9, b', hb', k3, k4, k5⟩ := p_loop (G := fun n (r : Int32 × Int32 × xM) => gX0_bestEar_4 (Int32.ofNat W) n r.1 r.2.1 r.2.2) (fun k r => k ≤ 63 ∧ r.2.1 = Int32.ofNat (k + 1) ∧ pT σ r.2.2 ∧ (∀ q, q < 64 → r.2.2 9 q = f q) ∧ ∃ b, b < k + 1 ∧ r.1 = Int32.ofNat b ∧ (∀ p, p < k + 1 → l b ≤ l p) ∧ ∀ p, p < b → l b < l p)
        (Post := fun r => pT σ r.2.2 ∧ (∀ q, q < 64 → r.2.2 9 q = f q) ∧ ∃ b, b < 64 ∧ r.1 = Int32.ofNat b ∧ (∀ p, p < 64 → l b ≤ l p) ∧ ∀ p, p < b → l b < l p) 63 (by
        rintro k n ⟨x, y, t⟩ ⟨hk, e1, c1, c2, b, hb, e2, c3, c4⟩
        dsimp only at e1 c1 c2 e2 ⊢
        subst e1 e2
        by_cases q : k = 63
        · right
          subst q
          rw [gX0_bestEar_4, if_pos (by decide)]
          exact ⟨_, rfl, c1, c2, b, hb, rfl, c3, c4⟩
        · left
          refine ⟨by omega, ?_⟩
          have hle : ¬ (64 : Int32) ≤ Int32.ofNat (k + 1) := fun q => by have := (p_le (a := 64) (by omega) (by omega)).1 q; omega
          obtain ⟨t2, d1, d2, d3⟩ := hl.2.1 t c1 c2 (k + 1) (by omega)
          obtain ⟨t3, d4, d5, d6⟩ := hl.2.1 t2 d2 d3 b (by omega)
          have lk := (hl.1 (k + 1) (by omega)).1
          have lb := (hl.1 b (by omega)).1
          rw [gX0_bestEar_4, if_neg hle, d1, Option.bind_some, p_s]
          dsimp only
          rw [d4, Option.bind_some]
          dsimp only
          by_cases w : l b ≤ l (k + 1)
          · rw [if_pos ((p_le (by omega) (by omega)).2 w)]
            refine ⟨(_, _, t3), rfl, by omega, rfl, d5, d6, b, by omega, rfl, fun p hp => ?_, c4⟩
            by_cases v : p = k + 1
            · rw [v]; exact w
            · exact c3 p (by omega)
          · rw [if_neg (fun v => w ((p_le (by omega) (by omega)).1 v))]
            refine ⟨(_, _, t3), rfl, by omega, rfl, d5, d6, k + 1, by omega, rfl, fun p hp => ?_, fun p hp => ?_⟩
            · by_cases v : p = k + 1
              · rw [v]; exact Nat.le_refl _
              · have := c3 p (by omega); omega
            · have := c3 p hp; omega) 0 (0, 1, σ') ⟨Nat.zero_le _, rfl, hT, h9, 0, by omega, rfl, fun p hp => by
          have : p = 0 := by omega
          rw [this]; exact Nat.le_refl _, fun p hp => by omega⟩ xfu (by unfold xfu; omega)
      dsimp only at k1 k2 k3
      subst k3
      have ebb : b' = b := by
        by_cases v : b' < b
        · have := g6 b' v
          have := k4 b hb
          omega
        · by_cases v2 : b < b'
          · have := k5 b v2
            have := g5 b' hb'
            omega
          · omega
      subst ebb
      unfold fX0_bestEar
      rw [show gX0_bestEar_4 (Int32.ofNat W) xfu 0 1 σ' = _ from k1, Option.bind_some, Option.bind_some]
      have hR3 : pR n3 m4 := by
        have h := k2.r hR
        exact ⟨⟨fun i hi => by rw [g2 20 i (by decide) (by omega)]; exact h.1.1 i hi, h.1.2⟩, h.2.r g2 (by decide)⟩
      exact ⟨_, _, _, rfl, rfl, hR3, k2.f, g2.mono (by decide)⟩

