set_option maxRecDepth 100000
theorem p_words {β : Nat → Int32} {L : Nat} {σ τ : xM} (hL : L ≤ 120) {b e : Nat} (h : pSy β L σ τ b e) : ((∀ k, k < 14 → fX13_isWord τ (pIx k) = some 0) ∧ ¬ σ 4 3 = 2) ∨ (∃ k, k < 14 ∧ σ 4 3 = 2 ∧ σ 4 4 = Int32.ofNat k ∧ fX13_isWord τ (pIx k) = some 1 ∧ (∀ k', k' < 14 → k' ≠ k → fX13_isWord τ (pIx k') = some 0) ∧ b + 2 ≤ e) := by
  have hw := fun k hk => p_wordAt hL h (k := k) hk
  have none' : ¬ σ 4 3 = 2 → ∀ k, k < 14 → fX13_isWord τ (pIx k) = some 0 := fun q k hk => by
    rcases hw k hk with ⟨w, _⟩ | ⟨_, w⟩
    · unfold fX2_isWord at w
      rw [if_neg q] at w
      exact absurd w (by decide)
    · exact w
  obtain ⟨_, _, ⟨_, _, ht⟩, _⟩ := id h
  rcases ht with g | ⟨v, g⟩ | ⟨k, hk, g1, g2, g3, g4⟩ | g
  · have q : ¬ σ 4 3 = 2 := by rw [g.1]; decide
    exact Or.inl ⟨none' q, q⟩
  · have q : ¬ σ 4 3 = 2 := by rw [g.2.2.1]; decide
    exact Or.inl ⟨none' q, q⟩
  · right
    refine ⟨k, hk, g1, g3, ?_, fun k' hk' hne => ?_, ?_⟩
    · rcases hw k hk with ⟨_, w⟩ | ⟨w, _⟩
      · exact w
      · unfold fX2_isWord at w
        rw [if_pos g1, g3, if_pos rfl] at w
        exact absurd w (by decide)
    · rcases hw k' hk' with ⟨w, _⟩ | ⟨_, w⟩
      · unfold fX2_isWord at w
        rw [if_pos g1, g3, if_neg (fun v => hne ((p_eq (by omega) (by omega)).1 v).symm)] at w
        exact absurd w (by decide)
      · exact w
    · have := g4.1
      have := (p_lnK (pIx k) (p_ixK k hk)).2.2
      omega
  · have q : ¬ σ 4 3 = 2 := by rw [g.1]; decide
    exact Or.inl ⟨none' q, q⟩
theorem p_next0 {τ : xM} (h7 : τ 24 7 = 0) {i : Nat} (h : fX13_isWord τ i = some 0) : fX13_isNext τ i = some (0, τ) := by
  unfold fX13_isNext
  rw [if_pos h7, h, Option.bind_some, if_pos rfl]
theorem p_next1 {τ τ1 : xM} (h7 : τ 24 7 = 0) {i : Nat} (h : fX13_isWord τ i = some 1) (hn : fX13_next τ = some τ1) : fX13_isNext τ i = some (1, τ1) := by
  unfold fX13_isNext
  rw [if_pos h7, h, Option.bind_some, if_neg (by decide), p_must1 h7 (by decide), hn, Option.bind_some]
/-- an item that sets a place -/
theorem p_setJ {β : Nat → Int32} {L : Nat} {σ τ s t : xM} {b e n B : Nat} {f0 : Nat → Int32} (hH : pHs σ τ f0 n) (hB : pWB B (σ 3)) (h9 : τ 24 9 = Int32.ofNat B) (hn : n < 120) (hs : pSy β L s t b e) (zs : pZ [1, 2, 3, 4] σ s) (vt : pV [3, 4, 5, 6] τ t) {j : Nat} (hj : j < 186) (x : Int32) (hWB : pWB B (pUp (σ 3) j x)) (ho : σ 3 j = -1 ∨ pI (σ 3 j) 100) {w : Int32} (hw : w = Int32.ofNat (20 + j)) : ∃ t', (fX13_item t w x 0 0).bind (fun r => some r) = some t' ∧ pSy β L (xup s 3 j x) t' b e ∧ pHs (xup s 3 j x) t' f0 (n + 1) ∧ pZ3 σ (xup s 3 j x) ∧ pF [27] τ t' := by
  subst hw
  have t8 : t 24 8 = Int32.ofNat n := (vt 24 8 (by decide)).trans hH.1
  obtain ⟨t', m1, m2, m3, m4, m5, m6, m7, m8⟩ := p_itemM t hn t8 (Int32.ofNat (20 + j)) x 0 0
  have s3 : s 3 = σ 3 := by funext i; exact zs 3 i (by omega)
  have r3 : xup s 3 j x 3 = pUp (σ 3) j x := by rw [xup_row, s3]
  refine ⟨t', m1, (hs.t3 (fun v i w => xup_n (fun z => w z.1))).tm (fun v i a c => m8 v i a (by omega)), ?_, (pZ3.of zs).up _ _, (vt.f (by decide)).trans (fun v i a q => m8 v i (fun w => a (by rw [w]; decide)) (by omega))⟩
  refine hH.more m2 (by rw [r3]; exact hWB) ?_ (fun i hi => (m7 i hi).trans (vt 27 i (by omega))) (Or.inr ⟨j, B, hj, m3, hB, by rw [m4]; exact hWB, ho, fun i _ => by rw [r3, m4]⟩)
  rw [m8 24 9 (by omega) (by omega), vt 24 9 (by decide)]; exact h9
theorem p_itemJ {β : Nat → Int32} {L : Nat} {σ τ : xM} (hb : pBy β L) {b e n : Nat} (h : pSy β L σ τ b e) {f0 : Nat → Int32} (hH : pHs σ τ f0 n) (hn : 2 * n ≤ b) :
    (∃ σ' τ' b' e', fX2_item σ = some (some (), σ') ∧ fX13_readItem τ = some τ' ∧ pSy β L σ' τ' b' e' ∧ pHs σ' τ' f0 (n + 1) ∧ 2 * (n + 1) ≤ b' ∧ pZ3 σ σ' ∧ pF [27] τ τ') ∨
    (∃ σ' τ' b', fX2_item σ = some (none, σ') ∧ fX13_readItem τ = some τ' ∧ σ' 4 2 = Int32.ofNat b' ∧ pLm β L τ' b' ∧ pZ3 σ σ' ∧ pF [27] τ τ') := by
  have hL := hb.1
  have h7 := h.2.2.2
  have hp42 : σ 4 2 = Int32.ofNat b := h.2.2.1.1.1
  have hat : τ 24 3 = Int32.ofNat b := h.2.2.1.2.1.1
  have hbe : b ≤ e ∧ e ≤ 120 := ⟨h.2.2.1.2.1.2.2.1, h.2.2.1.2.1.2.2.2.1⟩
  have hn120 : n < 120 := by omega
  obtain ⟨B, hB, h9⟩ := hH.2.1
  have hB8 := hB.1
  have wr : pLm β L (xup τ 24 7 1) b := Or.inl (pWr.up hat)
  have wf : pF [27] τ (xup τ 24 7 1) := ((pV.refl [7] τ).up 7 _ (by decide)).f (by decide)
  have w8 : (xup τ 24 7 1) 24 8 = Int32.ofNat n := by rw [xup_n (by omega)]; exact hH.1
  -- nothing fits: it is wrong here
  have lostK : (∀ i, i < 14 → i ≠ 7 → i ≠ 8 → i ≠ 9 → fX13_isWord τ i = some 0) → ∃ τ', fX13_readItem τ = some τ' ∧ pLm β L τ' b ∧ pF [27] τ τ' := by
    intro hno
    have hk : fX13_kindTold τ = some (-1) := p_kindT (β := β) (fun _ => some 0) (fun i hi => hno i (by omega) (by omega) (by omega) (by omega)) (fun _ _ => Or.inl rfl) (-1) (Or.inl ⟨fun _ _ => rfl, rfl⟩)
    rw [p_readItem, hk, Option.bind_some, if_pos (by decide)]
    unfold pRk
    rw [p_next0 h7 (hno 10 (by omega) (by omega) (by omega) (by omega)), Option.bind_some]
    dsimp only
    rw [if_pos rfl, p_next0 h7 (hno 11 (by omega) (by omega) (by omega) (by omega)), Option.bind_some]
    dsimp only
    rw [if_pos rfl, p_next0 h7 (hno 12 (by omega) (by omega) (by omega) (by omega)), Option.bind_some]
    dsimp only
    rw [if_pos rfl, hno 13 (by omega) (by omega) (by omega) (by omega), Option.bind_some, p_must0 h7, Option.bind_some]
    obtain ⟨x, t, k1, k2, k3⟩ := p_numberL (lo := 0) (hi := 9) wr (by omega)
    have k1 : fX13_number (xup τ 24 7 1) 0 9 = some (x, t) := k1
    rw [k1, Option.bind_some]
    dsimp only
    obtain ⟨t', r1, r2, r3⟩ := p_endItem (Or.inl k2) hn120 ((k3 24 8 (by decide)).trans w8) 21 x 0 0
    exact ⟨t', r1, r2, (wf.trans (k3.f (by decide))).trans r3⟩
  have needs : ∀ (s : xM) {α : Type} (K : Unit → xM → Option (Option α × xM)), xbt (fX2_need s 0) K = some (none, s) := fun s α K => by
    unfold fX2_need
    rw [if_pos rfl]; rfl
  have need1 : ∀ (s : xM) {α : Type} (K : Unit → xM → Option (Option α × xM)), xbt (fX2_need s 1) K = K () s := fun s α K => by
    unfold fX2_need
    rw [if_neg (by decide)]; rfl
  unfold fX2_item
  rcases p_words hL h with ⟨hno, hq⟩ | ⟨k, hk, q1, q2, q3, q4, q5⟩
  · right
    rw [if_neg hq, needs]
    obtain ⟨τ', r1, r2, r3⟩ := lostK (fun i hi _ _ _ => by
      obtain ⟨k, hk, e⟩ := p_ixS i hi
      rw [← e]; exact hno k hk)
    exact ⟨σ, τ', b, rfl, r1, hp42, r2, pZ3.refl _, r3⟩
  rw [if_pos q1, q2]
  by_cases k10 : 10 < k
  · right
    have g : (10 : Int32) < Int32.ofNat k := (p_lt (a := 10) (by omega) (by omega)).2 k10
    rw [if_pos g, needs]
    obtain ⟨τ', r1, r2, r3⟩ := lostK (fun i hi i7 i8 i9 => by
      obtain ⟨k', hk', e⟩ := p_ixS i hi
      rw [← e]
      refine q4 k' hk' (fun w => ?_)
      subst w
      have : k' = 11 ∨ k' = 12 ∨ k' = 13 := by omega
      rcases this with rfl | rfl | rfl
      · exact i7 e.symm
      · exact i8 e.symm
      · exact i9 e.symm)
    exact ⟨σ, τ', b, rfl, r1, hp42, r2, pZ3.refl _, r3⟩
  have g : ¬ (10 : Int32) < Int32.ofNat k := fun w => k10 ((p_lt (a := 10) (by omega) (by omega)).1 w)
  rw [if_neg g, need1]
  rw [q2, p_readItem]
  by_cases kk : k < 7
  · -- a bell
    have ixk : ∀ i, i < 7 → pIx i = i := by decide
    have hkind : fX13_kindTold τ = some (Int32.ofNat k) := p_kindT (β := β) (fun i => if i = k then some 1 else some 0) (fun i hi => by
      have e := ixk i hi
      by_cases w : i = k
      · rw [if_pos w, w, ← ixk k kk]; exact q3
      · rw [if_neg w, ← e]; exact q4 i (by omega) w) (fun i hi => by
      by_cases w : i = k
      · rw [if_pos w]; exact Or.inr rfl
      · rw [if_neg w]; exact Or.inl rfl) (Int32.ofNat k) (Or.inr ⟨k, kk, if_pos rfl, fun i _ w => if_neg w, rfl⟩)
    have ne : ∀ m, m < 14 → ¬ m < 7 → ¬ Int32.ofNat k = Int32.ofNat m := fun m hm hm7 w => by
      have := (p_eq (by omega) (by omega)).1 w
      omega
    rw [hkind, Option.bind_some, if_neg (p_nlt0 _ (by omega)), if_neg (show ¬ Int32.ofNat k = 7 from ne 7 (by omega) (by omega)), if_neg (show ¬ Int32.ofNat k = 8 from ne 8 (by omega) (by omega)), if_neg (show ¬ Int32.ofNat k = 9 from ne 9 (by omega) (by omega)), if_neg (show ¬ Int32.ofNat k = 10 from ne 10 (by omega) (by omega)), h9]
    unfold fX2_bell
    rw [hB.2.1]
    by_cases b8 : B = 8
    · right
      have g8 : (8 : Int32) ≤ Int32.ofNat B := by rw [b8]; decide
      rw [if_pos g8, if_pos g8, needs, p_must0 h7, Option.bind_some]
      unfold pRd
      have z9 : ∀ z : Int32, ∀ v i, v ≠ 27 → ¬ (v = 24 ∧ (i = 8 ∨ i = 9)) → (xup (xup τ 24 7 1) 24 9 z) v i = (xup τ 24 7 1) v i := fun z v i _ w => xup_n (by omega)
      have l9 := wr.keep (z9 ((xup τ 24 7 1) 24 9 + 1))
      rw [p_opL l9 hL (by omega), Option.bind_some]
      dsimp only
      rw [p_opL l9 hL (by omega), Option.bind_some]
      dsimp only
      rw [p_opL l9 hL (by omega), Option.bind_some]
      dsimp only
      obtain ⟨t', r1, r2, r3⟩ := p_endItem l9 hn120 (by rw [xup_n (by omega)]; exact w8) (Int32.ofNat k) 0 0 10
      refine ⟨σ, t', b, rfl, r1, hp42, r2, pZ3.refl _, (wf.trans ?_).trans r3⟩
      exact ((pV.refl [9] (xup τ 24 7 1)).up 9 _ (by decide)).f (by decide)
    · have g8 : ¬ (8 : Int32) ≤ Int32.ofNat B := fun w => by have := (p_le (a := 8) (by omega) (by omega)).1 w; omega
      rw [if_neg g8, if_neg g8, need1, p_must1 h7 (by decide)]
      rcases p_bellJ hb h (n := n) (B := B) (by omega) hn120 hH.1 h9 hB (κ := k) kk τ with ⟨s', t', b', e', j1, j2, j3, j4, j5, j6, j7, j8, j9, j10, j11⟩ | ⟨s', t', b', j1, j2, j3, j4, j5, j6⟩
      · rw [j1, j2]
        exact Or.inl ⟨s', t', b', e', rfl, rfl, j3, hH.more j7 j9 j8 j10 j11, by omega, j5, j6⟩
      · rw [j1, j2]
        exact Or.inr ⟨s', t', b', rfl, rfl, j3, j4, j5, j6⟩
  -- no bell
  have ixk : ∀ i, i < 7 → pIx i = i := by decide
  have hkind : fX13_kindTold τ = some (-1) := p_kindT (β := β) (fun _ => some 0) (fun i hi => by
    have e := ixk i hi
    rw [← e]; exact q4 i (by omega) (by omega)) (fun _ _ => Or.inl rfl) (-1) (Or.inl ⟨fun _ _ => rfl, rfl⟩)
  rw [hkind, Option.bind_some, if_pos (by decide : (-1 : Int32) < 0)]
  unfold pRk
  have no : ∀ k', k' < 14 → k' ≠ k → fX13_isNext τ (pIx k') = some (0, τ) := fun k' a c => p_next0 h7 (q4 k' a c)
  have : k = 7 ∨ k = 8 ∨ k = 9 ∨ k = 10 := by omega
  rcases this with rfl | rfl | rfl | rfl
  · -- net
    rw [if_pos (by decide : Int32.ofNat 7 = 7)]
    obtain ⟨t1, k1, k2⟩ := p_behindJ hb h (lo := 0) (hi := 63) (by omega) (by omega)
    rw [show fX13_isNext τ 10 = some (1, t1) from p_next1 h7 q3 k1, Option.bind_some]
    dsimp only
    rw [if_neg (by decide : ¬ (1 : Int32) = 0)]
    rcases k2 with ⟨v, s, t, b', e', g1, g2, g3, g4, g5, g6, g7, g8⟩ | ⟨s, x, t, b', g1, g2, g3, g4, g5, g6⟩
    · have g1 : fX2_behind σ 0 63 = some (some (Int32.ofNat v), s) := g1
      have g2 : fX13_number t1 0 63 = some (Int32.ofNat v, t) := g2
      rw [g1, g2, Option.bind_some]
      simp only [xbt]
      rw [if_pos ((p_in (by omega)).2 (by omega)), p_nat (show v < 2 ^ 31 by omega)]
      obtain ⟨t', r1, r2, r3, r4, r5⟩ := p_setJ hH hB h9 hn120 g5 g7 g8 (j := 18 + v) (by omega) 1 (hB.net v 1 (by omega) ⟨1, by omega, rfl⟩) (by
        obtain ⟨c, hc, e⟩ := hB.2.2.1 v (by omega)
        exact Or.inr ⟨c, by omega, e⟩) (w := 38 + Int32.ofNat v) (by rw [show (38 : Int32) + Int32.ofNat v = Int32.ofNat (38 + v) from p_add 38 v]; congr 1; omega)
      rw [r1]
      exact Or.inl ⟨_, t', b', e', rfl, rfl, r2, r3, by omega, r4, r5⟩
    · have g1 : fX2_behind σ 0 63 = some (none, s) := g1
      have g2 : fX13_number t1 0 63 = some (x, t) := g2
      rw [g1, g2, Option.bind_some]
      simp only [xbt]
      obtain ⟨t', r1, r2, r3⟩ := p_endItem g4 hn120 ((g6 24 8 (by decide)).trans hH.1) (38 + x) 1 0 0
      exact Or.inr ⟨s, t', b', rfl, r1, g3, r2, pZ3.of g5, (g6.f (by decide)).trans r3⟩
  · -- thick
    rw [if_neg (by decide : ¬ Int32.ofNat 8 = 7), if_pos (by decide : Int32.ofNat 8 = 8)]
    unfold fX2_thick
    obtain ⟨t1, k1, k2⟩ := p_behindJ hb h (lo := 0) (hi := 63) (by omega) (by omega)
    rw [show fX13_isNext τ 10 = some (0, τ) from no 7 (by omega) (by omega), Option.bind_some]
    dsimp only
    rw [if_pos rfl, show fX13_isNext τ 11 = some (1, t1) from p_next1 h7 q3 k1, Option.bind_some]
    dsimp only
    rw [if_neg (by decide : ¬ (1 : Int32) = 0)]
    rcases k2 with ⟨v, s, t, b', e', g1, g2, g3, g4, g5, g6, g7, g8⟩ | ⟨s, x, t, b', g1, g2, g3, g4, g5, g6⟩
    · have g1 : fX2_behind σ 0 63 = some (some (Int32.ofNat v), s) := g1
      have g2 : fX13_number t1 0 63 = some (Int32.ofNat v, t) := g2
      rw [g1, g2, Option.bind_some]
      simp only [xbt]
      have g55 : b' ≤ e' := g5.2.2.1.2.1.2.2.1
      rcases (p_number hb g5 (lo := 0) (hi := 9) (by omega) (by omega)).pre (p' := b') (by omega) g7 g8 with ⟨u, s2, t2, b2, e2, l1, l2, l3, l4, l5, l6, l7, l8⟩ | ⟨s2, x, t2, b2, l1, l2, l3, l4, l5, l6⟩
      · have l1 : fX2_number s 0 9 = some (some (Int32.ofNat u), s2) := l1
        have l2 : fX13_number t 0 9 = some (Int32.ofNat u, t2) := l2
        rw [l1, l2, Option.bind_some]
        simp only [xbt]
        rw [if_pos ((p_in (by omega)).2 (by omega)), p_nat (show v < 2 ^ 31 by omega), show 18 + 64 * 1 + v = 82 + v from rfl]
        obtain ⟨t', r1, r2, r3, r4, r5⟩ := p_setJ hH hB h9 hn120 l5 l7 l8 (j := 82 + v) (by omega) (Int32.ofNat u) (hB.thick v _ (by omega) ⟨u, by omega, rfl⟩) (by
          obtain ⟨c, hc, e⟩ := hB.2.2.2.2.2.2.2 v (by omega)
          exact Or.inr ⟨c, by omega, e⟩) (w := 102 + Int32.ofNat v) (by rw [show (102 : Int32) + Int32.ofNat v = Int32.ofNat (102 + v) from p_add 102 v]; congr 1; omega)
        rw [r1]
        exact Or.inl ⟨_, t', b2, e2, rfl, rfl, r2, r3, by omega, r4, r5⟩
      · have l1 : fX2_number s 0 9 = some (none, s2) := l1
        have l2 : fX13_number t 0 9 = some (x, t2) := l2
        rw [l1, l2, Option.bind_some]
        simp only [xbt]
        obtain ⟨t', r1, r2, r3⟩ := p_endItem l4 hn120 ((l6 24 8 (by decide)).trans hH.1) (102 + Int32.ofNat v) x 0 0
        exact Or.inr ⟨s2, t', b2, rfl, r1, l3, r2, pZ3.of l5, (l6.f (by decide)).trans r3⟩
    · have g1 : fX2_behind σ 0 63 = some (none, s) := g1
      have g2 : fX13_number t1 0 63 = some (x, t) := g2
      rw [g1, g2, Option.bind_some]
      simp only [xbt]
      obtain ⟨y, t2, l1, l2, l3⟩ := p_numberL (lo := 0) (hi := 9) g4 (by omega)
      have l1 : fX13_number t 0 9 = some (y, t2) := l1
      rw [l1, Option.bind_some]
      dsimp only
      obtain ⟨t', r1, r2, r3⟩ := p_endItem (Or.inl l2) hn120 ((l3 24 8 (by decide)).trans ((g6 24 8 (by decide)).trans hH.1)) (102 + x) y 0 0
      exact Or.inr ⟨s, t', b', rfl, r1, g3, r2, pZ3.of g5, ((g6.f (by decide)).trans (l3.f (by decide))).trans r3⟩
  · -- hunter
    rw [if_neg (by decide : ¬ Int32.ofNat 9 = 7), if_neg (by decide : ¬ Int32.ofNat 9 = 8), if_pos (by decide : Int32.ofNat 9 = 9)]
    unfold fX2_hunter
    obtain ⟨t1, k1, k2⟩ := p_behindJ hb h (lo := 0) (hi := 3) (by omega) (by omega)
    rw [show fX13_isNext τ 10 = some (0, τ) from no 7 (by omega) (by omega), Option.bind_some]
    dsimp only
    rw [if_pos rfl, show fX13_isNext τ 11 = some (0, τ) from no 8 (by omega) (by omega), Option.bind_some]
    dsimp only
    rw [if_pos rfl, show fX13_isNext τ 12 = some (1, t1) from p_next1 h7 q3 k1, Option.bind_some]
    dsimp only
    rw [if_neg (by decide : ¬ (1 : Int32) = 0)]
    rcases k2 with ⟨v, s, t, b', e', g1, g2, g3, g4, g5, g6, g7, g8⟩ | ⟨s, x, t, b', g1, g2, g3, g4, g5, g6⟩
    · have g1 : fX2_behind σ 0 3 = some (some (Int32.ofNat v), s) := g1
      have g2 : fX13_number t1 0 3 = some (Int32.ofNat v, t) := g2
      rw [g1, g2, Option.bind_some]
      simp only [xbt]
      have g55 : b' ≤ e' := g5.2.2.1.2.1.2.2.1
      have hin : xin (Int32.ofNat v) 4 := (p_in (by omega)).2 (by omega)
      have hnv : (Int32.ofNat v).toNatClampNeg = v := p_nat (by omega)
      have hold : σ 3 (14 + v) = -1 ∨ pI (σ 3 (14 + v)) 100 := by
        rcases hB.2.2.2.1 v (by omega) with w | ⟨c, hc, w⟩
        · exact Or.inl w
        · exact Or.inr ⟨c, by omega, w⟩
      have e34 : (34 : Int32) + Int32.ofNat v = Int32.ofNat (20 + (14 + v)) := by rw [show (34 : Int32) + Int32.ofNat v = Int32.ofNat (34 + v) from p_add 34 v]; congr 1; omega
      rcases p_opJ hb g5 (k := 11) (lo := 0) (hi := 63) (by omega) (by omega) (by omega) (-1) with ⟨m1, m2⟩ | ⟨m1, m2⟩
      · have m1 : fX2_isWord s 11 = 0 := m1
        have m2 : pOp t 7 0 63 (-1) = some (-1, t) := m2
        rw [m2, Option.bind_some, if_pos m1, if_pos hin, hnv]
        obtain ⟨t', r1, r2, r3, r4, r5⟩ := p_setJ hH hB h9 hn120 g5 g7 g8 (j := 14 + v) (by omega) (-1) (hB.hunter v _ (by omega) (Or.inl rfl)) hold e34
        dsimp only
        rw [r1]
        exact Or.inl ⟨_, t', b', e', rfl, rfl, r2, r3, by omega, r4, r5⟩
      · have m1 : ¬ fX2_isWord s 11 = 0 := m1
        rw [if_neg m1]
        rcases m2.pre (p' := b') (by omega) g7 g8 with ⟨u, s2, t2, b2, e2, l1, l2, l3, l4, l5, l6, l7, l8⟩ | ⟨s2, x, t2, b2, l1, l2, l3, l4, l5, l6⟩
        · have l1 : fX2_behind s 0 63 = some (some (Int32.ofNat u), s2) := l1
          have l2 : pOp t 7 0 63 (-1) = some (Int32.ofNat u, t2) := l2
          rw [l1, l2, Option.bind_some]
          simp only [xbt]
          rw [if_pos hin, hnv]
          obtain ⟨t', r1, r2, r3, r4, r5⟩ := p_setJ hH hB h9 hn120 l5 l7 l8 (j := 14 + v) (by omega) (Int32.ofNat u) (hB.hunter v _ (by omega) (Or.inr ⟨u, by omega, rfl⟩)) hold e34
          rw [r1]
          exact Or.inl ⟨_, t', b2, e2, rfl, rfl, r2, r3, by omega, r4, r5⟩
        · have l1 : fX2_behind s 0 63 = some (none, s2) := l1
          have l2 : pOp t 7 0 63 (-1) = some (x, t2) := l2
          rw [l1, l2, Option.bind_some]
          simp only [xbt]
          obtain ⟨t', r1, r2, r3⟩ := p_endItem l4 hn120 ((l6 24 8 (by decide)).trans hH.1) (34 + Int32.ofNat v) x 0 0
          exact Or.inr ⟨s2, t', b2, rfl, r1, l3, r2, pZ3.of l5, (l6.f (by decide)).trans r3⟩
    · have g1 : fX2_behind σ 0 3 = some (none, s) := g1
      have g2 : fX13_number t1 0 3 = some (x, t) := g2
      rw [g1, g2, Option.bind_some]
      simp only [xbt]
      rw [p_opL g4 hL (by omega), Option.bind_some]
      dsimp only
      obtain ⟨t', r1, r2, r3⟩ := p_endItem g4 hn120 ((g6 24 8 (by decide)).trans hH.1) (34 + x) (-1) 0 0
      exact Or.inr ⟨s, t', b', rfl, r1, g3, r2, pZ3.of g5, (g6.f (by decide)).trans r3⟩
  · -- fear
    rw [if_neg (by decide : ¬ Int32.ofNat 10 = 7), if_neg (by decide : ¬ Int32.ofNat 10 = 8), if_neg (by decide : ¬ Int32.ofNat 10 = 9), if_pos (by decide : Int32.ofNat 10 = 10)]
    obtain ⟨t1, k1, k2⟩ := p_behindJ hb h (lo := 0) (hi := 9) (by omega) (by omega)
    rw [show fX13_isNext τ 10 = some (0, τ) from no 7 (by omega) (by omega), Option.bind_some]
    dsimp only
    rw [if_pos rfl, show fX13_isNext τ 11 = some (0, τ) from no 8 (by omega) (by omega), Option.bind_some]
    dsimp only
    rw [if_pos rfl, show fX13_isNext τ 12 = some (0, τ) from no 9 (by omega) (by omega), Option.bind_some]
    dsimp only
    rw [if_pos rfl, show fX13_isWord τ 13 = some 1 from q3, Option.bind_some, p_must1 h7 (by decide), k1, Option.bind_some]
    rcases k2 with ⟨v, s, t, b', e', g1, g2, g3, g4, g5, g6, g7, g8⟩ | ⟨s, x, t, b', g1, g2, g3, g4, g5, g6⟩
    · have g1 : fX2_behind σ 0 9 = some (some (Int32.ofNat v), s) := g1
      have g2 : fX13_number t1 0 9 = some (Int32.ofNat v, t) := g2
      rw [g1, g2, Option.bind_some]
      simp only [xbt]
      obtain ⟨t', r1, r2, r3, r4, r5⟩ := p_setJ hH hB h9 hn120 g5 g7 g8 (j := 1) (by omega) (Int32.ofNat v) (hB.fear _ ⟨v, by omega, rfl⟩) (by
        obtain ⟨c, hc, e⟩ := hB.2.2.2.2.2.2.1
        exact Or.inr ⟨c, by omega, e⟩) (w := 21) (by decide)
      rw [r1]
      exact Or.inl ⟨_, t', b', e', rfl, rfl, r2, r3, by omega, r4, r5⟩
    · have g1 : fX2_behind σ 0 9 = some (none, s) := g1
      have g2 : fX13_number t1 0 9 = some (x, t) := g2
      rw [g1, g2, Option.bind_some]
      simp only [xbt]
      obtain ⟨t', r1, r2, r3⟩ := p_endItem g4 hn120 ((g6 24 8 (by decide)).trans hH.1) 21 x 0 0
      exact Or.inr ⟨s, t', b', rfl, r1, g3, r2, pZ3.of g5, (g6.f (by decide)).trans r3⟩

