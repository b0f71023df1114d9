set_option maxRecDepth 100000
theorem p_readL {β : Nat → Int32} {L : Nat} {τ : xM} (hL : L ≤ 120) {b e n : Nat} (h : pBd β L τ b e) (h7 : τ 24 7 = 0) (hy : pY β L τ) (hn : n < 120) (h8 : τ 24 8 = Int32.ofNat n) : ∃ τ', fX13_readItem τ = some τ' ∧ pLm β L τ' b ∧ pF [27] τ τ' := by
  have hno : ∀ i, i < 14 → fX13_isWord τ i = some 0 := fun i hi => h.noWord hy hL hi
  have wr : pLm β L (xup τ 24 7 1) b := Or.inl (pWr.up h.1.1)
  have wf : pF [27] τ (xup τ 24 7 1) := ((pV.refl [7] τ).up 7 _ (by decide)).f (by decide)
  have w8 : (xup τ 24 7 1) 24 8 = Int32.ofNat n := by rw [xup_n (by omega)]; exact h8
  rw [p_readItem, p_noKind h hy hL, Option.bind_some, if_pos (by decide)]
  unfold pRk
  rw [p_next0 h7 (hno 10 (by omega)), Option.bind_some]
  dsimp only
  rw [if_pos rfl, p_next0 h7 (hno 11 (by omega)), Option.bind_some]
  dsimp only
  rw [if_pos rfl, p_next0 h7 (hno 12 (by omega)), Option.bind_some]
  dsimp only
  rw [if_pos rfl, hno 13 (by omega), Option.bind_some, p_must0 h7, Option.bind_some]
  obtain ⟨x, t, k1, k2, k3⟩ := p_numberL (lo := 0) (hi := 9) wr (by omega)
  have k1 : fX13_number (xup τ 24 7 1) 0 9 = some (x, t) := k1
  rw [k1, Option.bind_some]
  dsimp only
  obtain ⟨t', r1, r2, r3⟩ := p_endItem (Or.inl k2) hn ((k3 24 8 (by decide)).trans w8) 21 x 0 0
  exact ⟨t', r1, r2, (wf.trans (k3.f (by decide))).trans r3⟩
/-- two loops in step; one may end a turn earlier -/
theorem p_lock2 {S S' T T' : Type} {G : Nat → S → Option T} {G' : Nat → S' → Option T'} (Inv : Nat → S → S' → Prop) {Post : T → T' → Prop} (B : Nat)
    (step : ∀ k n s s', Inv k s s' → (k < B ∧ ∃ t t', G (n + 1) s = G n t ∧ G' (n + 1) s' = G' n t' ∧ Inv (k + 1) t t') ∨ (∃ r r', G (n + 1) s = some r ∧ G' (n + 1) s' = some r' ∧ Post r r') ∨ (k < B ∧ ∃ r t' r', G (n + 1) s = some r ∧ G' (n + 1) s' = G' n t' ∧ (∀ m, G' (m + 1) t' = some r') ∧ Post r r')) :
    ∀ k s s', Inv k s s' → ∀ n, B - k < n → ∃ r r', G n s = some r ∧ G' n s' = some r' ∧ Post r r' := by
  intro k s s' hI n
  induction n generalizing k s s' with
  | zero => intro h; omega
  | succ n ih =>
    intro h
    rcases step k n s s' hI with ⟨hk, t, t', h1, h2, h3⟩ | h | ⟨hk, r, t', r', h1, h2, h3, h4⟩
    · rw [h1, h2]
      exact ih (k + 1) t t' h3 (by omega)
    · exact h
    · obtain ⟨m, rfl⟩ : ∃ m, n = m + 1 := ⟨n - 1, by omega⟩
      exact ⟨r, r', h1, h2.trans (h3 m), h4⟩
/-- the model's loop ends when all is lost -/
theorem p_loopL {β : Nat → Int32} {L : Nat} {τ : xM} (hL : L ≤ 120) {b : Nat} (h : pLm β L τ b) (m : Nat) : gX13_text_33 (m + 1) τ = some τ := by
  rw [gX13_text_33]
  rcases h with h | ⟨e, ⟨ha, hd⟩, h7, hy⟩
  · rw [if_neg (by rw [h.1]; decide)]
  · rw [if_pos h7]
    rcases hd with hd | hd | hd
    · rw [if_neg (by rw [hd.1]; decide)]
    · rw [if_neg (by rw [hd.1]; decide)]
    · rw [if_pos hd.1, ha.1, if_pos ((p_in (by omega)).2 (by omega)), p_nat (by omega), hy.2 b hd.2.2, if_neg hd.2.1]
theorem p_wholeJ {β : Nat → Int32} {L : Nat} {σ0 τ0 : xM} (hb : pBy β L) {f0 : Nat → Int32} {σ τ : xM} {b e : Nat} (h : pSy β L σ τ b e) (hH : pHs σ τ f0 1) (hn : 2 ≤ b) (hz : pZ3 σ0 σ) (hf : pF [27] τ0 τ) : ∃ r r', gX2_whole_15 xfu 1 σ = some r ∧ gX13_text_33 xfu τ = some r' ∧
    ((∃ n σ' b' e', n ≤ 60 ∧ r = (some (Int32.ofNat n), σ') ∧ pSy β L σ' r' b' e' ∧ pHs σ' r' f0 n ∧ pZ3 σ0 σ' ∧ pF [27] τ0 r') ∨ (∃ σ' b', r = (none, σ') ∧ σ' 4 2 = Int32.ofNat b' ∧ pLm β L r' b' ∧ pZ3 σ0 σ' ∧ pF [27] τ0 r')) := by
  have hL := hb.1
  refine p_lock2 (G := fun n (s : Int32 × xM) => gX2_whole_15 n s.1 s.2) (G' := fun n (s : xM) => gX13_text_33 n s) (fun k s s' => s.1 = Int32.ofNat (k + 1) ∧ ∃ b e, pSy β L s.2 s' b e ∧ pHs s.2 s' f0 (k + 1) ∧ 2 * (k + 1) ≤ b ∧ pZ3 σ0 s.2 ∧ pF [27] τ0 s')
    (Post := fun r r' => (∃ n σ' b' e', n ≤ 60 ∧ r = (some (Int32.ofNat n), σ') ∧ pSy β L σ' r' b' e' ∧ pHs σ' r' f0 n ∧ pZ3 σ0 σ' ∧ pF [27] τ0 r') ∨ (∃ σ' b', r = (none, σ') ∧ σ' 4 2 = Int32.ofNat b' ∧ pLm β L r' b' ∧ pZ3 σ0 σ' ∧ pF [27] τ0 r')) 61 ?_ 0 (1, σ) τ ⟨rfl, b, e, h, hH, by omega, hz, hf⟩ xfu (by unfold xfu; omega)
  rintro k n ⟨x, s⟩ t ⟨e1, b, e, hs, hh, hk, g1, g2⟩
  dsimp only at e1 hs hh g1 ⊢
  subst e1
  have hbe : b ≤ e ∧ e ≤ 120 := ⟨hs.2.2.1.2.1.2.2.1, hs.2.2.1.2.1.2.2.2.1⟩
  rw [gX2_whole_15, gX13_text_33, if_pos hs.2.2.2]
  obtain ⟨_, _, ⟨_, ha, ht⟩, _⟩ := id hs
  by_cases q3 : s 4 3 = 3
  · -- a semicolon
    have hq : t 24 5 = 3 ∧ β b = 59 ∧ b < e := by
      rcases ht with g | ⟨v, g⟩ | ⟨k', _, g, _⟩ | g
      · rw [g.1] at q3; exact absurd q3 (by decide)
      · rw [g.2.2.1] at q3; exact absurd q3 (by decide)
      · rw [g] at q3; exact absurd q3 (by decide)
      · exact g.2
    have hbL : b < L := by
      by_cases w : b < L
      · exact w
      · have := hb.2.2 b (by omega)
        rw [this] at hq
        exact absurd hq.2.1 (by decide)
    rw [if_pos q3, if_pos hq.1, ha.1, if_pos ((p_in (by omega)).2 (by omega)), p_nat (by omega), hs.2.1.2 b hbL, if_pos hq.2.1, p_must1 hs.2.2.2 (by decide)]
    obtain ⟨b1, e1', σ1, τ1, j1, j2, j3, j4, j5⟩ := p_nextJ hb hs
    rw [j2, Option.bind_some]
    have z1 : pZ3 σ0 σ1 := g1.trans (pZ3.of j3)
    have f1 : pF [27] τ0 τ1 := g2.trans (j4.f (by decide))
    have s3 : σ1 3 = s 3 := by funext i; exact j3 3 i (by omega)
    rcases j5 with ⟨j5, j6⟩ | ⟨j5, j6, j7⟩
    · rw [j5]
      simp only [xbt]
      have hH1 : pHs σ1 τ1 f0 (k + 1) := by
        obtain ⟨a1, ⟨B, a2, a3⟩, gg, a4, a5, a6⟩ := hh
        refine ⟨(j4 24 8 (by decide)).trans a1, ⟨B, by rw [s3]; exact a2, (j4 24 9 (by decide)).trans a3⟩, gg, a4, fun m hm => (a5 m hm).keep (n := k + 1) hm (fun j _ => j4 27 j (by omega)), fun i hi => by rw [s3]; exact a6 i hi⟩
      rcases p_itemJ hb j6 hH1 (by omega) with ⟨s2, t2, b2, e2, l1, l2, l3, l4, l5, l6, l7⟩ | ⟨s2, t2, b2, l1, l2, l3, l4, l5, l6⟩
      · rw [l1, l2, Option.bind_some]
        simp only [xbt]
        left
        rw [p_s]
        refine ⟨by omega, (_, s2), t2, rfl, rfl, rfl, b2, e2, l3, l4, by omega, z1.trans l6, f1.trans l7⟩
      · rw [l1, l2, Option.bind_some]
        simp only [xbt]
        right; right
        exact ⟨by omega, _, t2, t2, rfl, rfl, fun m => p_loopL hL l4 m, Or.inr ⟨s2, b2, rfl, l3, l4, z1.trans l5, f1.trans l6⟩⟩
    · rw [j5]
      simp only [xbt]
      rcases j7 with j7 | ⟨e2, d1, d2, d3⟩
      · exfalso
        have := (j4 24 7 (by decide)).trans hs.2.2.2
        rw [j7.1] at this
        exact absurd this (by decide)
      · obtain ⟨t2, r1, r2, r3⟩ := p_readL hL d1 d2 d3 (n := k + 1) (by omega) ((j4 24 8 (by decide)).trans hh.1)
        rw [r1, Option.bind_some]
        right; right
        exact ⟨by omega, _, t2, t2, rfl, rfl, fun m => p_loopL hL r2 m, Or.inr ⟨σ1, b1, rfl, j6, r2, z1, f1.trans r3⟩⟩
  · -- the end of the items
    right; left
    rw [if_neg q3]
    have hq : ¬ t 24 5 = 3 := by
      rcases ht with g | ⟨v, g⟩ | ⟨k', _, _, g, _⟩ | g
      · rw [g.2]; decide
      · rw [g.2.2.2.1]; decide
      · rw [g]; decide
      · exact absurd g.1 q3
    rw [if_neg hq]
    exact ⟨_, _, rfl, rfl, Or.inl ⟨k + 1, s, b, e, by omega, rfl, hs, hh, g1, g2⟩⟩
/-- the model does what it was told -/
theorem p_doneM {τ : xM} {f0 : Nat → Int32} {n : Nat} (hn : n ≤ 60) (h8 : τ 24 8 = Int32.ofNat n) {g : Nat → (Nat → Int32)} (g0 : ∀ i, i < 186 → g 0 i = f0 i) (g1 : ∀ m, m < n → pIt τ m (g m) (g (m + 1))) (h20 : ∀ i, i < 186 → τ 20 i = f0 i) : ∃ x τ', gX13_text_113 xfu 0 0 τ = some (Int32.ofNat n, x, τ') ∧ pF [20] τ τ' ∧ ∀ i, i < 186 → τ' 20 i = g n i := by
  obtain ⟨⟨r1, r2, r3⟩, e1, e2, e3, e4⟩ := p_loop (G := fun m (r : Int32 × Int32 × xM) => gX13_text_113 m r.1 r.2.1 r.2.2) (fun k r => k ≤ n ∧ r.1 = Int32.ofNat k ∧ r.2.1 = Int32.ofNat k ∧ (∀ v i, v ≠ 20 → r.2.2 v i = τ v i) ∧ ∀ i, i < 186 → r.2.2 20 i = g k i) (Post := fun r => r.1 = Int32.ofNat n ∧ (∀ v i, v ≠ 20 → r.2.2 v i = τ v i) ∧ ∀ i, i < 186 → r.2.2 20 i = g n i) n (by
    rintro k m ⟨x, y, t⟩ ⟨hk, a1, a2, a3, a4⟩
    dsimp only at a1 a2 a3 a4 ⊢
    subst a1 a2
    rw [gX13_text_113, a3 24 8 (by omega), h8]
    by_cases q : k = n
    · right
      subst q
      rw [if_pos (Int32.le_refl _)]
      exact ⟨_, rfl, rfl, a3, a4⟩
    · left
      refine ⟨by omega, ?_⟩
      have hle : ¬ Int32.ofNat n ≤ Int32.ofNat k := fun w => by have := (p_le (by omega) (by omega)).1 w; omega
      have e40 : (4 : Int32) * Int32.ofNat k = Int32.ofNat (4 * k) := p_mul 4 k
      have e41 : Int32.ofNat (4 * k) + 1 = Int32.ofNat (4 * k + 1) := p_add _ 1
      have e42 : Int32.ofNat (4 * k) + 2 = Int32.ofNat (4 * k + 2) := p_add _ 2
      have e43 : Int32.ofNat (4 * k) + 3 = Int32.ofNat (4 * k + 3) := p_add _ 3
      have i0 : xin (Int32.ofNat (4 * k)) 480 := (p_in (by omega)).2 (by omega)
      have i1 : xin (Int32.ofNat (4 * k + 1)) 480 := (p_in (by omega)).2 (by omega)
      have i2 : xin (Int32.ofNat (4 * k + 2)) 480 := (p_in (by omega)).2 (by omega)
      have i3 : xin (Int32.ofNat (4 * k + 3)) 480 := (p_in (by omega)).2 (by omega)
      have told : ∃ z t', fX13_isToldSo t (Int32.ofNat (4 * k)) = some (z, t') ∧ -1 ≤ z ∧ (∀ v i, v ≠ 20 → t' v i = t v i) ∧ ∀ i, i < 186 → t' 20 i = g (k + 1) i := by
        unfold fX13_isToldSo
        rw [e41, e42, e43, if_pos i0, if_pos i1, if_pos i2, if_pos i3, p_nat (show 4 * k < 2 ^ 31 by omega), p_nat (show 4 * k + 1 < 2 ^ 31 by omega), p_nat (show 4 * k + 2 < 2 ^ 31 by omega), p_nat (show 4 * k + 3 < 2 ^ 31 by omega), a3 27 _ (by omega), a3 27 _ (by omega), a3 27 _ (by omega), a3 27 _ (by omega)]
        rcases g1 k (by omega) with ⟨κ, B, c1, c2, c3, c4, c5, c6, c7, c8⟩ | ⟨j, B, c1, c2, c3, c4, c5, c6⟩
        · have hlt : Int32.ofNat κ < (20 : Int32) := (p_lt (b := 20) (by omega) (by omega)).2 (by omega)
          rw [c3, if_pos hlt, p_comes c2 (by rw [a4 2 (by omega)]; exact c4.2.1), Option.bind_some]
          refine ⟨_, _, rfl, Int32.le_trans (by decide : (-1 : Int32) ≤ 0) (p_0le _ (by omega)), fun v i w => pAdd_n w, fun i hi => ?_⟩
          dsimp only
          rw [pAdd_row, c8 i hi]
          exact pAr_c a4 B _ _ _ _ i hi
        · have hlt : ¬ Int32.ofNat (20 + j) < (20 : Int32) := fun w => by have := (p_lt (b := 20) (by omega) (by omega)).1 w; omega
          have hsub : Int32.ofNat (20 + j) - 20 = Int32.ofNat j := by
            rw [Nat.add_comm, ← p_add]
            show Int32.ofNat j + 20 - 20 = _
            simp
          rw [c2, if_neg hlt, hsub, p_become t c1, Option.bind_some]
          refine ⟨_, _, rfl, ?_, fun v i w => xup_n (fun z => w z.1), fun i hi => ?_⟩
          · dsimp only
            rw [a4 j c1]
            rcases c5 with c5 | ⟨c, hc, c5⟩
            · rw [c5]; exact Int32.le_refl _
            · rw [c5]; exact Int32.le_trans (by decide : (-1 : Int32) ≤ 0) (p_0le _ (by omega))
          · dsimp only
            rw [xup_row, c6 i hi]
            exact pUp_congr a4 _ _ i hi
      obtain ⟨z, t', k1, k2, k3, k4⟩ := told
      rw [if_neg hle, e40, k1, Option.bind_some]
      dsimp only
      rw [if_pos k2, p_s]
      exact ⟨(_, _, t'), rfl, by omega, rfl, rfl, fun v i w => (k3 v i w).trans (a3 v i w), k4⟩) 0 (0, 0, τ) ⟨Nat.zero_le _, rfl, rfl, fun _ _ _ => rfl, fun i hi => (h20 i hi).trans (g0 i hi).symm⟩ xfu (by unfold xfu; omega)
  dsimp only at e1 e2 e3 e4
  subst e2
  exact ⟨r2, r3, e1, fun v i w _ => e3 v i (fun q => w (by rw [q]; decide)), e4⟩

theorem p_wipeR {σ τ : xM} (hR : pR σ τ) : pR (xup σ 6 0 0) (xup τ 24 2 0) := by
  obtain ⟨hn, h1, h2, h3, h4, h5⟩ := hR
  refine ⟨⟨fun i hi => hn.1 i hi, hn.2⟩, ⟨by rw [xup_n (by omega), xup_n (by omega)]; exact h1.1, ?_⟩, ⟨by rw [xup_s, xup_s], by rw [xup_s]; exact ⟨0, by omega, rfl⟩, h2.2.2⟩, h3, h4, h5⟩
  rw [xup_n (by omega)]
  exact h1.2
/-- the end: from what both have read to what they answer -/
theorem p_textEnd {σ τ s t : xM} (hR : pR σ τ) (hs : pF [0, 3, 4] (xup σ 6 0 0) s) (ht : pF [20, 27] (xup τ 24 2 0) t) (hrow : pRow s 0 t 20) {B : Nat} (hB : pWB B (s 0)) : pR s t ∧ pF pC σ s ∧ pF pM τ t := by
  refine ⟨(p_wipeR hR).mk hrow hB hs ht (by decide) (by decide), ?_, ?_⟩
  · exact ((pF.refl pC σ).up 6 0 0 (by decide)).trans (hs.mono (by decide))
  · exact ((pF.refl pM τ).up 24 2 0 (by decide)).trans (ht.mono (by decide))
def pFin (q14 : xM) : Option (Int32 × xM) := if (q14 24 5) = 0 then ((fX13_must q14 1).bind (fun r26 => if ((xup r26 24 2 0) 24 7) = 0 then ((gX13_text_113 xfu 0 0 (xup r26 24 2 0)).bind (fun q29 => some (q29.1, q29.2.2))) else (some (((-1) - ((xup r26 24 2 0) 24 3)), (xup r26 24 2 0))))) else ((fX13_must q14 0).bind (fun r17 => if ((xup r17 24 2 0) 24 7) = 0 then ((gX13_text_113 xfu 0 0 (xup r17 24 2 0)).bind (fun q24 => some (q24.1, q24.2.2))) else (some (((-1) - ((xup r17 24 2 0) 24 3)), (xup r17 24 2 0)))))
theorem p_fr {L : List Nat} {τ r : xM} (h : pF L τ r) : pF L (xup τ 24 2 0) (xup r 24 2 0) := fun v i a q => by
  by_cases w : v = 24 ∧ i = 2
  · rw [w.1, w.2, xup_s, xup_s]
  · rw [xup_n w, xup_n w]; exact h v i a q
theorem p_finL {β : Nat → Int32} {L : Nat} {τ r : xM} {b : Nat} (h : pLm β L r b) (hf : pF [27] τ r) : ∃ t, pFin r = some ((-1) - Int32.ofNat b, t) ∧ pF [27] (xup τ 24 2 0) t := by
  have wr : ∀ q : xM, pWr q b → pF [27] τ q → ∃ t, (if ((xup q 24 2 0) 24 7) = 0 then ((gX13_text_113 xfu 0 0 (xup q 24 2 0)).bind (fun q29 => some (q29.1, q29.2.2))) else (some (((-1) - ((xup q 24 2 0) 24 3)), (xup q 24 2 0)))) = some ((-1) - Int32.ofNat b, t) ∧ pF [27] (xup τ 24 2 0) t := by
    intro q h1 h2
    have n7 : ¬ (xup q 24 2 0) 24 7 = 0 := by rw [xup_n (by omega), h1.1]; decide
    rw [if_neg n7]
    refine ⟨_, ?_, p_fr h2⟩
    rw [xup_n (by omega), h1.2]
  unfold pFin
  rcases h with h | ⟨e, ⟨ha, hd⟩, h7, hy⟩
  · rw [p_mustW h.1, p_mustW h.1, Option.bind_some]
    by_cases q : r 24 5 = 0
    · rw [if_pos q]; exact wr r h hf
    · rw [if_neg q]; exact wr r h hf
  · have q : ¬ r 24 5 = 0 := by
      rcases hd with hd | hd | hd
      · rw [hd.1]; decide
      · rw [hd.1]; decide
      · rw [hd.1]; decide
    rw [if_neg q, p_must0 h7, Option.bind_some]
    exact wr _ (pWr.up ha.1) (hf.trans (((pV.refl [7] r).up 7 _ (by decide)).f (by decide)))
theorem p_text {σ τ : xM} (hR : pR σ τ) : pOk (fX0_text σ) (fX13_text τ) σ τ := by
  obtain ⟨B, hB⟩ := hR.1.2
  obtain ⟨L, hL, h6⟩ := hR.2.2.1.2.1
  have hL : L ≤ 120 := by omega
  obtain ⟨β, hβ⟩ : ∃ β : Nat → Int32, β = fun i => if i < L then σ 5 i &&& 255 else -1 := ⟨_, rfl⟩
  have hb : pBy β L := by
    subst hβ
    refine ⟨hL, fun i hi => ?_, fun i hi => ?_⟩
    · dsimp only
      rw [if_pos hi]; exact p_and255 _
    · dsimp only
      rw [if_neg (by omega)]
  have hβi : ∀ i, i < L → σ 5 i &&& 255 = β i := fun i hi => by rw [hβ]; dsimp only; rw [if_pos hi]
  obtain ⟨s, e1, f1, g1⟩ := p_becomeC (xup (xup σ 4 0 (σ 6 0)) 6 0 0) (w := 3) (w1 := 0) (by omega) (by omega)
  have s3 : ∀ i, i < 186 → s 3 i = σ 0 i := fun i hi => by rw [g1 i hi, xup_n (by omega), xup_n (by omega)]
  have sv : ∀ v i, v ≠ 3 → (v = 24 → i = 0 ∨ i = 2) → s v i = (xup (xup σ 4 0 (σ 6 0)) 6 0 0) v i := fun v i a q => f1 v i (fun w => a (List.mem_singleton.1 w)) q
  have hx0 : pX β L (xup s 4 1 0) := by
    refine ⟨?_, fun i hi => ?_⟩
    · rw [xup_n (by omega), sv 4 0 (by omega) (by omega), xup_n (by omega), xup_s]; exact h6
    · rw [xup_n (by omega), sv 5 i (by omega) (by omega), xup_n (by omega), xup_n (by omega)]; exact hβi i hi
  have hfs : ∀ s', pZ3 (xup s 4 1 0) s' → pF [0, 3, 4] (xup σ 6 0 0) s' := fun s' z v i a q => by
    have a3 : v ≠ 3 := fun w => a (by rw [w]; decide)
    have a4 : v ≠ 4 := fun w => a (by rw [w]; decide)
    rw [z v i a3 (fun w => a4 w.1), xup_n (fun w => a4 w.1), sv v i a3 q]
    unfold xup
    by_cases w : v = 6 ∧ i = 0
    · rw [if_pos w, if_pos w]
    · rw [if_neg w, if_neg w, if_neg (fun z => a4 z.1)]
  have hs0 : ∀ s', pZ3 (xup s 4 1 0) s' → ∀ i, s' 0 i = σ 0 i := fun s' z i => by
    rw [z 0 i (by omega) (by omega), xup_n (by omega), sv 0 i (by omega) (by omega), xup_n (by omega), xup_n (by omega)]
  obtain ⟨τa, hτa⟩ : ∃ τa, τa = xup (xup (xup (xup τ 24 4 0) 24 7 0) 24 8 0) 24 9 ((xup (xup (xup τ 24 4 0) 24 7 0) 24 8 0) 20 2) := ⟨_, rfl⟩
  have va : pV [4, 7, 8, 9] τ τa := by
    rw [hτa]
    exact ((((pV.refl _ τ).up 4 _ (by decide)).up 7 _ (by decide)).up 8 _ (by decide)).up 9 _ (by decide)
  have fa : pF [27] τ τa := va.f (by decide)
  have a4 : τa 24 4 = 0 := by rw [hτa, xup_n (by omega), xup_n (by omega), xup_n (by omega), xup_s]
  have a7 : τa 24 7 = 0 := by rw [hτa, xup_n (by omega), xup_n (by omega), xup_s]
  have a8 : τa 24 8 = 0 := by rw [hτa, xup_n (by omega), xup_s]
  have a9 : τa 24 9 = Int32.ofNat B := by rw [hτa, xup_s, xup_n (by omega), xup_n (by omega), xup_n (by omega), hR.1.1 2 (by omega)]; exact hB.2.1
  have hy0 : pY β L τa := by
    refine ⟨?_, fun i hi => ?_⟩
    · rw [va 24 2 (by decide), hR.2.2.1.1]; exact h6
    · rw [va 26 i (by omega), hR.2.2.1.2.2 i (by omega)]; exact hβi i hi
  have eY : fX13_text τ = (fX13_next τa).bind (fun r2 => (fX13_readItem r2).bind (fun r4 => (gX13_text_33 xfu r4).bind (fun q14 => pFin q14))) := by
    unfold fX13_text
    rw [p_two, ← hτa]
    rfl
  have eX : fX0_text σ = xct (fX2_whole s) (fun r4 σ5 => (fX4_become σ5 0 3).bind (fun r7 => some (r4, r7))) (fun σ5 => some (((-1) - (σ5 4 2)), σ5)) := by
    unfold fX0_text
    rw [e1, Option.bind_some]
  -- all is lost: both say where
  have lost : ∀ (s' : xM) (b : Nat), fX2_whole s = some (none, s') → s' 4 2 = Int32.ofNat b → pZ3 (xup s 4 1 0) s' → (∃ r, fX13_text τ = pFin r ∧ pLm β L r b ∧ pF [27] τ r) → pOk (fX0_text σ) (fX13_text τ) σ τ := by
    intro s' b k1 k2 k3 ⟨r, k4, k5, k6⟩
    obtain ⟨t, r1, r2⟩ := p_finL k5 k6
    rw [eX, k1, k4, r1]
    simp only [xct]
    rw [k2]
    have row : pRow s' 0 t 20 := fun i hi => by
      rw [hs0 s' k3 i, r2 20 i (by decide) (by omega), xup_n (by omega)]; exact hR.1.1 i hi
    have hBs : pWB B (s' 0) := hB.congr (fun i _ => hs0 s' k3 i)
    obtain ⟨o1, o2, o3⟩ := p_textEnd hR (hfs s' k3) (r2.mono (by decide)) row hBs
    exact ⟨_, s', t, rfl, rfl, o1, o2, o3⟩
  obtain ⟨b, e, σ1, τ1, j1, j2, j3, j4, j5⟩ := p_next hb hx0 hy0 (p := 0) (by omega) (xup_s _ _ _ _) a4
  have h71 : τ1 24 7 = 0 := (j4 24 7 (by decide)).trans a7
  have hy1 : pY β L τ1 := hy0.v j4 (by decide)
  have f1' : pF [27] τ τ1 := fa.trans (j4.f (by decide))
  have z1 : pZ3 (xup s 4 1 0) σ1 := pZ3.of j3
  rcases j5 with ⟨j5, j6⟩ | ⟨j5, j6, j7⟩
  · have sy1 : pSy β L σ1 τ1 b e := ⟨hx0.z j3 (by decide), hy1, j6, h71⟩
    have s13 : ∀ i, i < 186 → σ1 3 i = σ 0 i := fun i hi => by rw [j3 3 i (by omega), xup_n (by omega)]; exact s3 i hi
    have H1 : pHs σ1 τ1 (σ 0) 0 := ⟨(j4 24 8 (by decide)).trans a8, ⟨B, hB.congr s13, (j4 24 9 (by decide)).trans a9⟩, fun _ => σ 0, fun _ _ => rfl, fun m hm => by omega, fun i hi => (s13 i hi).symm⟩
    rcases p_itemJ hb sy1 H1 (by omega) with ⟨σ2, τ2, b2, e2, l1, l2, l3, l4, l5, l6, l7⟩ | ⟨σ2, τ2, b2, l1, l2, l3, l4, l5, l6⟩
    · obtain ⟨r, r', w1, w2, w3⟩ := p_wholeJ (σ0 := xup s 4 1 0) (τ0 := τ) hb l3 l4 (by omega) (z1.trans l6) (f1'.trans l7)
      have eY2 : fX13_text τ = pFin r' := by rw [eY, j2, Option.bind_some, l2, Option.bind_some, w2, Option.bind_some]
      rcases w3 with ⟨n, σ3, b3, e3, hn, rfl, y1, y2, y3, y4⟩ | ⟨σ3, b3, rfl, y1, y2, y3, y4⟩
      · -- was it the end?
        have hp42 : σ3 4 2 = Int32.ofNat b3 := y1.2.2.1.1.1
        obtain ⟨_, _, ⟨_, ha3, ht3⟩, h73⟩ := id y1
        by_cases qe : σ3 4 3 = 0
        · have q5 : r' 24 5 = 0 := by
            rcases ht3 with g | ⟨v, g⟩ | ⟨k', _, g, _⟩ | g
            · exact g.2
            · rw [g.2.2.1] at qe; exact absurd qe (by decide)
            · rw [g] at qe; exact absurd qe (by decide)
            · rw [g.1] at qe; exact absurd qe (by decide)
          have ew : fX2_whole s = some (some (Int32.ofNat n), σ3) := by
            unfold fX2_whole
            rw [j5]
            simp only [xbt]
            rw [l1]
            simp only
            rw [w1]
            simp only
            rw [if_pos qe]
            unfold fX2_need
            rw [if_neg (by decide)]
          obtain ⟨b4, e4, σ4, τ4, m1, m2, m3, m4, _⟩ := p_nextJ hb y1
          obtain ⟨y8, ⟨Bt, yB, y9⟩, g, gg0, gg1, gg2⟩ := y2
          have f4 : pF [27] τ τ4 := y4.trans (m4.f (by decide))
          have t7 : (xup τ4 24 2 0) 24 7 = 0 := by rw [xup_n (by omega), m4 24 7 (by decide)]; exact h73
          have t8 : (xup τ4 24 2 0) 24 8 = Int32.ofNat n := by rw [xup_n (by omega), m4 24 8 (by decide)]; exact y8
          have t20 : ∀ i, i < 186 → (xup τ4 24 2 0) 20 i = σ 0 i := fun i hi => by
            rw [xup_n (by omega), f4 20 i (by decide) (by omega)]; exact hR.1.1 i hi
          obtain ⟨x, t, d1, d2, d3⟩ := p_doneM (f0 := σ 0) hn t8 gg0 (fun m hm => (gg1 m hm).keep (n := n) hm (fun j _ => by rw [xup_n (by omega)]; exact m4 27 j (by omega))) t20
          have ef : pFin r' = some (Int32.ofNat n, t) := by
            unfold pFin
            rw [if_pos q5, p_must1 h73 (by decide), m2, Option.bind_some, if_pos t7, d1, Option.bind_some]
          obtain ⟨s5, k1, k2, k3⟩ := p_becomeC σ3 (w := 0) (w1 := 3) (by omega) (by omega)
          rw [eX, ew, eY2, ef]
          simp only [xct]
          rw [k1, Option.bind_some]
          have row : pRow s5 0 t 20 := fun i hi => by rw [k3 i hi, d3 i hi]; exact gg2 i hi
          have ffs : pF [0, 3, 4] (xup σ 6 0 0) s5 := (hfs σ3 y3).trans (k2.mono (by decide))
          have fft : pF [20, 27] (xup τ 24 2 0) t := ((p_fr f4).mono (by decide)).trans (d2.mono (by decide))
          obtain ⟨o1, o2, o3⟩ := p_textEnd hR ffs fft row (yB.congr k3)
          exact ⟨_, s5, t, rfl, rfl, o1, o2, o3⟩
        · have q5 : ¬ r' 24 5 = 0 := by
            rcases ht3 with g | ⟨v, g⟩ | ⟨k', _, _, g, _⟩ | g
            · exact absurd g.1 qe
            · rw [g.2.2.2.1]; decide
            · rw [g]; decide
            · rw [g.2.1]; decide
          refine lost σ3 b3 ?_ hp42 y3 ⟨xup r' 24 7 1, ?_, Or.inl (pWr.up ha3.1), y4.trans (((pV.refl [7] r').up 7 _ (by decide)).f (by decide))⟩
          · unfold fX2_whole
            rw [j5]
            simp only [xbt]
            rw [l1]
            simp only
            rw [w1]
            simp only
            rw [if_neg qe]
            unfold fX2_need
            rw [if_pos rfl]
          · have w7 : (xup r' 24 7 1) 24 7 = 1 := xup_s _ _ _ _
            have q5' : ¬ (xup r' 24 7 1) 24 5 = 0 := by rw [xup_n (by omega)]; exact q5
            rw [eY2]
            unfold pFin
            rw [if_neg q5, if_neg q5', p_must0 h73, p_mustW w7]
      · refine lost σ3 b3 ?_ y1 y3 ⟨r', eY2, y2, y4⟩
        unfold fX2_whole
        rw [j5]
        simp only [xbt]
        rw [l1]
        simp only
        rw [w1]
    · refine lost σ2 b2 ?_ l3 (z1.trans l5) ⟨τ2, ?_, l4, f1'.trans l6⟩
      · unfold fX2_whole
        rw [j5]
        simp only [xbt]
        rw [l1]
      · rw [eY, j2, Option.bind_some, l2, Option.bind_some, show xfu = 1999 + 1 from rfl, p_loopL hL l4 1999, Option.bind_some]
  · obtain ⟨τ2, r1, r2, r3⟩ := p_readL hL j7 h71 hy1 (n := 0) (by omega) ((j4 24 8 (by decide)).trans a8)
    refine lost σ1 b ?_ j6 z1 ⟨τ2, ?_, r2, f1'.trans r3⟩
    · unfold fX2_whole
      rw [j5]
      rfl
    · rw [eY, j2, Option.bind_some, r1, Option.bind_some, show xfu = 1999 + 1 from rfl, p_loopL hL r2 1999, Option.bind_some]

