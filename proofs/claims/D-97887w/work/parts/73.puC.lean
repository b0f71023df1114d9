set_option maxRecDepth 100000
theorem p_noKind {β : Nat → Int32} {L : Nat} {τ : xM} {b e : Nat} (h : pBd β L τ b e) (hy : pY β L τ) (hL : L ≤ 120) : fX13_kindTold τ = some (-1) :=
  p_kindT (β := β) (fun _ => some 0) (fun i hi => h.noWord hy hL (by omega)) (fun _ _ => Or.inl rfl) (-1) (Or.inl ⟨fun _ _ => rfl, rfl⟩)
/-- a word that may stand there, with its number -/
def pOp (τ : xM) (i : Nat) (lo hi d : Int32) : Option (Int32 × xM) := (fX13_isNext τ i).bind (fun r => if r.1 = 0 then some (d, r.2) else fX13_number r.2 lo hi)
theorem pOp_bind {α : Type} (τ : xM) (i : Nat) (lo hi d : Int32) (F : Int32 × xM → Option α) : (pOp τ i lo hi d).bind F = (fX13_isNext τ i).bind (fun r => if r.1 = 0 then F (d, r.2) else (fX13_number r.2 lo hi).bind F) := by
  unfold pOp
  cases h : fX13_isNext τ i with
  | none => rfl
  | some r =>
    rw [Option.bind_some, Option.bind_some]
    by_cases q : r.1 = 0
    · rw [if_pos q, if_pos q, Option.bind_some]
    · rw [if_neg q, if_neg q]
def pRd (τ : xM) (k : Int32) (t : xM) : Option xM := (pOp (xup t 24 9 ((t 24 9) + 1)) 7 0 63 0).bind (fun c => (pOp c.2 8 0 11 0).bind (fun n => (pOp n.2 9 1 99 10).bind (fun w => (fX13_item w.2 k c.1 n.1 w.1).bind (fun r => some r))))
def pRk (τ : xM) : Option xM := (fX13_isNext τ 10).bind (fun r5 => if r5.1 = 0 then ((fX13_isNext r5.2 11).bind (fun r8 => if r8.1 = 0 then ((fX13_isNext r8.2 12).bind (fun r11 => if r11.1 = 0 then ((fX13_isWord r11.2 13).bind (fun r14 => (fX13_must r11.2 r14).bind (fun r16 => (fX13_number r16 0 9).bind (fun r18 => (fX13_item r18.2 21 r18.1 0 0).bind (fun r20 => some r20))))) else ((fX13_number r11.2 0 3).bind (fun r22 => (pOp r22.2 7 0 63 (-1)).bind (fun r24 => (fX13_item r24.2 (34 + r22.1) r24.1 0 0).bind (fun r27 => some r27)))))) else ((fX13_number r8.2 0 63).bind (fun r33 => (fX13_number r33.2 0 9).bind (fun r35 => (fX13_item r35.2 (102 + r33.1) r35.1 0 0).bind (fun r37 => some r37)))))) else ((fX13_number r5.2 0 63).bind (fun r39 => (fX13_item r39.2 (38 + r39.1) 1 0 0).bind (fun r41 => some r41))))
theorem p_readItem (τ : xM) : fX13_readItem τ = (fX13_kindTold τ).bind (fun k => if k < 0 then pRk τ else ((fX13_must τ (if 8 ≤ τ 24 9 then 0 else 1)).bind (fun t => pRd τ k t))) := by
  unfold fX13_readItem pRd pRk
  simp only [pOp_bind]
  cases h : fX13_kindTold τ with
  | none => rfl
  | some k =>
    rw [Option.bind_some, Option.bind_some]
    by_cases q : k < 0
    · rw [if_pos q, if_pos q]
    · rw [if_neg q, if_neg q]
      by_cases q8 : 8 ≤ τ 24 9
      · rw [if_pos q8, if_pos q8]
      · rw [if_neg q8, if_neg q8]
/-- an item is laid down -/
theorem p_itemM (τ : xM) {n : Nat} (hn : n < 120) (h8 : τ 24 8 = Int32.ofNat n) (w a b c : Int32) : ∃ τ', (fX13_item τ w a b c).bind (fun r => some r) = some τ' ∧ τ' 24 8 = Int32.ofNat (n + 1) ∧ τ' 27 (4 * n) = w ∧ τ' 27 (4 * n + 1) = a ∧ τ' 27 (4 * n + 2) = b ∧ τ' 27 (4 * n + 3) = c ∧ (∀ j, j < 4 * n → τ' 27 j = τ 27 j) ∧ ∀ v i, v ≠ 27 → ¬ (v = 24 ∧ i = 8) → τ' v i = τ v i := by
  have e4 : (4 : Int32) * Int32.ofNat n = Int32.ofNat (4 * n) := p_mul 4 n
  have e5 : Int32.ofNat (4 * n) + 1 = Int32.ofNat (4 * n + 1) := p_add _ 1
  have e6 : Int32.ofNat (4 * n) + 2 = Int32.ofNat (4 * n + 2) := p_add _ 2
  have e7 : Int32.ofNat (4 * n) + 3 = Int32.ofNat (4 * n + 3) := p_add _ 3
  have i0 : xin (Int32.ofNat (4 * n)) 480 := (p_in (by omega)).2 (by omega)
  have i1 : xin (Int32.ofNat (4 * n + 1)) 480 := (p_in (by omega)).2 (by omega)
  have i2 : xin (Int32.ofNat (4 * n + 2)) 480 := (p_in (by omega)).2 (by omega)
  have i3 : xin (Int32.ofNat (4 * n + 3)) 480 := (p_in (by omega)).2 (by omega)
  have hx : (xup (xup (xup (xup τ 27 (4 * n) w) 27 (4 * n + 1) a) 27 (4 * n + 2) b) 27 (4 * n + 3) c) 24 8 = Int32.ofNat n := by
    rw [xup_n (by omega), xup_n (by omega), xup_n (by omega), xup_n (by omega)]; exact h8
  have e : fX13_item τ w a b c = some (xup (xup (xup (xup (xup τ 27 (4 * n) w) 27 (4 * n + 1) a) 27 (4 * n + 2) b) 27 (4 * n + 3) c) 24 8 (Int32.ofNat (n + 1))) := by
    unfold fX13_item
    rw [h8, e4, e5, e6, e7, if_pos i0, if_pos i1, if_pos i2, if_pos i3, p_nat (show 4 * n < 2 ^ 31 by omega), p_nat (show 4 * n + 1 < 2 ^ 31 by omega), p_nat (show 4 * n + 2 < 2 ^ 31 by omega), p_nat (show 4 * n + 3 < 2 ^ 31 by omega), hx, p_s]
  refine ⟨_, by rw [e, Option.bind_some], xup_s _ _ _ _, ?_, ?_, ?_, ?_, fun j hj => ?_, fun v i h1 h2 => ?_⟩
  · rw [xup_n (by omega), xup_n (by omega), xup_n (by omega), xup_n (by omega), xup_s]
  · rw [xup_n (by omega), xup_n (by omega), xup_n (by omega), xup_s]
  · rw [xup_n (by omega), xup_n (by omega), xup_s]
  · rw [xup_n (by omega), xup_s]
  · rw [xup_n (by omega), xup_n (by omega), xup_n (by omega), xup_n (by omega), xup_n (by omega)]
  · rw [xup_n (by omega), xup_n (by omega), xup_n (by omega), xup_n (by omega), xup_n (by omega)]
theorem pLm.keep {β : Nat → Int32} {L : Nat} {τ τ' : xM} {b : Nat} (h : pLm β L τ b) (hv : ∀ v i, v ≠ 27 → ¬ (v = 24 ∧ (i = 8 ∨ i = 9)) → τ' v i = τ v i) : pLm β L τ' b := by
  rcases h with h | ⟨e, ⟨ha, hd⟩, h7, hy⟩
  · exact Or.inl ⟨(hv 24 7 (by omega) (by omega)).trans h.1, (hv 24 3 (by omega) (by omega)).trans h.2⟩
  · refine Or.inr ⟨e, ⟨?_, ?_⟩, (hv 24 7 (by omega) (by omega)).trans h7, (hv 24 2 (by omega) (by omega)).trans hy.1, fun i hi => (hv 26 i (by omega) (by omega)).trans (hy.2 i hi)⟩
    · unfold pAt at *
      rw [hv 24 3 (by omega) (by omega), hv 24 4 (by omega) (by omega), hv 24 5 (by omega) (by omega)]
      exact ha
    · rw [hv 24 5 (by omega) (by omega), hv 24 6 (by omega) (by omega)]
      exact hd
/-- the model goes on although all is lost: it ends, and stays lost -/
def pEnd (β : Nat → Int32) (L : Nat) (τ : xM) (o : Option xM) (b : Nat) : Prop := ∃ τ', o = some τ' ∧ pLm β L τ' b ∧ pF [27] τ τ'
theorem pV.f {I : List Nat} {a b : xM} (h : pV I a b) (h0 : 0 ∉ I ∧ 2 ∉ I) : pF [27] a b := fun v i _ q => h v i (fun w => by
  rcases q w.1 with q | q
  · rw [q] at w; exact h0.1 w.2
  · rw [q] at w; exact h0.2 w.2)
theorem p_endItem {β : Nat → Int32} {L : Nat} {τ : xM} {b n : Nat} (h : pLm β L τ b) (hn : n < 120) (h8 : τ 24 8 = Int32.ofNat n) (w x y z : Int32) : pEnd β L τ ((fX13_item τ w x y z).bind (fun r => some r)) b := by
  obtain ⟨τ', e1, _, _, _, _, _, _, e2⟩ := p_itemM τ hn h8 w x y z
  refine ⟨τ', e1, h.keep (fun v i a c => e2 v i a (by omega)), fun v i a q => e2 v i (fun w => a (by rw [w]; decide)) (by omega)⟩
theorem pEnd.pre {β : Nat → Int32} {L : Nat} {τ τ1 : xM} {o : Option xM} {b : Nat} (h : pEnd β L τ1 o b) (f : pF [27] τ τ1) : pEnd β L τ o b := by
  obtain ⟨t, h1, h2, h3⟩ := h
  exact ⟨t, h1, h2, f.trans h3⟩
theorem p_opL {β : Nat → Int32} {L : Nat} {τ : xM} {b : Nat} (h : pLm β L τ b) (hL : L ≤ 120) {i : Nat} (hi : i < 14) (lo hi' d : Int32) : pOp τ i lo hi' d = some (d, τ) := by
  unfold pOp
  rw [p_isNextL h hL hi, Option.bind_some, if_pos rfl]

/-- a bell's row -/
def pAr (f : Nat → Int32) (B : Nat) (k c n w : Int32) : Nat → Int32 := pUp (pUp (pUp (pUp (pUp (pUp f (146 + 5 * B + 0) k) (146 + 5 * B + 1) c) (146 + 5 * B + 2) n) (146 + 5 * B + 3) w) (146 + 5 * B + 4) 0) 2 (Int32.ofNat (B + 1))
theorem pUp_app (f : Nat → Int32) (i : Nat) (x : Int32) (j : Nat) : pUp f i x j = if j = i then x else f j := rfl
theorem pAr_1 (f : Nat → Int32) (B : Nat) (k c n w v : Int32) (i : Nat) : pUp (pAr f B k c n w) (146 + 5 * B + 1) v i = pAr f B k v n w i := by
  unfold pAr
  simp only [pUp_app]
  repeat' split
  all_goals first | rfl | omega
theorem pAr_2 (f : Nat → Int32) (B : Nat) (k c n w v : Int32) (i : Nat) : pUp (pAr f B k c n w) (146 + 5 * B + 2) v i = pAr f B k c v w i := by
  unfold pAr
  simp only [pUp_app]
  repeat' split
  all_goals first | rfl | omega
theorem pAr_3 (f : Nat → Int32) (B : Nat) (k c n w v : Int32) (i : Nat) : pUp (pAr f B k c n w) (146 + 5 * B + 3) v i = pAr f B k c n v i := by
  unfold pAr
  simp only [pUp_app]
  repeat' split
  all_goals first | rfl | omega
theorem pAr_c {f g : Nat → Int32} (h : ∀ i, i < 186 → g i = f i) (B : Nat) (k c n w : Int32) : ∀ i, i < 186 → pAr g B k c n w i = pAr f B k c n w i :=
  pUp_congr (pUp_congr (pUp_congr (pUp_congr (pUp_congr (pUp_congr h _ _) _ _) _ _) _ _) _ _) _ _
/-- what the m-th item makes of a field -/
def pIt (τ : xM) (m : Nat) (f f' : Nat → Int32) : Prop :=
  (∃ κ B, κ < 7 ∧ B < 8 ∧ τ 27 (4 * m) = Int32.ofNat κ ∧ pWB B f ∧ pI (τ 27 (4 * m + 1)) 64 ∧ pI (τ 27 (4 * m + 2)) 12 ∧ pI (τ 27 (4 * m + 3)) 100 ∧ ∀ i, i < 186 → f' i = pAr f B (Int32.ofNat κ) (τ 27 (4 * m + 1)) (τ 27 (4 * m + 2)) (τ 27 (4 * m + 3)) i) ∨
  (∃ j B, j < 186 ∧ τ 27 (4 * m) = Int32.ofNat (20 + j) ∧ pWB B f ∧ pWB B (pUp f j (τ 27 (4 * m + 1))) ∧ (f j = -1 ∨ pI (f j) 100) ∧ ∀ i, i < 186 → f' i = pUp f j (τ 27 (4 * m + 1)) i)
theorem pIt.keep {τ τ' : xM} {m n : Nat} {f f' : Nat → Int32} (h : pIt τ m f f') (hm : m < n) (e : ∀ j, j < 4 * n → τ' 27 j = τ 27 j) : pIt τ' m f f' := by
  unfold pIt at *
  rw [e (4 * m) (by omega), e (4 * m + 1) (by omega), e (4 * m + 2) (by omega), e (4 * m + 3) (by omega)]
  exact h
/-- what was told so far: the component's field, the model's items -/
def pHs (σ τ : xM) (f0 : Nat → Int32) (n : Nat) : Prop := τ 24 8 = Int32.ofNat n ∧ (∃ B, pWB B (σ 3) ∧ τ 24 9 = Int32.ofNat B) ∧ ∃ g : Nat → (Nat → Int32), (∀ i, i < 186 → g 0 i = f0 i) ∧ (∀ m, m < n → pIt τ m (g m) (g (m + 1))) ∧ ∀ i, i < 186 → g n i = σ 3 i
theorem pHs.more {σ σ' τ τ' : xM} {f0 : Nat → Int32} {n B : Nat} (h : pHs σ τ f0 n) (h8 : τ' 24 8 = Int32.ofNat (n + 1)) (hB : pWB B (σ' 3)) (h9 : τ' 24 9 = Int32.ofNat B) (he : ∀ j, j < 4 * n → τ' 27 j = τ 27 j) (hit : pIt τ' n (σ 3) (σ' 3)) : pHs σ' τ' f0 (n + 1) := by
  obtain ⟨_, _, g, g0, g1, g2⟩ := h
  refine ⟨h8, ⟨B, hB, h9⟩, fun m => if m ≤ n then (if m = n then σ 3 else g m) else σ' 3, fun i hi => ?_, fun m hm => ?_, fun i hi => ?_⟩
  · dsimp only
    rw [if_pos (Nat.zero_le _)]
    by_cases q : 0 = n
    · rw [if_pos q]
      have := g2 i hi
      rw [← q] at this
      rw [← this]
      exact g0 i hi
    · rw [if_neg q]; exact g0 i hi
  · dsimp only
    by_cases q : m = n
    · subst q
      rw [if_pos (Nat.le_refl _), if_pos rfl, if_neg (by omega)]
      exact hit
    · rw [if_pos (by omega), if_neg q, if_pos (by omega)]
      have h1 := (g1 m (by omega)).keep (by omega) he
      by_cases q2 : m + 1 = n
      · rw [if_pos q2]
        rw [q2] at h1
        unfold pIt at h1 ⊢
        rcases h1 with ⟨κ, B', a1, a2, a3, a4, a5, a6, a7, a8⟩ | ⟨j, B', a1, a2, a3, a4, a5, a6⟩
        · exact Or.inl ⟨κ, B', a1, a2, a3, a4, a5, a6, a7, fun i hi => (g2 i hi).symm.trans (a8 i hi)⟩
        · exact Or.inr ⟨j, B', a1, a2, a3, a4, a5, fun i hi => (g2 i hi).symm.trans (a6 i hi)⟩
      · rw [if_neg q2]; exact h1
  · dsimp only
    rw [if_neg (by omega)]
def pZ3 (σ σ' : xM) : Prop := ∀ v i, v ≠ 3 → ¬ (v = 4 ∧ i ∈ [1, 2, 3, 4]) → σ' v i = σ v i
theorem pZ3.refl (σ : xM) : pZ3 σ σ := fun _ _ _ _ => rfl
theorem pZ3.of {σ σ' : xM} (h : pZ [1, 2, 3, 4] σ σ') : pZ3 σ σ' := fun v i _ q => h v i q
theorem pZ3.trans {a b c : xM} (h : pZ3 a b) (g : pZ3 b c) : pZ3 a c := fun v i p q => (g v i p q).trans (h v i p q)
theorem pZ3.up {a b : xM} (h : pZ3 a b) (i : Nat) (x : Int32) : pZ3 a (xup b 3 i x) := fun v j p q => by rw [xup_n (fun w => p w.1)]; exact h v j p q
theorem pSy.t3 {β : Nat → Int32} {L : Nat} {σ σ' τ : xM} {b e : Nat} (h : pSy β L σ τ b e) (z : ∀ v i, v ≠ 3 → σ' v i = σ v i) : pSy β L σ' τ b e := by
  obtain ⟨hx, hy, ht, h7⟩ := h
  refine ⟨⟨(z 4 0 (by omega)).trans hx.1, fun i hi => by rw [z 5 i (by omega)]; exact hx.2 i hi⟩, hy, ?_, h7⟩
  unfold pTk at *
  rw [z 4 1 (by omega), z 4 2 (by omega), z 4 3 (by omega), z 4 4 (by omega)]
  exact ht
theorem pSy.tm {β : Nat → Int32} {L : Nat} {σ τ τ' : xM} {b e : Nat} (h : pSy β L σ τ b e) (z : ∀ v i, v ≠ 27 → ¬ (v = 24 ∧ (i = 8 ∨ i = 9)) → τ' v i = τ v i) : pSy β L σ τ' b e := by
  obtain ⟨hx, hy, ht, h7⟩ := h
  refine ⟨hx, ⟨(z 24 2 (by omega) (by omega)).trans hy.1, fun i hi => by rw [z 26 i (by omega) (by omega)]; exact hy.2 i hi⟩, ?_, (z 24 7 (by omega) (by omega)).trans h7⟩
  unfold pTk pAt at *
  rw [z 24 3 (by omega) (by omega), z 24 4 (by omega) (by omega), z 24 5 (by omega) (by omega), z 24 6 (by omega) (by omega)]
  exact ht
/-- 'perhaps' and its like -/
theorem p_opJ {β : Nat → Int32} {L : Nat} {σ τ : xM} (hb : pBy β L) {b e : Nat} (h : pSy β L σ τ b e) {k lo hi : Nat} (hk : k < 14) (hlo : lo ≤ 999) (hh : hi ≤ 999) (d : Int32) :
    (fX2_isWord σ (Int32.ofNat k) = 0 ∧ pOp τ (pIx k) (Int32.ofNat lo) (Int32.ofNat hi) d = some (d, τ)) ∨ (¬ fX2_isWord σ (Int32.ofNat k) = 0 ∧ pOut β L σ τ (fX2_behind σ (Int32.ofNat lo) (Int32.ofNat hi)) (pOp τ (pIx k) (Int32.ofNat lo) (Int32.ofNat hi) d) lo hi e) := by
  have hL := hb.1
  unfold pOp fX13_isNext
  rw [if_pos h.2.2.2]
  rcases p_wordAt hL h hk with ⟨q1, q2⟩ | ⟨q1, q2⟩
  · right
    refine ⟨by rw [q1]; decide, ?_⟩
    obtain ⟨t, k1, k2⟩ := p_behindJ hb h hlo hh
    rw [q2, Option.bind_some, if_neg (show ¬ (1 : Int32) = 0 by decide), p_must1 h.2.2.2 (by decide), k1, Option.bind_some, Option.bind_some, if_neg (show ¬ (1 : Int32) = 0 by decide)]
    exact k2
  · left
    refine ⟨q1, ?_⟩
    rw [q2, Option.bind_some, if_pos rfl, Option.bind_some, if_pos rfl]
theorem p_perhaps {β : Nat → Int32} {L : Nat} {σ τ : xM} (hb : pBy β L) {b e : Nat} (h : pSy β L σ τ b e) {k lo hi : Nat} (hk : k < 14) (hlo : lo ≤ 999) (hh : hi ≤ 999) (d : Int32) {B what : Nat} (hB : B < 8) (hw : what < 5) (h32 : σ 3 2 = Int32.ofNat (B + 1)) :
    (∃ x σ' τ' b' e', fX2_perhaps σ (Int32.ofNat k) (Int32.ofNat what) (Int32.ofNat lo) (Int32.ofNat hi) = some (some (), σ') ∧ pOp τ (pIx k) (Int32.ofNat lo) (Int32.ofNat hi) d = some (x, τ') ∧ pSy β L σ' τ' b' e' ∧ e ≤ e' ∧ b ≤ b' ∧ pZ3 σ σ' ∧ pV [3, 4, 5, 6] τ τ' ∧ ((x = d ∧ σ' 3 = σ 3) ∨ (∃ v, x = Int32.ofNat v ∧ lo ≤ v ∧ v ≤ hi ∧ σ' 3 = pUp (σ 3) (146 + 5 * B + what) x))) ∨
    (∃ σ' x τ' b', fX2_perhaps σ (Int32.ofNat k) (Int32.ofNat what) (Int32.ofNat lo) (Int32.ofNat hi) = some (none, σ') ∧ pOp τ (pIx k) (Int32.ofNat lo) (Int32.ofNat hi) d = some (x, τ') ∧ σ' 4 2 = Int32.ofNat b' ∧ pLm β L τ' b' ∧ pZ3 σ σ' ∧ pV [3, 4, 5, 6, 7] τ τ') := by
  have hix : Int32.ofNat (B + 1) - 1 = Int32.ofNat B := by rw [← p_s]; simp
  unfold fX2_perhaps
  rcases p_opJ hb h hk hlo hh d with ⟨q1, q2⟩ | ⟨q1, q2⟩
  · left
    rw [if_pos q1]
    exact ⟨d, σ, τ, b, e, rfl, q2, h, Nat.le_refl _, Nat.le_refl _, pZ3.refl _, pV.refl _ _, Or.inl ⟨rfl, rfl⟩⟩
  · have hbe : b ≤ e := h.2.2.1.2.1.2.2.1
    rw [if_neg q1, if_pos ((p_in (by omega)).2 hw)]
    rcases q2 with ⟨v, s, t, b', e', g1, g2, g3, g4, g5, g6, g7, g8⟩ | ⟨s, x, t, b', g1, g2, g3, g4, g5, g6⟩
    · left
      rw [g1]
      simp only [xbt]
      rw [h32, hix, if_pos ((p_in (by omega)).2 hB), p_nat (show B < 2 ^ 31 by omega), p_nat (show what < 2 ^ 31 by omega)]
      refine ⟨Int32.ofNat v, _, t, b', e', rfl, g2, g5.t3 (fun v i w => xup_n (fun z => w z.1)), ?_, by omega, (pZ3.of g7).up _ _, g8, Or.inr ⟨v, rfl, g3, g4, ?_⟩⟩
      · have := g5.2.2.1.2.1.2.2.1; omega
      · rw [xup_row]
        have : s 3 = σ 3 := by funext i; exact g7 3 i (by omega)
        rw [this]
    · right
      rw [g1]
      exact ⟨s, x, t, b', rfl, g2, g3, g4, pZ3.of g5, g6⟩
theorem pAdd_n {v : Nat} {s : xM} {B : Nat} {a1 a2 a3 a4 : Int32} {a i : Nat} (h : a ≠ v) : pAdd v s B a1 a2 a3 a4 a i = s a i := by
  unfold pAdd
  rw [xup_n (fun w => h w.1), xup_n (fun w => h w.1), xup_n (fun w => h w.1), xup_n (fun w => h w.1), xup_n (fun w => h w.1), xup_n (fun w => h w.1)]
theorem p_bellJ {β : Nat → Int32} {L : Nat} {σ τ : xM} (hb : pBy β L) {b e : Nat} (h : pSy β L σ τ b e) {n B : Nat} (hB : B < 8) (hn : n < 120) (h8 : τ 24 8 = Int32.ofNat n) (h9 : τ 24 9 = Int32.ofNat B) (hWB : pWB B (σ 3)) {κ : Nat} (hκ : κ < 7) (T : xM) :
    (∃ σ' τ' b' e', (xbt (fX2_next σ) (fun _ σ24 => (fX4_add σ24 3 (Int32.ofNat κ) 0).bind (fun r26 => xbt (fX2_perhaps r26 11 1 0 63) (fun _ σ29 => xbt (fX2_perhaps σ29 12 2 0 11) (fun _ σ32 => xbt (fX2_perhaps σ32 13 3 1 99) (fun _ σ35 => some (some (), σ35))))))) = some (some (), σ') ∧ (fX13_next τ).bind (fun t => pRd T (Int32.ofNat κ) t) = some τ' ∧ pSy β L σ' τ' b' e' ∧ e ≤ b' ∧ pZ3 σ σ' ∧ pF [27] τ τ' ∧ τ' 24 8 = Int32.ofNat (n + 1) ∧ τ' 24 9 = Int32.ofNat (B + 1) ∧ pWB (B + 1) (σ' 3) ∧ (∀ j, j < 4 * n → τ' 27 j = τ 27 j) ∧ pIt τ' n (σ 3) (σ' 3)) ∨
    (∃ σ' τ' b', (xbt (fX2_next σ) (fun _ σ24 => (fX4_add σ24 3 (Int32.ofNat κ) 0).bind (fun r26 => xbt (fX2_perhaps r26 11 1 0 63) (fun _ σ29 => xbt (fX2_perhaps σ29 12 2 0 11) (fun _ σ32 => xbt (fX2_perhaps σ32 13 3 1 99) (fun _ σ35 => some (some (), σ35))))))) = some (none, σ') ∧ (fX13_next τ).bind (fun t => pRd T (Int32.ofNat κ) t) = some τ' ∧ σ' 4 2 = Int32.ofNat b' ∧ pLm β L τ' b' ∧ pZ3 σ σ' ∧ pF [27] τ τ') := by
  have hL := hb.1
  obtain ⟨b1, e1, σ1, τ1, g1, g2, g3, g4, g5⟩ := p_nextJ hb h
  rw [g2, Option.bind_some]
  unfold pRd
  have k9 : τ1 24 9 = Int32.ofNat B := (g4 24 9 (by decide)).trans h9
  rw [k9, p_s]
  have z9 : ∀ v i, v ≠ 27 → ¬ (v = 24 ∧ (i = 8 ∨ i = 9)) → (xup τ1 24 9 (Int32.ofNat (B + 1))) v i = τ1 v i := fun v i _ w => xup_n (by omega)
  have f0 : pF [27] τ (xup τ1 24 9 (Int32.ofNat (B + 1))) := ((g4.mono (J := [3, 4, 5, 6, 9]) (by decide)).up 9 _ (by decide)).f (by decide)
  have h8' : (xup τ1 24 9 (Int32.ofNat (B + 1))) 24 8 = Int32.ofNat n := by rw [xup_n (by omega), g4 24 8 (by decide)]; exact h8
  have h27 : ∀ j, (xup τ1 24 9 (Int32.ofNat (B + 1))) 27 j = τ 27 j := fun j => by rw [xup_n (by omega)]; exact g4 27 j (by omega)
  have h99 : (xup τ1 24 9 (Int32.ofNat (B + 1))) 24 9 = Int32.ofNat (B + 1) := xup_s _ _ _ _
  have lost : ∀ (t : xM) (b' : Nat) (w x y z : Int32) (s : xM), pLm β L t b' → t 24 8 = Int32.ofNat n → pF [27] τ t → ∃ τ', (fX13_item t w x y z).bind (fun r => some r) = some τ' ∧ pLm β L τ' b' ∧ pF [27] τ τ' := fun t b' w x y z _ a1 a2 a3 => by
    obtain ⟨t', c1, c2, c3⟩ := p_endItem a1 hn a2 w x y z
    exact ⟨t', c1, c2, a3.trans c3⟩
  rcases g5 with ⟨g5, g6⟩ | ⟨g5, g6, g7⟩
  · rw [g5]
    simp only [xbt]
    have s3 : σ1 3 = σ 3 := by funext i; exact g3 3 i (by omega)
    have hb1 : b1 ≤ e1 := g6.2.2.1.2.1.2.2.1
    rw [p_add0 hB (by rw [s3]; exact hWB.2.1), Option.bind_some]
    have r3 : pAdd 3 σ1 B (Int32.ofNat κ) 0 0 10 3 = pAr (σ 3) B (Int32.ofNat κ) 0 0 10 := by rw [pAdd_row, s3]; rfl
    have sy0 : pSy β L (pAdd 3 σ1 B (Int32.ofNat κ) 0 0 10) (xup τ1 24 9 (Int32.ofNat (B + 1))) b1 e1 := (g6.t3 (fun v i w => pAdd_n w)).tm z9
    have za : pZ3 σ (pAdd 3 σ1 B (Int32.ofNat κ) 0 0 10) := fun v i w q => (pAdd_n w).trans (g3 v i q)
    have n2 : ∀ c n w, pAr (σ 3) B (Int32.ofNat κ) c n w 2 = Int32.ofNat (B + 1) := fun c n w => pUp_s _ _ _
    rcases p_perhaps hb sy0 (k := 11) (lo := 0) (hi := 63) (by omega) (by omega) (by omega) 0 hB (what := 1) (by omega) (by rw [r3]; exact n2 _ _ _) with ⟨x1, s1, t1, c1, d1, j1, j2, j3, j4, j5, j6, j7, j8⟩ | ⟨s1, x1, t1, c1, j1, j2, j3, j4, j5, j6⟩
    · have j1 : fX2_perhaps (pAdd 3 σ1 B (Int32.ofNat κ) 0 0 10) 11 1 0 63 = some (some (), s1) := j1
      have j2 : pOp (xup τ1 24 9 (Int32.ofNat (B + 1))) 7 0 63 0 = some (x1, t1) := j2
      rw [j1, j2, Option.bind_some]
      simp only
      have q1 : s1 3 = pAr (σ 3) B (Int32.ofNat κ) x1 0 10 := by
        rcases j8 with ⟨rfl, j8⟩ | ⟨v, _, _, _, j8⟩
        · rw [j8, r3]
        · rw [j8, r3]; funext i; exact pAr_1 _ _ _ _ _ _ _ i
      have i1 : pI x1 64 := by
        rcases j8 with ⟨rfl, _⟩ | ⟨v, rfl, _, hv, _⟩
        · exact ⟨0, by omega, rfl⟩
        · exact ⟨v, by omega, rfl⟩
      rcases p_perhaps hb j3 (k := 12) (lo := 0) (hi := 11) (by omega) (by omega) (by omega) 0 hB (what := 2) (by omega) (by rw [q1]; exact n2 _ _ _) with ⟨x2, s2, t2, c2, d2, k1, k2, k3, k4, k5, k6, k7, k8⟩ | ⟨s2, x2, t2, c2, k1, k2, k3, k4, k5, k6⟩
      · have k1 : fX2_perhaps s1 12 2 0 11 = some (some (), s2) := k1
        have k2 : pOp t1 8 0 11 0 = some (x2, t2) := k2
        rw [k1, k2, Option.bind_some]
        simp only
        have q2 : s2 3 = pAr (σ 3) B (Int32.ofNat κ) x1 x2 10 := by
          rcases k8 with ⟨rfl, k8⟩ | ⟨v, _, _, _, k8⟩
          · rw [k8, q1]
          · rw [k8, q1]; funext i; exact pAr_2 _ _ _ _ _ _ _ i
        have i2 : pI x2 12 := by
          rcases k8 with ⟨rfl, _⟩ | ⟨v, rfl, _, hv, _⟩
          · exact ⟨0, by omega, rfl⟩
          · exact ⟨v, by omega, rfl⟩
        rcases p_perhaps hb k3 (k := 13) (lo := 1) (hi := 99) (by omega) (by omega) (by omega) 10 hB (what := 3) (by omega) (by rw [q2]; exact n2 _ _ _) with ⟨x3, s4, t3, c3, d3, l1, l2, l3, l4, l5, l6, l7, l8⟩ | ⟨s4, x3, t3, c3, l1, l2, l3, l4, l5, l6⟩
        · have l1 : fX2_perhaps s2 13 3 1 99 = some (some (), s4) := l1
          have l2 : pOp t2 9 1 99 10 = some (x3, t3) := l2
          rw [l1, l2, Option.bind_some]
          simp only
          have q3 : s4 3 = pAr (σ 3) B (Int32.ofNat κ) x1 x2 x3 := by
            rcases l8 with ⟨rfl, l8⟩ | ⟨v, _, _, _, l8⟩
            · rw [l8, q2]
            · rw [l8, q2]; funext i; exact pAr_3 _ _ _ _ _ _ _ i
          have i3 : pI x3 100 := by
            rcases l8 with ⟨rfl, _⟩ | ⟨v, rfl, _, hv, _⟩
            · exact ⟨10, by omega, rfl⟩
            · exact ⟨v, by omega, rfl⟩
          have vt : pV [3, 4, 5, 6] (xup τ1 24 9 (Int32.ofNat (B + 1))) t3 := (j7.trans k7).trans l7
          have t8 : t3 24 8 = Int32.ofNat n := (vt 24 8 (by decide)).trans h8'
          obtain ⟨t4, m1, m2, m3, m4, m5, m6, m7, m8⟩ := p_itemM t3 hn t8 (Int32.ofNat κ) x1 x2 x3
          rw [m1]
          left
          refine ⟨s4, t4, c3, d3, rfl, rfl, l3.tm (fun v i a c => m8 v i a (by omega)), by omega, ((za.trans j6).trans k6).trans l6, ?_, m2, ?_, ?_, fun j hj => ?_, Or.inl ⟨κ, B, hκ, hB, m3, hWB, by rw [m4]; exact i1, by rw [m5]; exact i2, by rw [m6]; exact i3, fun i _ => ?_⟩⟩
          · exact (f0.trans (vt.f (by decide))).trans (fun v i a q => m8 v i (fun w => a (by rw [w]; decide)) (by omega))
          · rw [m8 24 9 (by omega) (by omega), vt 24 9 (by decide)]; exact h99
          · rw [q3]
            exact hWB.add hB ⟨κ, hκ, rfl⟩ i1 i2 i3
          · rw [m7 j hj, vt 27 j (by omega)]; exact h27 j
          · rw [q3, m4, m5, m6]
        · have l1 : fX2_perhaps s2 13 3 1 99 = some (none, s4) := l1
          have l2 : pOp t2 9 1 99 10 = some (x3, t3) := l2
          rw [l1, l2, Option.bind_some]
          simp only
          have vt : pV [3, 4, 5, 6, 7] (xup τ1 24 9 (Int32.ofNat (B + 1))) t3 := ((j7.trans k7).mono (by decide)).trans l6
          obtain ⟨t', r1, r2, r4⟩ := lost t3 c3 (Int32.ofNat κ) x1 x2 x3 σ l4 ((vt 24 8 (by decide)).trans h8') (f0.trans (vt.f (by decide)))
          exact Or.inr ⟨s4, t', c3, rfl, r1, l3, r2, ((za.trans j6).trans k6).trans l5, r4⟩
      · have k1 : fX2_perhaps s1 12 2 0 11 = some (none, s2) := k1
        have k2 : pOp t1 8 0 11 0 = some (x2, t2) := k2
        rw [k1, k2, Option.bind_some]
        simp only
        rw [p_opL k4 hL (by omega), Option.bind_some]
        have vt : pV [3, 4, 5, 6, 7] (xup τ1 24 9 (Int32.ofNat (B + 1))) t2 := (j7.mono (by decide)).trans k6
        obtain ⟨t', r1, r2, r4⟩ := lost t2 c2 (Int32.ofNat κ) x1 x2 10 σ k4 ((vt 24 8 (by decide)).trans h8') (f0.trans (vt.f (by decide)))
        exact Or.inr ⟨s2, t', c2, rfl, r1, k3, r2, (za.trans j6).trans k5, r4⟩
    · have j1 : fX2_perhaps (pAdd 3 σ1 B (Int32.ofNat κ) 0 0 10) 11 1 0 63 = some (none, s1) := j1
      have j2 : pOp (xup τ1 24 9 (Int32.ofNat (B + 1))) 7 0 63 0 = some (x1, t1) := j2
      rw [j1, j2, Option.bind_some]
      simp only
      rw [p_opL j4 hL (by omega), Option.bind_some, p_opL j4 hL (by omega), Option.bind_some]
      obtain ⟨t', r1, r2, r4⟩ := lost t1 c1 (Int32.ofNat κ) x1 0 10 σ j4 ((j6 24 8 (by decide)).trans h8') (f0.trans (j6.f (by decide)))
      exact Or.inr ⟨s1, t', c1, rfl, r1, j3, r2, za.trans j5, r4⟩
  · rw [g5]
    simp only [xbt]
    have l9 : pLm β L (xup τ1 24 9 (Int32.ofNat (B + 1))) b1 := g7.keep z9
    rw [p_opL l9 hL (by omega), Option.bind_some, p_opL l9 hL (by omega), Option.bind_some, p_opL l9 hL (by omega), Option.bind_some]
    obtain ⟨t', r1, r2, r4⟩ := lost _ b1 (Int32.ofNat κ) 0 0 10 σ l9 h8' f0
    exact Or.inr ⟨σ1, t', b1, rfl, r1, g6, r2, pZ3.of g3, r4⟩

