set_option maxRecDepth 100000
/-! the tape as it is read -/
theorem p_and255 (x : Int32) : pI (x &&& 255) 256 := by
  have e : (x &&& 255).toBitVec.toNat = x.toBitVec.toNat &&& 255 := by
    rw [Int32.toBitVec_and, BitVec.toNat_and]; rfl
  have h : x.toBitVec.toNat &&& 255 ≤ 255 := Nat.and_le_right
  refine ⟨x.toBitVec.toNat &&& 255, by omega, ?_⟩
  apply Int32.toBitVec_inj.1
  apply BitVec.eq_of_toNat_eq
  rw [e]
  show _ = (x.toBitVec.toNat &&& 255) % 2 ^ 32
  rw [Nat.mod_eq_of_lt (by omega)]
def pBy (β : Nat → Int32) (L : Nat) : Prop := L ≤ 120 ∧ (∀ i, i < L → pI (β i) 256) ∧ ∀ i, L ≤ i → β i = -1
def pX (β : Nat → Int32) (L : Nat) (σ : xM) : Prop := σ 4 0 = Int32.ofNat L ∧ ∀ i, i < L → σ 5 i &&& 255 = β i
def pY (β : Nat → Int32) (L : Nat) (τ : xM) : Prop := τ 24 2 = Int32.ofNat L ∧ ∀ i, i < L → τ 26 i = β i
theorem p_byX {β : Nat → Int32} {L : Nat} {σ : xM} (hb : pBy β L) (h : pX β L σ) {i : Nat} (hi : i < 1000) : fX2_byteAt σ (Int32.ofNat i) = some (β i) := by
  have hL := hb.1
  unfold fX2_byteAt
  rw [h.1]
  by_cases q : L ≤ i
  · rw [if_pos ((p_le (by omega) (by omega)).2 q), hb.2.2 i q]
  · rw [if_neg (fun w => q ((p_le (by omega) (by omega)).1 w)), if_pos ((p_in (by omega)).2 (by omega)), p_nat (by omega), h.2 i (by omega)]
theorem p_byY {β : Nat → Int32} {L : Nat} {τ : xM} (hb : pBy β L) (h : pY β L τ) {i : Nat} (hi : i < 1000) : fX13_byteAt τ (Int32.ofNat i) = some (β i) := by
  have hL := hb.1
  unfold fX13_byteAt
  rw [h.1]
  by_cases q : L ≤ i
  · rw [if_pos ((p_le (by omega) (by omega)).2 q), hb.2.2 i q]
  · rw [if_neg (fun w => q ((p_le (by omega) (by omega)).1 w)), if_pos ((p_in (by omega)).2 (by omega)), p_nat (by omega), h.2 i (by omega)]
/-- the end of a run of signs of one sort -/
theorem p_run {β : Nat → Int32} {L : Nat} (hb : pBy β L) (P : Int32 → Prop) (hP : ¬ P (-1)) (i : Nat) (hi : i ≤ L ∨ i ≤ 120) : ∃ e, i ≤ e ∧ (e ≤ L ∨ e = i) ∧ (∀ j, i ≤ j → j < e → P (β j)) ∧ ¬ P (β e) := by
  have key : ∀ n i, L - i ≤ n → ∃ e, i ≤ e ∧ (e ≤ L ∨ e = i) ∧ (∀ j, i ≤ j → j < e → P (β j)) ∧ ¬ P (β e) := by
    intro n
    induction n with
    | zero =>
      intro i h
      exact ⟨i, Nat.le_refl _, Or.inr rfl, fun j h1 h2 => by omega, by rw [hb.2.2 i (by omega)]; exact hP⟩
    | succ n ih =>
      intro i h
      by_cases q : P (β i)
      · have hiL : i < L := by
          by_cases w : i < L
          · exact w
          · rw [hb.2.2 i (by omega)] at q; exact absurd q hP
        obtain ⟨e, h1, h2, h3, h4⟩ := ih (i + 1) (by omega)
        refine ⟨e, by omega, by omega, fun j a b => ?_, h4⟩
        by_cases w : j = i
        · rw [w]; exact q
        · exact h3 j (by omega) b
      · exact ⟨i, Nat.le_refl _, Or.inr rfl, fun j h1 h2 => by omega, q⟩
  exact key (L - i) i (Nat.le_refl _)
def pLet (c : Int32) : Prop := ¬ fX0_in c 97 122 = 0
def pDig (c : Int32) : Prop := ¬ fX0_in c 48 57 = 0
/-- what of the reader's scalars may differ -/
def pZ (I : List Nat) (σ σ' : xM) : Prop := ∀ v i, ¬ (v = 4 ∧ i ∈ I) → σ' v i = σ v i
theorem pZ.refl (I : List Nat) (σ : xM) : pZ I σ σ := fun _ _ _ => rfl
theorem pZ.up {I : List Nat} {a b : xM} (h : pZ I a b) (i : Nat) (x : Int32) (hi : i ∈ I) : pZ I a (xup b 4 i x) := fun v j hj => by
  rw [xup_n (fun q => hj (by rw [q.1, q.2]; exact ⟨rfl, hi⟩))]; exact h v j hj
theorem pZ.trans {I : List Nat} {a b c : xM} (h : pZ I a b) (g : pZ I b c) : pZ I a c := fun v i q => (g v i q).trans (h v i q)
theorem pZ.mono {I J : List Nat} {a b : xM} (h : pZ I a b) (hs : ∀ v, v ∈ I → v ∈ J) : pZ J a b := fun v i q => h v i (fun w => q ⟨w.1, hs i w.2⟩)
def pV (I : List Nat) (σ σ' : xM) : Prop := ∀ v i, ¬ (v = 24 ∧ i ∈ I) → σ' v i = σ v i
theorem pV.refl (I : List Nat) (σ : xM) : pV I σ σ := fun _ _ _ => rfl
theorem pV.up {I : List Nat} {a b : xM} (h : pV I a b) (i : Nat) (x : Int32) (hi : i ∈ I) : pV I a (xup b 24 i x) := fun v j hj => by
  rw [xup_n (fun q => hj (by rw [q.1, q.2]; exact ⟨rfl, hi⟩))]; exact h v j hj
theorem pV.trans {I : List Nat} {a b c : xM} (h : pV I a b) (g : pV I b c) : pV I a c := fun v i q => (g v i q).trans (h v i q)
theorem pV.mono {I J : List Nat} {a b : xM} (h : pV I a b) (hs : ∀ v, v ∈ I → v ∈ J) : pV J a b := fun v i q => h v i (fun w => q ⟨w.1, hs i w.2⟩)
theorem pX.z {β : Nat → Int32} {L : Nat} {σ σ' : xM} (h : pX β L σ) {I : List Nat} (z : pZ I σ σ') (h0 : 0 ∉ I) : pX β L σ' := by
  refine ⟨(z 4 0 (fun w => h0 w.2)).trans h.1, fun i hi => ?_⟩
  rw [z 5 i (by omega)]; exact h.2 i hi
theorem pY.v {β : Nat → Int32} {L : Nat} {τ τ' : xM} (h : pY β L τ) {I : List Nat} (z : pV I τ τ') (h0 : 2 ∉ I) : pY β L τ' := by
  refine ⟨(z 24 2 (fun w => h0 w.2)).trans h.1, fun i hi => ?_⟩
  rw [z 26 i (by omega)]; exact h.2 i hi
/-- the component's loops over a run -/
theorem p_spX {β : Nat → Int32} {L : Nat} {σ : xM} (hb : pBy β L) (h : pX β L σ) {i e : Nat} (h1 : σ 4 1 = Int32.ofNat i) (hie : i ≤ e) (he : e ≤ 120) (hr : ∀ j, i ≤ j → j < e → β j = 32) (hn : ¬ β e = 32) : ∃ σ', gX2_next_0 xfu σ = some σ' ∧ σ' 4 1 = Int32.ofNat e ∧ pZ [1] σ σ' := by
  obtain ⟨r, e1, e2, e3⟩ := p_loop (G := fun n (s : xM) => gX2_next_0 n s) (fun k s => i + k ≤ e ∧ s 4 1 = Int32.ofNat (i + k) ∧ pZ [1] σ s) (Post := fun s => s 4 1 = Int32.ofNat e ∧ pZ [1] σ s) (e - i) (by
    rintro k n s ⟨hk, g1, g2⟩
    rw [gX2_next_0, g1, p_byX hb (h.z g2 (by decide)) (by omega), Option.bind_some]
    by_cases q : i + k = e
    · right
      rw [q, if_neg hn]
      exact ⟨s, rfl, by rw [g1, q], g2⟩
    · left
      rw [if_pos (hr _ (by omega) (by omega)), p_s]
      exact ⟨by omega, _, rfl, by omega, xup_s _ _ _ _, g2.up 1 _ (by decide)⟩) 0 σ ⟨by omega, h1, pZ.refl _ _⟩ xfu (by unfold xfu; omega)
  exact ⟨r, e1, e2, e3⟩
theorem p_leX {β : Nat → Int32} {L : Nat} {σ : xM} (hb : pBy β L) (h : pX β L σ) {i e : Nat} (h1 : σ 4 1 = Int32.ofNat i) (hie : i ≤ e) (he : e ≤ 120) (hr : ∀ j, i ≤ j → j < e → pLet (β j)) (hn : ¬ pLet (β e)) : ∃ σ', gX2_word_0 xfu σ = some σ' ∧ σ' 4 1 = Int32.ofNat e ∧ pZ [1] σ σ' := by
  obtain ⟨r, e1, e2, e3⟩ := p_loop (G := fun n (s : xM) => gX2_word_0 n s) (fun k s => i + k ≤ e ∧ s 4 1 = Int32.ofNat (i + k) ∧ pZ [1] σ s) (Post := fun s => s 4 1 = Int32.ofNat e ∧ pZ [1] σ s) (e - i) (by
    rintro k n s ⟨hk, g1, g2⟩
    rw [gX2_word_0, g1, p_byX hb (h.z g2 (by decide)) (by omega), Option.bind_some]
    unfold fX2_isLetter
    by_cases q : i + k = e
    · right
      have hn' : fX0_in (β e) 97 122 = 0 := Classical.byContradiction hn
      rw [q, if_pos hn']
      exact ⟨s, rfl, by rw [g1, q], g2⟩
    · left
      have hr' : ¬ fX0_in (β (i + k)) 97 122 = 0 := hr _ (by omega) (by omega)
      rw [if_neg hr', p_s]
      exact ⟨by omega, _, rfl, by omega, xup_s _ _ _ _, g2.up 1 _ (by decide)⟩) 0 σ ⟨by omega, h1, pZ.refl _ _⟩ xfu (by unfold xfu; omega)
  exact ⟨r, e1, e2, e3⟩
theorem p_spY {β : Nat → Int32} {L : Nat} {τ : xM} (hb : pBy β L) (h : pY β L τ) {i e : Nat} (h1 : τ 24 3 = Int32.ofNat i) (hie : i ≤ e) (he : e ≤ 120) (hr : ∀ j, i ≤ j → j < e → β j = 32) (hn : ¬ β e = 32) : ∃ τ', gX13_next_8 xfu τ = some τ' ∧ τ' 24 3 = Int32.ofNat e ∧ pV [3] τ τ' := by
  obtain ⟨r, e1, e2, e3⟩ := p_loop (G := fun n (s : xM) => gX13_next_8 n s) (fun k s => i + k ≤ e ∧ s 24 3 = Int32.ofNat (i + k) ∧ pV [3] τ s) (Post := fun s => s 24 3 = Int32.ofNat e ∧ pV [3] τ s) (e - i) (by
    rintro k n s ⟨hk, g1, g2⟩
    rw [gX13_next_8, g1, p_byY hb (h.v g2 (by decide)) (by omega), Option.bind_some]
    by_cases q : i + k = e
    · right
      rw [q, if_neg hn]
      exact ⟨s, rfl, by rw [g1, q], g2⟩
    · left
      rw [if_pos (hr _ (by omega) (by omega)), p_s]
      exact ⟨by omega, _, rfl, by omega, xup_s _ _ _ _, g2.up 3 _ (by decide)⟩) 0 τ ⟨by omega, h1, pV.refl _ _⟩ xfu (by unfold xfu; omega)
  exact ⟨r, e1, e2, e3⟩
theorem p_leY {β : Nat → Int32} {L : Nat} {τ : xM} (hb : pBy β L) (h : pY β L τ) {i e : Nat} (h1 : τ 24 4 = Int32.ofNat i) (hie : i ≤ e) (he : e ≤ 120) (hr : ∀ j, i ≤ j → j < e → pLet (β j)) (hn : ¬ pLet (β e)) : ∃ τ', gX13_next_84 xfu τ = some τ' ∧ τ' 24 4 = Int32.ofNat e ∧ pV [4] τ τ' := by
  obtain ⟨r, e1, e2, e3⟩ := p_loop (G := fun n (s : xM) => gX13_next_84 n s) (fun k s => i + k ≤ e ∧ s 24 4 = Int32.ofNat (i + k) ∧ pV [4] τ s) (Post := fun s => s 24 4 = Int32.ofNat e ∧ pV [4] τ s) (e - i) (by
    rintro k n s ⟨hk, g1, g2⟩
    rw [gX13_next_84, g1, p_byY hb (h.v g2 (by decide)) (by omega), Option.bind_some, show fX13_within (β (i + k)) 97 122 = fX0_in (β (i + k)) 97 122 from rfl]
    by_cases q : i + k = e
    · right
      have hn' : fX0_in (β e) 97 122 = 0 := Classical.byContradiction hn
      rw [q, if_pos hn']
      exact ⟨s, rfl, by rw [g1, q], g2⟩
    · left
      have hr' : ¬ fX0_in (β (i + k)) 97 122 = 0 := hr _ (by omega) (by omega)
      rw [if_neg hr', p_s]
      exact ⟨by omega, _, rfl, by omega, xup_s _ _ _ _, g2.up 4 _ (by decide)⟩) 0 τ ⟨by omega, h1, pV.refl _ _⟩ xfu (by unfold xfu; omega)
  exact ⟨r, e1, e2, e3⟩
/-- numbers: what both sides make of a run of digits -/
theorem p_digK : ∀ d, d < 10 → ∀ v, v ≤ 1000 → fJ3_min 1000 (((10 * Int32.ofNat v) + Int32.ofNat (48 + d)) - 48) = Int32.ofNat (min 1000 (10 * v + d)) := by
  intro d hd v hv
  have e1 : (10 : Int32) * Int32.ofNat v = Int32.ofNat (10 * v) := p_mul 10 v
  have e2 : Int32.ofNat (10 * v + (48 + d)) - 48 = Int32.ofNat (10 * v + d) := by
    have : 10 * v + (48 + d) = (10 * v + d) + 48 := by omega
    rw [this, ← p_add]
    show Int32.ofNat (10 * v + d) + 48 - 48 = _
    simp
  rw [e1, p_add, e2]
  unfold fJ3_min
  by_cases q : 10 * v + d < 1000
  · have e : Int32.ofNat (10 * v + d) < (1000 : Int32) := (p_lt (b := 1000) (by omega) (by omega)).2 q
    rw [if_pos e]; congr 1; omega
  · have e : ¬ Int32.ofNat (10 * v + d) < (1000 : Int32) := fun w => q ((p_lt (b := 1000) (by omega) (by omega)).1 w)
    rw [if_neg e, show min 1000 (10 * v + d) = 1000 by omega]; rfl
theorem p_dig0 {d v : Nat} : ((10 * Int32.ofNat v) + Int32.ofNat (48 + d)) - 48 = Int32.ofNat (10 * v + d) := by
  have e1 : (10 : Int32) * Int32.ofNat v = Int32.ofNat (10 * v) := p_mul 10 v
  have : 10 * v + (48 + d) = (10 * v + d) + 48 := by omega
  rw [e1, p_add, this, ← p_add]
  show Int32.ofNat (10 * v + d) + 48 - 48 = _
  simp
theorem p_digits {β : Nat → Int32} {L : Nat} {σ τ : xM} (hb : pBy β L) (h : pX β L σ) (h' : pY β L τ) {i e : Nat} (h1 : σ 4 1 = Int32.ofNat i) (h1' : τ 24 4 = Int32.ofNat i) (h6 : τ 24 6 = 0) (hie : i ≤ e) (he : e ≤ 120) (hr : ∀ j, i ≤ j → j < e → pDig (β j)) (hn : ¬ pDig (β e)) : ∃ v σ' τ', gX2_digits_2 xfu 0 σ = some (Int32.ofNat v, σ') ∧ gX13_next_131 xfu τ = some τ' ∧ σ' 4 1 = Int32.ofNat e ∧ τ' 24 4 = Int32.ofNat e ∧ pZ [1] σ σ' ∧ pV [4, 6] τ τ' ∧ ((v ≤ 999 ∧ τ' 24 6 = Int32.ofNat v) ∨ (999 < v ∧ v < 20000 ∧ τ' 24 6 = 1000)) := by
  obtain ⟨⟨r1, r2⟩, r', e1, e2, e3, e4, e5, e6, v, e7, e8⟩ := p_lock (G := fun n (s : Int32 × xM) => gX2_digits_2 n s.1 s.2) (G' := fun n (s : xM) => gX13_next_131 n s) (fun k s s' => i + k ≤ e ∧ s.2 4 1 = Int32.ofNat (i + k) ∧ s' 24 4 = Int32.ofNat (i + k) ∧ pZ [1] σ s.2 ∧ pV [4, 6] τ s' ∧ ∃ v, s.1 = Int32.ofNat v ∧ ((v ≤ 999 ∧ s' 24 6 = Int32.ofNat v) ∨ (999 < v ∧ v < 20000 ∧ s' 24 6 = 1000))) (Post := fun s s' => s.2 4 1 = Int32.ofNat e ∧ s' 24 4 = Int32.ofNat e ∧ pZ [1] σ s.2 ∧ pV [4, 6] τ s' ∧ ∃ v, s.1 = Int32.ofNat v ∧ ((v ≤ 999 ∧ s' 24 6 = Int32.ofNat v) ∨ (999 < v ∧ v < 20000 ∧ s' 24 6 = 1000))) (e - i) (by
    rintro k n ⟨x, s⟩ t ⟨hk, g1, g1', g2, g3, v, g4, g5⟩
    dsimp only at g1 g1' g2 g3 g4 g5 ⊢
    subst g4
    rw [gX2_digits_2, gX13_next_131, g1, g1', p_byX hb (h.z g2 (by decide)) (by omega), p_byY hb (h'.v g3 (by decide)) (by omega), Option.bind_some, Option.bind_some, show fX13_within (β (i + k)) 48 57 = fX0_in (β (i + k)) 48 57 from rfl]
    unfold fX2_isDigit
    by_cases q : i + k = e
    · right
      have hn' : fX0_in (β e) 48 57 = 0 := Classical.byContradiction hn
      rw [q, if_pos hn', if_pos hn']
      exact ⟨_, _, rfl, rfl, by dsimp only; rw [g1, q], by rw [g1', q], g2, g3, v, rfl, g5⟩
    · left
      have hr' : ¬ fX0_in (β (i + k)) 48 57 = 0 := hr _ (by omega) (by omega)
      obtain ⟨d', hd1, hd2, hd3⟩ := p_range1 (n := 57) (m := 48) (by decide) (by decide) hr'
      obtain ⟨d, rfl⟩ : ∃ d, d' = 48 + d := ⟨d' - 48, by omega⟩
      have w1 : ∀ z : Int32, (xup t 24 6 z) 24 4 = Int32.ofNat (i + k) := fun z => by rw [xup_n (by omega)]; exact g1'
      rw [if_neg hr', if_neg hr', hd3, w1, p_s, p_dig0]
      refine ⟨by omega, ?_⟩
      rcases g5 with ⟨g5, g6⟩ | ⟨g5, g5', g6⟩
      · rw [g6, p_digK d (by omega) v (by omega)]
        have hle : Int32.ofNat v ≤ (999 : Int32) := (p_le (b := 999) (by omega) (by omega)).2 g5
        rw [if_pos hle]
        refine ⟨(Int32.ofNat (10 * v + d), xup s 4 1 (Int32.ofNat (i + k + 1))), xup (xup t 24 6 (Int32.ofNat (min 1000 (10 * v + d)))) 24 4 (Int32.ofNat (i + k + 1)), rfl, rfl, by omega, xup_s s 4 1 _, xup_s _ _ _ _, g2.up 1 _ (by decide), (g3.up 6 _ (by decide)).up 4 _ (by decide), 10 * v + d, rfl, ?_⟩
        rw [xup_n (by omega), xup_s]
        by_cases w : 10 * v + d ≤ 999
        · exact Or.inl ⟨w, by congr 1; omega⟩
        · exact Or.inr ⟨by omega, by omega, by rw [show min 1000 (10 * v + d) = 1000 by omega]; rfl⟩
      · have hle : ¬ Int32.ofNat v ≤ (999 : Int32) := fun w => by have := (p_le (b := 999) (by omega) (by omega)).1 w; omega
        have k9 : fJ3_min 1000 (10 * 1000 + Int32.ofNat (48 + d) - 48) = Int32.ofNat (min 1000 (10 * 1000 + d)) := p_digK d (by omega) 1000 (by omega)
        rw [g6, k9, if_neg hle]
        refine ⟨(Int32.ofNat v, xup s 4 1 (Int32.ofNat (i + k + 1))), xup (xup t 24 6 (Int32.ofNat (min 1000 (10 * 1000 + d)))) 24 4 (Int32.ofNat (i + k + 1)), rfl, rfl, by omega, xup_s s 4 1 _, xup_s _ _ _ _, g2.up 1 _ (by decide), (g3.up 6 _ (by decide)).up 4 _ (by decide), v, rfl, Or.inr ⟨g5, g5', ?_⟩⟩
        rw [xup_n (by omega), xup_s, show min 1000 (10 * 1000 + d) = 1000 by omega]; rfl) 0 (0, σ) τ ⟨by omega, h1, h1', pZ.refl _ _, pV.refl _ _, 0, rfl, Or.inl ⟨by omega, h6⟩⟩ xfu (by unfold xfu; omega)
  dsimp only at e1 e3 e4 e5 e6 e7
  subst e7
  exact ⟨v, r2, r', e1, e2, e3, e4, e5, e6, e8⟩

/-! words -/
def pLn (i : Nat) : Nat := xsl.getD i 0
def pCh (i j : Nat) : Int32 := (xsb.getD i []).getD j 0
def pIx (k : Nat) : Nat := [0, 1, 2, 3, 4, 5, 6, 10, 11, 12, 13, 7, 8, 9].getD k 0
def pWd (β : Nat → Int32) (i b e : Nat) : Prop := e = b + pLn i ∧ ∀ j, j < pLn i → β (b + j) = pCh i j
theorem p_lnK : ∀ i, i < 14 → fJ5_length i = Int32.ofNat (pLn i) ∧ pLn i ≤ 6 ∧ 2 ≤ pLn i := by decide +kernel
theorem p_chM : ∀ i, i < 14 → ∀ j, j < 6 → j < pLn i → fJ5_charAt i (Int32.ofNat j) = some (pCh i j) := by decide +kernel
theorem p_chX : ∀ k, k < 14 → ∀ j, j < 6 → fJ5_charAt 14 (Int32.ofNat (6 * k + j)) = some (if j < pLn (pIx k) then pCh (pIx k) j else 32) := by decide +kernel
theorem p_ch32 : ∀ i, i < 14 → ∀ j, j < 6 → j < pLn i → ¬ pCh i j = 32 := by decide +kernel
theorem p_ixK : ∀ k, k < 14 → pIx k < 14 := by decide +kernel
theorem p_ixI : ∀ k, k < 14 → ∀ k', k' < 14 → pIx k = pIx k' → k = k' := by decide +kernel
theorem p_ixS : ∀ i, i < 14 → ∃ k, k < 14 ∧ pIx k = i := by decide +kernel
theorem p_dist : ∀ i, i < 14 → ∀ i', i' < 14 → i ≠ i' → pLn i = pLn i' → ∃ j, j < 6 ∧ j < pLn i ∧ ¬ pCh i j = pCh i' j := by decide +kernel
theorem pWd.uniq {β : Nat → Int32} {i i' b e : Nat} (h : pWd β i b e) (h' : pWd β i' b e) (hi : i < 14) (hi' : i' < 14) : i = i' := by
  by_cases q : i = i'
  · exact q
  · exfalso
    obtain ⟨j, _, h2, h3⟩ := p_dist i hi i' hi' q (by have := h.1; have := h'.1; omega)
    have e1 := h.2 j h2
    have e2 := h'.2 j (by have := h.1; have := h'.1; omega)
    exact h3 (e1.symm.trans e2)
theorem p_isWordM {β : Nat → Int32} {L : Nat} {τ : xM} (hy : pY β L τ) {b e i : Nat} (hi : i < 14) (h3 : τ 24 3 = Int32.ofNat b) (h4 : τ 24 4 = Int32.ofNat e) (hbe : b ≤ e) (he : e ≤ 121) (hL : L ≤ 120) (hs : τ 24 5 = 1 → e ≤ L) : (τ 24 5 = 1 ∧ pWd β i b e ∧ fX13_isWord τ i = some 1) ∨ (¬ (τ 24 5 = 1 ∧ pWd β i b e) ∧ fX13_isWord τ i = some 0) := by
  obtain ⟨l1, l2, l3⟩ := p_lnK i hi
  have zero : (gX13_isWord_32 τ i xfu 0 0).bind (fun q16 => if q16.1 = 0 ∨ q16.1 = 1 then (some q16.1) else none) = some 0 := by
    have e0 : gX13_isWord_32 τ i xfu 0 0 = some (0, 0) := by
      have hle : ¬ Int32.ofNat (pLn i) ≤ 0 := fun w => by have := (p_le (b := 0) (by omega) (by omega)).1 w; omega
      rw [show xfu = 1999 + 1 from rfl, gX13_isWord_32, l1, if_neg hle, if_pos rfl]
    rw [e0, Option.bind_some, if_pos (Or.inl rfl)]
  unfold fX13_isWord
  by_cases q5 : τ 24 5 = 1
  · have heL := hs q5
    have hsub : Int32.ofNat e - Int32.ofNat b = Int32.ofNat (e - b) := by
      have : e = (e - b) + b := by omega
      rw [this, ← p_add]; simp
    rw [if_pos q5, h3, h4, l1, hsub]
    by_cases ql : e - b = pLn i
    · rw [if_pos (by rw [ql])]
      obtain ⟨⟨r1, r2⟩, d1, d2⟩ := p_loop (G := fun n (r : Int32 × Int32) => gX13_isWord_32 τ i n r.1 r.2) (fun k r => k ≤ pLn i ∧ r.2 = Int32.ofNat k ∧ ((r.1 = 1 ∧ ∀ j, j < k → β (b + j) = pCh i j) ∨ (r.1 = 0 ∧ ¬ ∀ j, j < pLn i → β (b + j) = pCh i j))) (Post := fun r => (r.1 = 1 ∧ ∀ j, j < pLn i → β (b + j) = pCh i j) ∨ (r.1 = 0 ∧ ¬ ∀ j, j < pLn i → β (b + j) = pCh i j)) (pLn i) (by
        rintro k n ⟨x, y⟩ ⟨hk, g1, g2⟩
        dsimp only at g1 g2 ⊢
        subst g1
        rw [gX13_isWord_32, l1]
        by_cases q : k = pLn i
        · right
          rw [if_pos (by rw [q]; exact Int32.le_refl _)]
          refine ⟨_, rfl, ?_⟩
          rw [q] at g2
          exact g2
        · have hle : ¬ Int32.ofNat (pLn i) ≤ Int32.ofNat k := fun w => by have := (p_le (by omega) (by omega)).1 w; omega
          rw [if_neg hle]
          rcases g2 with ⟨rfl, g2⟩ | ⟨rfl, g2⟩
          · left
            rw [if_neg (by decide : ¬ (1 : Int32) = 0), h3, p_add, if_pos ((p_in (by omega)).2 (by omega)), p_chM i hi k (by omega) (by omega), Option.bind_some, p_nat (by omega), hy.2 (b + k) (by omega), p_s]
            refine ⟨by omega, ?_⟩
            by_cases w : β (b + k) = pCh i k
            · rw [if_pos w]
              refine ⟨(_, _), rfl, by omega, rfl, Or.inl ⟨rfl, fun j hj => ?_⟩⟩
              by_cases v : j = k
              · rw [v]; exact w
              · exact g2 j (by omega)
            · rw [if_neg w]
              exact ⟨(_, _), rfl, by omega, rfl, Or.inr ⟨rfl, fun v => w (v k (by omega))⟩⟩
          · right
            rw [if_pos rfl]
            exact ⟨_, rfl, Or.inr ⟨rfl, g2⟩⟩) 0 (1, 0) ⟨Nat.zero_le _, rfl, Or.inl ⟨rfl, fun j hj => by omega⟩⟩ xfu (by unfold xfu; omega)
      dsimp only at d1 d2
      rw [show gX13_isWord_32 τ i xfu 1 0 = _ from d1, Option.bind_some]
      dsimp only
      rcases d2 with ⟨rfl, d2⟩ | ⟨rfl, d2⟩
      · left
        rw [if_pos (Or.inr rfl)]
        exact ⟨q5, ⟨by omega, d2⟩, rfl⟩
      · right
        rw [if_pos (Or.inl rfl)]
        exact ⟨fun w => d2 w.2.2, rfl⟩
    · right
      rw [if_neg (fun w => ql ((p_eq (by omega) (by omega)).1 w)), zero]
      exact ⟨fun w => ql (by have := w.2.1; omega), rfl⟩
  · right
    rw [if_neg q5, zero]
    exact ⟨fun w => q5 w.1, rfl⟩
theorem p_isKeyX {β : Nat → Int32} {L : Nat} {σ : xM} (hb : pBy β L) (hx : pX β L σ) {b e k : Nat} (hk : k < 14) (h2 : σ 4 2 = Int32.ofNat b) (hbe : b < e) (he : e ≤ L) (hlet : ∀ j, b ≤ j → j < e → ¬ β j = 32) : (pWd β (pIx k) b e ∧ fX2_isKey σ (Int32.ofNat k) (Int32.ofNat (e - b)) = some 1) ∨ (¬ pWd β (pIx k) b e ∧ fX2_isKey σ (Int32.ofNat k) (Int32.ofNat (e - b)) = some 0) := by
  have hL := hb.1
  have hix := p_ixK k hk
  obtain ⟨_, l2, l3⟩ := p_lnK (pIx k) hix
  have h6 : (6 : Int32) * Int32.ofNat k = Int32.ofNat (6 * k) := p_mul 6 k
  have zero : (gX2_isKey_37 σ (Int32.ofNat k) (Int32.ofNat (e - b)) xfu 0 0).bind (fun q16 => if q16.1 = 0 ∨ q16.1 = 1 then (some q16.1) else none) = some 0 := by
    have e0 : gX2_isKey_37 σ (Int32.ofNat k) (Int32.ofNat (e - b)) xfu 0 0 = some (0, 0) := by
      have hle : ¬ Int32.ofNat (e - b) ≤ 0 := fun w => by have := (p_le (b := 0) (by omega) (by omega)).1 w; omega
      rw [show xfu = 1999 + 1 from rfl, gX2_isKey_37, if_neg hle, if_pos rfl]
    rw [e0, Option.bind_some, if_pos (Or.inl rfl)]
  have one : e - b ≤ 6 → pLn (pIx k) ≤ e - b → (pWd β (pIx k) b e ∧ (gX2_isKey_37 σ (Int32.ofNat k) (Int32.ofNat (e - b)) xfu 1 0).bind (fun q16 => if q16.1 = 0 ∨ q16.1 = 1 then (some q16.1) else none) = some 1) ∨ (¬ pWd β (pIx k) b e ∧ (gX2_isKey_37 σ (Int32.ofNat k) (Int32.ofNat (e - b)) xfu 1 0).bind (fun q16 => if q16.1 = 0 ∨ q16.1 = 1 then (some q16.1) else none) = some 0) := by
    intro hn hln
    obtain ⟨⟨r1, r2⟩, d1, d2⟩ := p_loop (G := fun n (r : Int32 × Int32) => gX2_isKey_37 σ (Int32.ofNat k) (Int32.ofNat (e - b)) n r.1 r.2) (fun m r => m ≤ e - b ∧ r.2 = Int32.ofNat m ∧ ((r.1 = 1 ∧ ∀ j, j < m → (if j < pLn (pIx k) then pCh (pIx k) j else 32) = β (b + j)) ∨ (r.1 = 0 ∧ ¬ ∀ j, j < e - b → (if j < pLn (pIx k) then pCh (pIx k) j else 32) = β (b + j)))) (Post := fun r => (r.1 = 1 ∧ ∀ j, j < e - b → (if j < pLn (pIx k) then pCh (pIx k) j else 32) = β (b + j)) ∨ (r.1 = 0 ∧ ¬ ∀ j, j < e - b → (if j < pLn (pIx k) then pCh (pIx k) j else 32) = β (b + j))) (e - b) (by
      rintro m n ⟨x, y⟩ ⟨hm, g1, g2⟩
      dsimp only at g1 g2 ⊢
      subst g1
      rw [gX2_isKey_37]
      by_cases q : m = e - b
      · right
        rw [if_pos (by rw [q]; exact Int32.le_refl _)]
        refine ⟨_, rfl, ?_⟩
        rw [q] at g2
        exact g2
      · have hle : ¬ Int32.ofNat (e - b) ≤ Int32.ofNat m := fun w => by have := (p_le (by omega) (by omega)).1 w; omega
        rw [if_neg hle]
        rcases g2 with ⟨rfl, g2⟩ | ⟨rfl, g2⟩
        · left
          rw [if_neg (by decide : ¬ (1 : Int32) = 0), h6, p_add, p_chX k hk m (by omega), Option.bind_some, h2, p_add, p_byX hb hx (by omega), Option.bind_some, p_s]
          refine ⟨by omega, ?_⟩
          by_cases w : (if m < pLn (pIx k) then pCh (pIx k) m else 32) = β (b + m)
          · rw [if_pos w]
            refine ⟨(_, _), rfl, by omega, rfl, Or.inl ⟨rfl, fun j hj => ?_⟩⟩
            by_cases v : j = m
            · rw [v]; exact w
            · exact g2 j (by omega)
          · rw [if_neg w]
            exact ⟨(_, _), rfl, by omega, rfl, Or.inr ⟨rfl, fun v => w (v m (by omega))⟩⟩
        · right
          rw [if_pos rfl]
          exact ⟨_, rfl, Or.inr ⟨rfl, g2⟩⟩) 0 (1, 0) ⟨Nat.zero_le _, rfl, Or.inl ⟨rfl, fun j hj => by omega⟩⟩ xfu (by unfold xfu; omega)
    dsimp only at d1 d2
    have eqv : (∀ j, j < e - b → (if j < pLn (pIx k) then pCh (pIx k) j else 32) = β (b + j)) ↔ pWd β (pIx k) b e := by
      constructor
      · intro h
        have hlen : pLn (pIx k) = e - b := by
          by_cases w : pLn (pIx k) = e - b
          · exact w
          · exfalso
            have h1 := h (pLn (pIx k)) (by omega)
            rw [if_neg (by omega)] at h1
            exact hlet _ (by omega) (by omega) h1.symm
        refine ⟨by omega, fun j hj => ?_⟩
        have h1 := h j (by omega)
        rw [if_pos hj] at h1
        exact h1.symm
      · intro h j hj
        have := h.1
        rw [if_pos (by omega)]
        exact (h.2 j (by omega)).symm
    rw [show gX2_isKey_37 σ (Int32.ofNat k) (Int32.ofNat (e - b)) xfu 1 0 = _ from d1, Option.bind_some]
    dsimp only
    rcases d2 with ⟨rfl, d2⟩ | ⟨rfl, d2⟩
    · left
      rw [if_pos (Or.inr rfl)]
      exact ⟨eqv.1 d2, rfl⟩
    · right
      rw [if_pos (Or.inl rfl)]
      exact ⟨fun w => d2 (eqv.2 w), rfl⟩
  unfold fX2_isKey
  by_cases q6 : 6 < e - b
  · have g : (6 : Int32) < Int32.ofNat (e - b) := (p_lt (a := 6) (by omega) (by omega)).2 q6
    right
    rw [if_pos g, zero]
    exact ⟨fun w => by have := w.1; omega, rfl⟩
  have g : ¬ (6 : Int32) < Int32.ofNat (e - b) := fun w => q6 ((p_lt (a := 6) (by omega) (by omega)).1 w)
  rw [if_neg g]
  by_cases q7 : e - b = 6
  · have g7 : Int32.ofNat (e - b) = 6 := by rw [q7]; rfl
    rw [if_pos g7]
    exact one (by omega) (by omega)
  have g7 : ¬ Int32.ofNat (e - b) = 6 := fun w => q7 ((p_eq (b := 6) (by omega) (by omega)).1 w)
  rw [if_neg g7, h6, p_add, p_chX k hk (e - b) (by omega), Option.bind_some]
  by_cases q8 : e - b < pLn (pIx k)
  · right
    rw [if_pos q8, if_neg (p_ch32 _ hix _ (by omega) q8), zero]
    exact ⟨fun w => by have := w.1; omega, rfl⟩
  · rw [if_neg q8, if_pos rfl]
    exact one (by omega) (by omega)
theorem p_let32 {c : Int32} (h : pLet c) : ¬ c = 32 := fun q => by
  unfold pLet at h
  rw [q] at h
  exact h (by decide)
/-- the component reads a word -/
theorem p_wordX {β : Nat → Int32} {L : Nat} {σ : xM} (hb : pBy β L) (hx : pX β L σ) {b e : Nat} (h1 : σ 4 1 = Int32.ofNat b) (h2 : σ 4 2 = Int32.ofNat b) (hbe : b < e) (he : e ≤ L) (hr : ∀ j, b ≤ j → j < e → pLet (β j)) (hn : ¬ pLet (β e)) : (∃ k σ', k < 14 ∧ pWd β (pIx k) b e ∧ fX2_word σ = some (some (), σ') ∧ σ' 4 1 = Int32.ofNat e ∧ σ' 4 3 = 2 ∧ σ' 4 4 = Int32.ofNat k ∧ pZ [1, 3, 4] σ σ') ∨ (∃ σ', (∀ i, i < 14 → ¬ pWd β i b e) ∧ fX2_word σ = some (none, σ') ∧ pZ [1] σ σ') := by
  have hL := hb.1
  obtain ⟨s, e1, e2, e3⟩ := p_leX hb hx h1 (by omega) (by omega) hr hn
  have hxs := hx.z e3 (by decide)
  have hs2 : s 4 2 = Int32.ofNat b := (e3 4 2 (by decide)).trans h2
  have hsub : s 4 1 - s 4 2 = Int32.ofNat (e - b) := by
    rw [e2, hs2]
    have : e = (e - b) + b := by omega
    rw [this, ← p_add]; simp
  have hlet : ∀ j, b ≤ j → j < e → ¬ β j = 32 := fun j a c => p_let32 (hr j a c)
  obtain ⟨r, d1, k, rfl, hk, d2, d3⟩ := p_loop (G := fun n (r : Int32) => gX2_word_29 s n r) (fun k r => k ≤ 14 ∧ r = Int32.ofNat k ∧ ∀ j, j < k → ¬ pWd β (pIx j) b e) (Post := fun r => ∃ k, r = Int32.ofNat k ∧ k ≤ 14 ∧ (∀ j, j < k → ¬ pWd β (pIx j) b e) ∧ (k < 14 → pWd β (pIx k) b e)) 14 (by
    rintro k n r ⟨hk, rfl, g⟩
    rw [gX2_word_29]
    by_cases q : k = 14
    · right
      subst q
      rw [if_pos (by decide)]
      exact ⟨_, rfl, 14, rfl, by omega, g, fun w => by omega⟩
    · have hle : ¬ (14 : Int32) ≤ Int32.ofNat k := fun w => by have := (p_le (a := 14) (by omega) (by omega)).1 w; omega
      rw [if_neg hle, hsub]
      rcases p_isKeyX hb hxs (k := k) (by omega) hs2 hbe he hlet with ⟨w, v⟩ | ⟨w, v⟩
      · right
        rw [v, Option.bind_some, if_neg (by decide : ¬ (1 : Int32) = 0)]
        exact ⟨_, rfl, k, rfl, hk, g, fun _ => w⟩
      · left
        rw [v, Option.bind_some, if_pos rfl, p_s]
        refine ⟨by omega, _, rfl, by omega, rfl, fun j hj => ?_⟩
        by_cases z : j = k
        · rw [z]; exact w
        · exact g j (by omega)) 0 0 ⟨Nat.zero_le _, rfl, fun j hj => by omega⟩ xfu (by unfold xfu; omega)
  unfold fX2_word
  rw [e1, Option.bind_some, show gX2_word_29 s xfu 0 = _ from d1, Option.bind_some]
  unfold fX2_need
  by_cases q : k = 14
  · right
    subst q
    rw [if_pos (by decide : (14 : Int32) ≤ Int32.ofNat 14), if_pos rfl]
    refine ⟨s, fun i hi w => ?_, rfl, e3⟩
    obtain ⟨j, hj, hji⟩ := p_ixS i hi
    exact d2 j hj (by rw [hji]; exact w)
  · left
    have hle : ¬ (14 : Int32) ≤ Int32.ofNat k := fun w => by have := (p_le (a := 14) (by omega) (by omega)).1 w; omega
    rw [if_neg hle, if_neg (by decide : ¬ (1 : Int32) = 0)]
    refine ⟨k, xup (xup s 4 3 2) 4 4 (Int32.ofNat k), by omega, d3 (by omega), rfl, ?_, ?_, xup_s _ _ _ _, ((e3.mono (by decide)).up 3 _ (by decide)).up 4 _ (by decide)⟩
    · rw [xup_n (by omega), xup_n (by omega)]; exact e2
    · rw [xup_n (by omega), xup_s]

def pAt (L : Nat) (τ : xM) (b e : Nat) : Prop := τ 24 3 = Int32.ofNat b ∧ τ 24 4 = Int32.ofNat e ∧ b ≤ e ∧ e ≤ 120 ∧ (τ 24 5 = 1 → e ≤ L)
def pTk (β : Nat → Int32) (L : Nat) (σ τ : xM) (b e : Nat) : Prop :=
  (σ 4 2 = Int32.ofNat b ∧ σ 4 1 = Int32.ofNat e) ∧ pAt L τ b e ∧
  ((σ 4 3 = 0 ∧ τ 24 5 = 0) ∨ (∃ v, v ≤ 999 ∧ b < e ∧ σ 4 3 = 1 ∧ τ 24 5 = 2 ∧ σ 4 4 = Int32.ofNat v ∧ τ 24 6 = Int32.ofNat v) ∨ (∃ k, k < 14 ∧ σ 4 3 = 2 ∧ τ 24 5 = 1 ∧ σ 4 4 = Int32.ofNat k ∧ pWd β (pIx k) b e) ∨ (σ 4 3 = 3 ∧ τ 24 5 = 3 ∧ β b = 59 ∧ b < e))
def pBd (β : Nat → Int32) (L : Nat) (τ : xM) (b e : Nat) : Prop :=
  pAt L τ b e ∧ ((τ 24 5 = 1 ∧ ∀ i, i < 14 → ¬ pWd β i b e) ∨ (τ 24 5 = 2 ∧ τ 24 6 = 1000) ∨ (τ 24 5 = 3 ∧ ¬ β b = 59 ∧ b < L))
theorem p_nletdig : ∀ c : Int32, pLet c → ¬ c < 0 := fun c h q => by
  unfold pLet fX0_in at h
  have h2 : c < 97 := Int32.lt_of_lt_of_le q (by decide)
  rw [if_pos h2] at h
  exact h rfl
theorem p_next {β : Nat → Int32} {L : Nat} {σ τ : xM} (hb : pBy β L) (hx : pX β L σ) (hy : pY β L τ) {p : Nat} (hp : p ≤ 120) (h1 : σ 4 1 = Int32.ofNat p) (h4 : τ 24 4 = Int32.ofNat p) : ∃ b e σ' τ', p ≤ b ∧ fX13_next τ = some τ' ∧ pZ [1, 2, 3, 4] σ σ' ∧ pV [3, 4, 5, 6] τ τ' ∧ ((fX2_next σ = some (some (), σ') ∧ pTk β L σ' τ' b e) ∨ (fX2_next σ = some (none, σ') ∧ σ' 4 2 = Int32.ofNat b ∧ pBd β L τ' b e)) := by
  have hL := hb.1
  obtain ⟨b, b1, b2, b3, b4⟩ := p_run hb (fun c => c = 32) (by decide) p (Or.inr hp)
  have hb120 : b ≤ 120 := by omega
  obtain ⟨s, e1, e2, e3⟩ := p_spX hb hx h1 b1 hb120 b3 b4
  have ht0 : (xup τ 24 3 (τ 24 4)) 24 3 = Int32.ofNat p := by rw [xup_s]; exact h4
  have zt0 : pV [3, 4, 5, 6] τ (xup τ 24 3 (τ 24 4)) := (pV.refl _ _).up 3 _ (by decide)
  obtain ⟨t, d1, d2, d3⟩ := p_spY hb (hy.v zt0 (by decide)) ht0 b1 hb120 b3 b4
  have zs : pZ [1, 2, 3, 4] σ s := e3.mono (by decide)
  have zt : pV [3, 4, 5, 6] τ t := zt0.trans (d3.mono (by decide))
  have hxs : pX β L (xup s 4 2 (s 4 1)) := hx.z (zs.up 2 _ (by decide)) (by decide)
  have hyt := hy.v zt (by decide)
  have s1 : (xup s 4 2 (s 4 1)) 4 1 = Int32.ofNat b := by rw [xup_n (by omega)]; exact e2
  have s2 : (xup s 4 2 (s 4 1)) 4 2 = Int32.ofNat b := by rw [xup_s]; exact e2
  have zs2 : pZ [1, 2, 3, 4] σ (xup s 4 2 (s 4 1)) := zs.up 2 _ (by decide)
  have eX : fX2_next σ = (if 0 ≤ β b then (if (fX2_isLetter (β b)) = 0 then (if (fX2_isDigit (β b)) = 0 then (if β b = 59 then (xbt (fX2_need (xup s 4 2 (s 4 1)) 1) (fun _ σ17 => some (some (), (xup (xup σ17 4 3 3) 4 1 (((xup σ17 4 3 3) 4 1) + 1))))) else (xbt (fX2_need (xup s 4 2 (s 4 1)) 0) (fun _ σ14 => some (some (), (xup (xup σ14 4 3 3) 4 1 (((xup σ14 4 3 3) 4 1) + 1)))))) else (xbt (fX2_digits (xup s 4 2 (s 4 1))) (fun _ σ20 => some (some (), σ20)))) else (xbt (fX2_word (xup s 4 2 (s 4 1))) (fun _ σ23 => some (some (), σ23)))) else (some (some (), (xup (xup s 4 2 (s 4 1)) 4 3 0)))) := by
    unfold fX2_next
    rw [e1, Option.bind_some, s1, p_byX hb hxs (by omega), Option.bind_some]
  have eY : fX13_next τ = (if 0 ≤ β b then (if (fX0_in (β b) 97 122) = 0 then (if (fX0_in (β b) 48 57) = 0 then (some (xup (xup (xup (xup t 24 4 (t 24 3)) 24 6 0) 24 5 3) 24 4 (((xup (xup (xup t 24 4 (t 24 3)) 24 6 0) 24 5 3) 24 4) + 1))) else ((gX13_next_131 xfu (xup (xup (xup t 24 4 (t 24 3)) 24 6 0) 24 5 2)).bind (fun q15 => some q15))) else ((gX13_next_84 xfu (xup (xup (xup t 24 4 (t 24 3)) 24 6 0) 24 5 1)).bind (fun q20 => some q20))) else (some (xup (xup (xup t 24 4 (t 24 3)) 24 6 0) 24 5 0))) := by
    unfold fX13_next
    rw [d1, Option.bind_some, d2, p_byY hb hyt (by omega), Option.bind_some]
    rfl
  have zu : ∀ z, pV [3, 4, 5, 6] τ (xup (xup (xup t 24 4 (t 24 3)) 24 6 0) 24 5 z) := fun z => ((zt.up 4 _ (by decide)).up 6 _ (by decide)).up 5 _ (by decide)
  have u4 : ∀ z, (xup (xup (xup t 24 4 (t 24 3)) 24 6 0) 24 5 z) 24 4 = Int32.ofNat b := fun z => by rw [xup_n (by omega), xup_n (by omega), xup_s]; exact d2
  have u3 : ∀ z, (xup (xup (xup t 24 4 (t 24 3)) 24 6 0) 24 5 z) 24 3 = Int32.ofNat b := fun z => by rw [xup_n (by omega), xup_n (by omega), xup_n (by omega)]; exact d2
  have u6 : ∀ z, (xup (xup (xup t 24 4 (t 24 3)) 24 6 0) 24 5 z) 24 6 = 0 := fun z => by rw [xup_n (by omega), xup_s]
  have u5 : ∀ z, (xup (xup (xup t 24 4 (t 24 3)) 24 6 0) 24 5 z) 24 5 = z := fun z => xup_s _ _ _ _
  by_cases qE : L ≤ b
  · -- the end
    have hc : ¬ 0 ≤ β b := by rw [hb.2.2 b qE]; decide
    rw [if_neg hc] at eX eY
    refine ⟨b, b, _, _, b1, eY, zs2.up 3 _ (by decide), zu 0, Or.inl ⟨eX, ⟨?_, ?_⟩, ⟨u3 0, u4 0, Nat.le_refl _, hb120, fun w => ?_⟩, Or.inl ⟨xup_s _ _ _ _, u5 0⟩⟩⟩
    · rw [xup_n (by omega)]; exact s2
    · rw [xup_n (by omega)]; exact s1
    · rw [u5] at w; exact absurd w (by decide)
  have hbL : b < L := by omega
  obtain ⟨c, hc, hce⟩ := hb.2.1 b hbL
  have h0 : 0 ≤ β b := by rw [hce]; exact p_0le _ (by omega)
  rw [if_pos h0] at eX eY
  by_cases qL : pLet (β b)
  · -- a word
    have qL' : ¬ fX2_isLetter (β b) = 0 := qL
    have qL2 : ¬ fX0_in (β b) 97 122 = 0 := qL
    rw [if_neg qL'] at eX
    rw [if_neg qL2] at eY
    obtain ⟨e, f1, f2, f3, f4⟩ := p_run hb pLet (by unfold pLet; decide) b (Or.inl (by omega))
    have hbe : b < e := by
      by_cases w : b = e
      · rw [← w] at f4; exact absurd qL f4
      · omega
    have heL : e ≤ L := by omega
    obtain ⟨t', g1, g2, g3⟩ := p_leY hb (hy.v (zu 1) (by decide)) (u4 1) (by omega) (by omega) f3 f4
    rw [g1, Option.bind_some] at eY
    have zt' : pV [3, 4, 5, 6] τ t' := (zu 1).trans (g3.mono (by decide))
    have g5 : t' 24 5 = 1 := (g3 24 5 (by decide)).trans (u5 1)
    have at' : pAt L t' b e := ⟨(g3 24 3 (by decide)).trans (u3 1), g2, by omega, by omega, fun _ => heL⟩
    rcases p_wordX hb hxs s1 s2 hbe heL f3 f4 with ⟨k, s', hk, kw, w1, w2, w3, w4, w5⟩ | ⟨s', nk, w1, w2⟩
    · rw [w1] at eX
      refine ⟨b, e, s', t', b1, eY, zs2.trans (w5.mono (by decide)), zt', Or.inl ⟨eX, ⟨?_, w2⟩, at', Or.inr (Or.inr (Or.inl ⟨k, hk, w3, g5, w4, kw⟩))⟩⟩
      rw [w5 4 2 (by decide)]; exact s2
    · rw [w1] at eX
      refine ⟨b, e, s', t', b1, eY, zs2.trans (w2.mono (by decide)), zt', Or.inr ⟨eX, ?_, at', Or.inl ⟨g5, nk⟩⟩⟩
      rw [w2 4 2 (by decide)]; exact s2
  have qL' : fX2_isLetter (β b) = 0 := Classical.byContradiction qL
  have qL2 : fX0_in (β b) 97 122 = 0 := qL'
  rw [if_pos qL'] at eX
  rw [if_pos qL2] at eY
  by_cases qD : pDig (β b)
  · have qD' : ¬ fX2_isDigit (β b) = 0 := qD
    have qD2 : ¬ fX0_in (β b) 48 57 = 0 := qD
    rw [if_neg qD'] at eX
    rw [if_neg qD2] at eY
    obtain ⟨e, f1, f2, f3, f4⟩ := p_run hb pDig (by unfold pDig; decide) b (Or.inl (by omega))
    have hbe : b < e := by
      by_cases w : b = e
      · rw [← w] at f4; exact absurd qD f4
      · omega
    obtain ⟨v, s', t', g1, g2, g3, g4, g5, g6, g7⟩ := p_digits hb hxs (hy.v (zu 2) (by decide)) s1 (u4 2) (u6 2) (by omega) (by omega) f3 f4
    rw [g2, Option.bind_some] at eY
    have zt' : pV [3, 4, 5, 6] τ t' := (zu 2).trans (g6.mono (by decide))
    have g55 : t' 24 5 = 2 := (g6 24 5 (by decide)).trans (u5 2)
    have at' : pAt L t' b e := ⟨(g6 24 3 (by decide)).trans (u3 2), g4, by omega, by omega, fun w => by rw [g55] at w; exact absurd w (by decide)⟩
    have zs' : pZ [1, 2, 3, 4] σ (xup (xup s' 4 3 1) 4 4 (Int32.ofNat v)) := ((zs2.trans (g5.mono (by decide))).up 3 _ (by decide)).up 4 _ (by decide)
    have v2 : (xup (xup s' 4 3 1) 4 4 (Int32.ofNat v)) 4 2 = Int32.ofNat b := by rw [xup_n (by omega), xup_n (by omega), g5 4 2 (by decide)]; exact s2
    have v1 : (xup (xup s' 4 3 1) 4 4 (Int32.ofNat v)) 4 1 = Int32.ofNat e := by rw [xup_n (by omega), xup_n (by omega)]; exact g3
    unfold fX2_digits at eX
    rw [g1, Option.bind_some] at eX
    dsimp only at eX
    unfold fX2_need at eX
    rcases g7 with ⟨g7, g8⟩ | ⟨g7, g7', g8⟩
    · have hle : ¬ (999 : Int32) < Int32.ofNat v := fun w => by have := (p_lt (a := 999) (by omega) (by omega)).1 w; omega
      rw [if_neg hle, if_neg (by decide : ¬ (1 : Int32) = 0)] at eX
      refine ⟨b, e, _, t', b1, eY, zs', zt', Or.inl ⟨eX, ⟨v2, v1⟩, at', Or.inr (Or.inl ⟨v, g7, hbe, ?_, g55, xup_s _ _ _ _, g8⟩)⟩⟩
      rw [xup_n (by omega), xup_s]
    · have hle : (999 : Int32) < Int32.ofNat v := (p_lt (a := 999) (by omega) (by omega)).2 (by omega)
      rw [if_pos hle, if_pos rfl] at eX
      exact ⟨b, e, _, t', b1, eY, zs', zt', Or.inr ⟨eX, v2, at', Or.inr (Or.inl ⟨g55, g8⟩)⟩⟩
  have qD' : fX2_isDigit (β b) = 0 := Classical.byContradiction qD
  have qD2 : fX0_in (β b) 48 57 = 0 := qD'
  rw [if_pos qD'] at eX
  rw [if_pos qD2, u4 3, p_s] at eY
  have zt' : pV [3, 4, 5, 6] τ (xup (xup (xup (xup t 24 4 (t 24 3)) 24 6 0) 24 5 3) 24 4 (Int32.ofNat (b + 1))) := (zu 3).up 4 _ (by decide)
  have g55 : (xup (xup (xup (xup t 24 4 (t 24 3)) 24 6 0) 24 5 3) 24 4 (Int32.ofNat (b + 1))) 24 5 = 3 := by rw [xup_n (by omega)]; exact u5 3
  have at' : pAt L (xup (xup (xup (xup t 24 4 (t 24 3)) 24 6 0) 24 5 3) 24 4 (Int32.ofNat (b + 1))) b (b + 1) := ⟨by rw [xup_n (by omega)]; exact u3 3, xup_s _ _ _ _, by omega, by omega, fun w => by rw [g55] at w; exact absurd w (by decide)⟩
  unfold fX2_need at eX
  by_cases q59 : β b = 59
  · rw [if_pos q59, if_neg (by decide : ¬ (1 : Int32) = 0)] at eX
    have w1 : (xup (xup s 4 2 (s 4 1)) 4 3 3) 4 1 = Int32.ofNat b := by rw [xup_n (by omega)]; exact s1
    simp only [xbt] at eX
    rw [w1, p_s] at eX
    refine ⟨b, b + 1, _, _, b1, eY, (zs2.up 3 _ (by decide)).up 1 _ (by decide), zt', Or.inl ⟨eX, ⟨?_, xup_s _ _ _ _⟩, at', Or.inr (Or.inr (Or.inr ⟨?_, g55, q59, by omega⟩))⟩⟩
    · rw [xup_n (by omega), xup_n (by omega)]; exact s2
    · rw [xup_n (by omega), xup_s]
  · rw [if_neg q59, if_pos rfl] at eX
    exact ⟨b, b + 1, _, _, b1, eY, zs2, zt', Or.inr ⟨eX, s2, at', Or.inr (Or.inr ⟨g55, q59, hbL⟩)⟩⟩

/-! the two readers side by side -/
def pWr (τ : xM) (b : Nat) : Prop := τ 24 7 = 1 ∧ τ 24 3 = Int32.ofNat b
/-- the model has found, or will find, that it is wrong at b -/
def pLm (β : Nat → Int32) (L : Nat) (τ : xM) (b : Nat) : Prop := pWr τ b ∨ ∃ e, pBd β L τ b e ∧ τ 24 7 = 0 ∧ pY β L τ
def pSy (β : Nat → Int32) (L : Nat) (σ τ : xM) (b e : Nat) : Prop := pX β L σ ∧ pY β L τ ∧ pTk β L σ τ b e ∧ τ 24 7 = 0
theorem p_must0 {τ : xM} (h : τ 24 7 = 0) : fX13_must τ 0 = some (xup τ 24 7 1) := by
  unfold fX13_must
  rw [if_pos h, if_pos rfl, xup_s, if_neg (by decide)]
theorem p_must1 {τ : xM} (h : τ 24 7 = 0) {a : Int32} (ha : ¬ a = 0) : fX13_must τ a = fX13_next τ := by
  have e : xup τ 24 7 0 = τ := by rw [← h]; exact xup_id _ _ _
  unfold fX13_must
  rw [if_pos h, if_neg ha, xup_s, if_pos rfl, e]
  cases fX13_next τ <;> rfl
theorem p_mustW {τ : xM} (h : τ 24 7 = 1) (a : Int32) : fX13_must τ a = some τ := by
  have e : xup τ 24 7 1 = τ := by rw [← h]; exact xup_id _ _ _
  have h0 : ¬ τ 24 7 = 0 := by rw [h]; decide
  unfold fX13_must
  rw [if_neg h0, xup_s, if_neg (by decide), e]
theorem pWr.up {τ : xM} {b : Nat} (h : τ 24 3 = Int32.ofNat b) : pWr (xup τ 24 7 1) b := ⟨xup_s _ _ _ _, by rw [xup_n (by omega)]; exact h⟩
theorem p_numberL {β : Nat → Int32} {L : Nat} {τ : xM} {b : Nat} (h : pLm β L τ b) {lo : Int32} {hi : Nat} (hh : hi ≤ 999) : ∃ x τ', fX13_number τ lo (Int32.ofNat hi) = some (x, τ') ∧ pWr τ' b ∧ pV [7] τ τ' := by
  unfold fX13_number
  rcases h with h | ⟨e, ⟨ha, h⟩, h7, _⟩
  · refine ⟨τ 24 6, τ, ?_, h, pV.refl _ _⟩
    rw [p_mustW h.1, p_mustW h.1, Option.bind_some]
    by_cases q : τ 24 5 = 2
    · rw [if_pos q]
      split <;> rfl
    · rw [if_neg q]
  · refine ⟨τ 24 6, xup τ 24 7 1, ?_, pWr.up ha.1, (pV.refl _ _).up 7 _ (by decide)⟩
    by_cases q : τ 24 5 = 2
    · have h6 : τ 24 6 = 1000 := by
        rcases h with h | h | h
        · rw [h.1] at q; exact absurd q (by decide)
        · exact h.2
        · rw [h.1] at q; exact absurd q (by decide)
      have hw : fX13_within (τ 24 6) lo (Int32.ofNat hi) = 0 := by
        unfold fX13_within
        rw [h6]
        by_cases w : (1000 : Int32) < lo
        · rw [if_pos w]
        · have g : Int32.ofNat hi < (1000 : Int32) := (p_lt (b := 1000) (by omega) (by omega)).2 (by omega)
          rw [if_neg w, if_pos g]
      rw [if_pos q, if_pos hw, p_must0 h7, Option.bind_some]
    · rw [if_neg q, p_must0 h7, Option.bind_some]
theorem pBd.noWord {β : Nat → Int32} {L : Nat} {τ : xM} {b e : Nat} (h : pBd β L τ b e) (hy : pY β L τ) (hL : L ≤ 120) {i : Nat} (hi : i < 14) : fX13_isWord τ i = some 0 := by
  obtain ⟨ha, h⟩ := h
  rcases p_isWordM hy hi ha.1 ha.2.1 ha.2.2.1 (by have := ha.2.2.2.1; omega) hL ha.2.2.2.2 with ⟨q1, q2, _⟩ | ⟨_, q⟩
  · exfalso
    rcases h with h | h | h
    · exact h.2 i hi q2
    · rw [h.1] at q1; exact absurd q1 (by decide)
    · rw [h.1] at q1; exact absurd q1 (by decide)
  · exact q
theorem p_isNextL {β : Nat → Int32} {L : Nat} {τ : xM} {b : Nat} (h : pLm β L τ b) (hL : L ≤ 120) {i : Nat} (hi : i < 14) : fX13_isNext τ i = some (0, τ) := by
  unfold fX13_isNext
  rcases h with h | ⟨e, hd, h7, hy⟩
  · rw [if_neg (by rw [h.1]; decide)]
  · rw [if_pos h7, hd.noWord hy hL hi, Option.bind_some, if_pos rfl]
/-- a number is read, or all is lost -/
def pOut (β : Nat → Int32) (L : Nat) (σ τ : xM) (o : Option (Option Int32 × xM)) (o' : Option (Int32 × xM)) (lo hi p : Nat) : Prop :=
  (∃ v σ' τ' b e, o = some (some (Int32.ofNat v), σ') ∧ o' = some (Int32.ofNat v, τ') ∧ lo ≤ v ∧ v ≤ hi ∧ pSy β L σ' τ' b e ∧ p ≤ b ∧ pZ [1, 2, 3, 4] σ σ' ∧ pV [3, 4, 5, 6] τ τ') ∨
  (∃ σ' x τ' b, o = some (none, σ') ∧ o' = some (x, τ') ∧ σ' 4 2 = Int32.ofNat b ∧ pLm β L τ' b ∧ pZ [1, 2, 3, 4] σ σ' ∧ pV [3, 4, 5, 6, 7] τ τ')
theorem p_nextJ {β : Nat → Int32} {L : Nat} {σ τ : xM} (hb : pBy β L) {b e : Nat} (h : pSy β L σ τ b e) : ∃ b' e' σ' τ', e ≤ b' ∧ fX13_next τ = some τ' ∧ pZ [1, 2, 3, 4] σ σ' ∧ pV [3, 4, 5, 6] τ τ' ∧ ((fX2_next σ = some (some (), σ') ∧ pSy β L σ' τ' b' e') ∨ (fX2_next σ = some (none, σ') ∧ σ' 4 2 = Int32.ofNat b' ∧ pLm β L τ' b')) := by
  obtain ⟨hx, hy, ht, h7⟩ := h
  obtain ⟨b', e', σ', τ', h1, h2, h3, h4, h5⟩ := p_next hb hx hy (p := e) ht.2.1.2.2.2.1 ht.1.2 ht.2.1.2.1
  have h7' : τ' 24 7 = 0 := (h4 24 7 (by decide)).trans h7
  refine ⟨b', e', σ', τ', h1, h2, h3, h4, ?_⟩
  rcases h5 with ⟨g1, g2⟩ | ⟨g1, g2, g3⟩
  · exact Or.inl ⟨g1, hx.z h3 (by decide), hy.v h4 (by decide), g2, h7'⟩
  · exact Or.inr ⟨g1, g2, Or.inr ⟨e', g3, h7', hy.v h4 (by decide)⟩⟩
theorem p_number {β : Nat → Int32} {L : Nat} {σ τ : xM} (hb : pBy β L) {b e : Nat} (h : pSy β L σ τ b e) {lo hi : Nat} (hlo : lo ≤ 999) (hh : hi ≤ 999) : pOut β L σ τ (fX2_number σ (Int32.ofNat lo) (Int32.ofNat hi)) (fX13_number τ (Int32.ofNat lo) (Int32.ofNat hi)) lo hi e := by
  have hlost : σ 4 2 = Int32.ofNat b ∧ pLm β L (xup τ 24 7 1) b := ⟨h.2.2.1.1.1, Or.inl (pWr.up h.2.2.1.2.1.1)⟩
  have hv7 : pV [3, 4, 5, 6, 7] τ (xup τ 24 7 1) := (pV.refl _ _).up 7 _ (by decide)
  unfold fX2_number fX13_number
  by_cases q : ∃ v, v ≤ 999 ∧ b < e ∧ σ 4 3 = 1 ∧ τ 24 5 = 2 ∧ σ 4 4 = Int32.ofNat v ∧ τ 24 6 = Int32.ofNat v
  · obtain ⟨v, hv, hbe, q1, q2, q3, q4⟩ := q
    rw [if_pos q1, if_pos q2, q3, q4, show fX13_within (Int32.ofNat v) (Int32.ofNat lo) (Int32.ofNat hi) = fX0_in (Int32.ofNat v) (Int32.ofNat lo) (Int32.ofNat hi) from rfl]
    by_cases w : fX0_in (Int32.ofNat v) (Int32.ofNat lo) (Int32.ofNat hi) = 0
    · rw [if_pos w, if_pos w, p_must0 h.2.2.2]
      unfold fX2_need
      rw [if_pos rfl]
      exact Or.inr ⟨σ, _, _, b, rfl, rfl, hlost.1, hlost.2, pZ.refl _ _, hv7⟩
    · rw [if_neg w, if_neg w, p_must1 h.2.2.2 (by decide)]
      unfold fX2_need
      rw [if_neg (by decide : ¬ (1 : Int32) = 0)]
      simp only [xbt]
      obtain ⟨u, u1, u2, u3⟩ := p_range1 (n := hi) (m := lo) (by omega) (by omega) w
      have : u = v := ((p_eq (by omega) (by omega)).1 u3).symm
      subst this
      obtain ⟨b', e', σ', τ', g1, g2, g3, g4, g5⟩ := p_nextJ hb h
      rw [g2, Option.bind_some]
      rcases g5 with ⟨g5, g6⟩ | ⟨g5, g6, g7⟩
      · rw [g5]
        left
        refine ⟨u, σ', τ', b', e', ?_, rfl, u1, u2, g6, g1, g3, g4⟩
        simp only
        rw [q3]
      · rw [g5]
        exact Or.inr ⟨σ', _, τ', b', rfl, rfl, g6, g7, g3, g4.mono (by decide)⟩
  · have q1 : ¬ σ 4 3 = 1 := fun w => by
      rcases h.2.2.1.2.2 with g | g | g | g
      · rw [g.1] at w; exact absurd w (by decide)
      · exact q g
      · obtain ⟨k, _, g, _⟩ := g; rw [g] at w; exact absurd w (by decide)
      · rw [g.1] at w; exact absurd w (by decide)
    have q2 : ¬ τ 24 5 = 2 := fun w => by
      rcases h.2.2.1.2.2 with g | g | g | g
      · rw [g.2] at w; exact absurd w (by decide)
      · exact q g
      · obtain ⟨k, _, _, g, _⟩ := g; rw [g] at w; exact absurd w (by decide)
      · rw [g.2.1] at w; exact absurd w (by decide)
    rw [if_neg q1, if_neg q2, p_must0 h.2.2.2]
    unfold fX2_need
    rw [if_pos rfl]
    exact Or.inr ⟨σ, _, _, b, rfl, rfl, hlost.1, hlost.2, pZ.refl _ _, hv7⟩
theorem pOut.pre {β : Nat → Int32} {L : Nat} {σ τ σ1 τ1 : xM} {o : Option (Option Int32 × xM)} {o' : Option (Int32 × xM)} {lo hi p p' : Nat} (h : pOut β L σ1 τ1 o o' lo hi p) (hp : p' ≤ p) (hz : pZ [1, 2, 3, 4] σ σ1) (hv : pV [3, 4, 5, 6] τ τ1) : pOut β L σ τ o o' lo hi p' := by
  rcases h with ⟨v, a, t, b, e, h1, h2, h3, h4, h5, h6, h7, h8⟩ | ⟨a, x, t, b, h1, h2, h3, h4, h5, h6⟩
  · exact Or.inl ⟨v, a, t, b, e, h1, h2, h3, h4, h5, by omega, hz.trans h7, hv.trans h8⟩
  · exact Or.inr ⟨a, x, t, b, h1, h2, h3, h4, hz.trans h5, (hv.mono (by decide)).trans h6⟩
theorem p_behindJ {β : Nat → Int32} {L : Nat} {σ τ : xM} (hb : pBy β L) {b e : Nat} (h : pSy β L σ τ b e) {lo hi : Nat} (hlo : lo ≤ 999) (hh : hi ≤ 999) : ∃ τ1, fX13_next τ = some τ1 ∧ pOut β L σ τ (fX2_behind σ (Int32.ofNat lo) (Int32.ofNat hi)) (fX13_number τ1 (Int32.ofNat lo) (Int32.ofNat hi)) lo hi e := by
  obtain ⟨b', e', σ', τ', g1, g2, g3, g4, g5⟩ := p_nextJ hb h
  refine ⟨τ', g2, ?_⟩
  unfold fX2_behind
  rcases g5 with ⟨g5, g6⟩ | ⟨g5, g6, g7⟩
  · rw [g5]
    simp only [xbt]
    have k := p_number hb g6 hlo hh
    have hbe : b' ≤ e' := g6.2.2.1.2.1.2.2.1
    have k2 := k.pre (p' := e) (by omega) g3 g4
    rcases k2 with ⟨v, a, t, b2, e2, h1, h2⟩ | ⟨a, x, t, b2, h1, h2⟩
    · rw [h1]; exact Or.inl ⟨v, a, t, b2, e2, rfl, h2⟩
    · rw [h1]; exact Or.inr ⟨a, x, t, b2, rfl, h2⟩
  · rw [g5]
    simp only [xbt]
    obtain ⟨x, t, k1, k2, k3⟩ := p_numberL (lo := Int32.ofNat lo) g7 hh
    exact Or.inr ⟨σ', x, t, b', rfl, k1, g6, Or.inl k2, g3, (g4.mono (by decide)).trans (k3.mono (by decide))⟩
/-- the word at hand -/
theorem p_wordAt {β : Nat → Int32} {L : Nat} {σ τ : xM} (hL : L ≤ 120) {b e : Nat} (h : pSy β L σ τ b e) {k : Nat} (hk : k < 14) : (fX2_isWord σ (Int32.ofNat k) = 1 ∧ fX13_isWord τ (pIx k) = some 1) ∨ (fX2_isWord σ (Int32.ofNat k) = 0 ∧ fX13_isWord τ (pIx k) = some 0) := by
  obtain ⟨hx, hy, ⟨hp, ha, ht⟩, h7⟩ := h
  have w := p_isWordM hy (p_ixK k hk) ha.1 ha.2.1 ha.2.2.1 (by have := ha.2.2.2.1; omega) hL ha.2.2.2.2
  unfold fX2_isWord
  rcases ht with g | ⟨v, g⟩ | ⟨k', hk', g1, g2, g3, g4⟩ | g
  · right
    rw [if_neg (by rw [g.1]; decide)]
    rcases w with ⟨w, _⟩ | w
    · rw [g.2] at w; exact absurd w (by decide)
    · exact ⟨rfl, w.2⟩
  · right
    rw [if_neg (by rw [g.2.2.1]; decide)]
    rcases w with ⟨w, _⟩ | w
    · rw [g.2.2.2.1] at w; exact absurd w (by decide)
    · exact ⟨rfl, w.2⟩
  · rw [if_pos g1, g3]
    by_cases q : k' = k
    · left
      subst q
      rw [if_pos rfl]
      rcases w with ⟨_, _, w⟩ | w
      · exact ⟨rfl, w⟩
      · exact absurd ⟨g2, g4⟩ w.1
    · right
      rw [if_neg (fun v => q ((p_eq (by omega) (by omega)).1 v))]
      rcases w with ⟨_, w, _⟩ | w
      · exact absurd (p_ixI k' hk' k hk (g4.uniq w (p_ixK k' hk') (p_ixK k hk))) q
      · exact ⟨rfl, w.2⟩
  · right
    rw [if_neg (by rw [g.1]; decide)]
    rcases w with ⟨w, _⟩ | w
    · rw [g.2.1] at w; exact absurd w (by decide)
    · exact ⟨rfl, w.2⟩
theorem p_kindT {β : Nat → Int32} {τ : xM} (f : Nat → Option Int32) (hf : ∀ i, i < 7 → fX13_isWord τ i = f i) (hv : ∀ i, i < 7 → f i = some 0 ∨ f i = some 1) (k : Int32) (hk : (∀ i, i < 7 → f i = some 0) ∧ k = -1 ∨ ∃ j, j < 7 ∧ f j = some 1 ∧ (∀ i, i < 7 → i ≠ j → f i = some 0) ∧ k = Int32.ofNat j) : fX13_kindTold τ = some k := by
  have one : ∀ i, i < 7 → ∀ n x, gX13_kindTold_4 τ (n + 1) x (Int32.ofNat i) = gX13_kindTold_4 τ n (if f i = some 1 then Int32.ofNat i else x) (Int32.ofNat (i + 1)) := by
    intro i hi n x
    have hle : ¬ (7 : Int32) ≤ Int32.ofNat i := fun w => by have := (p_le (a := 7) (by omega) (by omega)).1 w; omega
    rw [gX13_kindTold_4, if_neg hle, if_pos ((p_in (by omega)).2 hi), p_nat (by omega), hf i hi, p_s]
    rcases hv i hi with q | q
    · rw [q, Option.bind_some, if_pos rfl, if_neg (by simp)]
    · rw [q, Option.bind_some, if_neg (by decide), if_pos rfl]
  have fin : gX13_kindTold_4 τ xfu (-1) 0 = some (k, 7) := by
    show gX13_kindTold_4 τ (1992 + 1 + 1 + 1 + 1 + 1 + 1 + 1 + 1) (-1) (Int32.ofNat 0) = _
    rw [one 0 (by omega), one 1 (by omega), one 2 (by omega), one 3 (by omega), one 4 (by omega), one 5 (by omega), one 6 (by omega), gX13_kindTold_4, if_pos (by decide)]
    congr 1
    rcases hk with ⟨h, rfl⟩ | ⟨j, hj, h1, h2, rfl⟩
    · rw [h 0 (by omega), h 1 (by omega), h 2 (by omega), h 3 (by omega), h 4 (by omega), h 5 (by omega), h 6 (by omega)]
      rfl
    · have : j = 0 ∨ j = 1 ∨ j = 2 ∨ j = 3 ∨ j = 4 ∨ j = 5 ∨ j = 6 := by omega
      rcases this with rfl | rfl | rfl | rfl | rfl | rfl | rfl
      · rw [h1, h2 1 (by omega) (by omega), h2 2 (by omega) (by omega), h2 3 (by omega) (by omega), h2 4 (by omega) (by omega), h2 5 (by omega) (by omega), h2 6 (by omega) (by omega)]; rfl
      · rw [h1, h2 0 (by omega) (by omega), h2 2 (by omega) (by omega), h2 3 (by omega) (by omega), h2 4 (by omega) (by omega), h2 5 (by omega) (by omega), h2 6 (by omega) (by omega)]; rfl
      · rw [h1, h2 0 (by omega) (by omega), h2 1 (by omega) (by omega), h2 3 (by omega) (by omega), h2 4 (by omega) (by omega), h2 5 (by omega) (by omega), h2 6 (by omega) (by omega)]; rfl
      · rw [h1, h2 0 (by omega) (by omega), h2 1 (by omega) (by omega), h2 2 (by omega) (by omega), h2 4 (by omega) (by omega), h2 5 (by omega) (by omega), h2 6 (by omega) (by omega)]; rfl
      · rw [h1, h2 0 (by omega) (by omega), h2 1 (by omega) (by omega), h2 2 (by omega) (by omega), h2 3 (by omega) (by omega), h2 5 (by omega) (by omega), h2 6 (by omega) (by omega)]; rfl
      · rw [h1, h2 0 (by omega) (by omega), h2 1 (by omega) (by omega), h2 2 (by omega) (by omega), h2 3 (by omega) (by omega), h2 4 (by omega) (by omega), h2 6 (by omega) (by omega)]; rfl
      · rw [h1, h2 0 (by omega) (by omega), h2 1 (by omega) (by omega), h2 2 (by omega) (by omega), h2 3 (by omega) (by omega), h2 4 (by omega) (by omega), h2 5 (by omega) (by omega)]; rfl
  unfold fX13_kindTold
  rw [fin]; rfl

