set_option maxRecDepth 100000
/-! THE PURE SIDE: small ints -/
theorem p_nat {k : Nat} (h : k < 2 ^ 31) : (Int32.ofNat k).toNatClampNeg = k := by
  have h1 : (Int32.ofNat k).toInt = (k : Int) := Int32.toInt_ofNat_of_lt h
  unfold Int32.toNatClampNeg
  rw [h1]
  rfl
theorem p_int {k : Nat} (h : k < 2 ^ 31) : (Int32.ofNat k).toInt = (k : Int) := Int32.toInt_ofNat_of_lt h
theorem p_add (a b : Nat) : Int32.ofNat a + Int32.ofNat b = Int32.ofNat (a + b) := (Int32.ofNat_add a b).symm
theorem p_mul (a b : Nat) : Int32.ofNat a * Int32.ofNat b = Int32.ofNat (a * b) := (Int32.ofNat_mul a b).symm
theorem p_s (a : Nat) : Int32.ofNat a + 1 = Int32.ofNat (a + 1) := p_add a 1
theorem p_le {a b : Nat} (ha : a < 2 ^ 31) (hb : b < 2 ^ 31) : Int32.ofNat a ≤ Int32.ofNat b ↔ a ≤ b := by
  rw [Int32.le_iff_toInt_le, p_int ha, p_int hb]
  omega
theorem p_lt {a b : Nat} (ha : a < 2 ^ 31) (hb : b < 2 ^ 31) : Int32.ofNat a < Int32.ofNat b ↔ a < b := by
  rw [Int32.lt_iff_toInt_lt, p_int ha, p_int hb]
  omega
theorem p_eq {a b : Nat} (ha : a < 2 ^ 31) (hb : b < 2 ^ 31) : Int32.ofNat a = Int32.ofNat b ↔ a = b := by
  constructor
  · intro h
    have h2 := congrArg Int32.toInt h
    rw [p_int ha, p_int hb] at h2
    omega
  · intro h
    rw [h]
theorem p_0le (a : Nat) (ha : a < 2 ^ 31) : (0 : Int32) ≤ Int32.ofNat a := (p_le (a := 0) (by decide) ha).2 (Nat.zero_le _)
theorem p_nlt0 (a : Nat) (ha : a < 2 ^ 31) : ¬ Int32.ofNat a < (0 : Int32) := fun h => by
  have := (p_lt (b := 0) ha (by decide)).1 h
  omega
theorem p_ne1 (a : Nat) (ha : a < 2 ^ 31) : ¬ Int32.ofNat a = (-1 : Int32) := fun h => by
  have h2 := congrArg Int32.toInt h
  rw [p_int ha] at h2
  have h3 : (-1 : Int32).toInt = -1 := by decide
  omega
theorem p_in {k n : Nat} (hk : k < 2 ^ 31) : xin (Int32.ofNat k) n ↔ k < n := by
  unfold xin
  rw [p_nat hk]
  constructor
  · intro h
    exact Nat.lt_of_not_le (fun q => h (Or.inr q))
  · intro h q
    rcases q with q | q
    · exact p_nlt0 k hk q
    · omega
/-- an int that is a small number -/
def pI (x : Int32) (n : Nat) : Prop := ∃ k, k < n ∧ x = Int32.ofNat k
theorem p_of_in {x : Int32} {n : Nat} (h : xin x n) : ∃ k, k < n ∧ k < 2 ^ 31 ∧ x = Int32.ofNat k := by
  have h0 : 0 ≤ x.toInt := by
    have h1 : ¬ x < 0 := fun q => h (Or.inl q)
    rw [Int32.lt_iff_toInt_lt] at h1
    have h2 : (0 : Int32).toInt = 0 := by decide
    omega
  have hlt : x.toInt < 2 ^ 31 := x.toInt_lt
  refine ⟨x.toInt.toNat, ?_, by omega, ?_⟩
  · exact Nat.lt_of_not_le (fun q => h (Or.inr q))
  · apply Int32.toInt_inj.1
    rw [p_int (by omega)]
    omega
theorem p_of_range {x : Int32} {n : Nat} (hn : n < 2 ^ 31) (h0 : ¬ x < 0) (h1 : ¬ Int32.ofNat n < x) : ∃ k, k ≤ n ∧ x = Int32.ofNat k := by
  rw [Int32.lt_iff_toInt_lt] at h0 h1
  rw [p_int hn] at h1
  have h2 : (0 : Int32).toInt = 0 := by decide
  refine ⟨x.toInt.toNat, by omega, ?_⟩
  apply Int32.toInt_inj.1
  rw [p_int (by omega)]
  omega
/-- two loops in step: each turn both go on, or both end -/
theorem p_lock {S S' T T' : Type} {G : Nat → S → Option T} {G' : Nat → S' → Option T'} (Inv : Nat → S → S' → Prop) {Post : T → T' → Prop} (B : Nat)
    (step : ∀ k n s s', Inv k s s' → (k < B ∧ ∃ t t', G (n + 1) s = G n t ∧ G' (n + 1) s' = G' n t' ∧ Inv (k + 1) t t') ∨ ∃ r r', G (n + 1) s = some r ∧ G' (n + 1) s' = some r' ∧ Post r r') :
    ∀ k s s', Inv k s s' → ∀ n, B - k < n → ∃ r r', G n s = some r ∧ G' n s' = some r' ∧ Post r r' := by
  intro k s s' hI n
  induction n generalizing k s s' with
  | zero => intro h; omega
  | succ n ih =>
    intro h
    rcases step k n s s' hI with ⟨hk, t, t', h1, h2, h3⟩ | h
    · rw [h1, h2]
      exact ih (k + 1) t t' h3 (by omega)
    · exact h
/-- one loop alone -/
theorem p_loop {S T : Type} {G : Nat → S → Option T} (Inv : Nat → S → Prop) {Post : T → Prop} (B : Nat)
    (step : ∀ k n s, Inv k s → (k < B ∧ ∃ t, G (n + 1) s = G n t ∧ Inv (k + 1) t) ∨ ∃ r, G (n + 1) s = some r ∧ Post r) :
    ∀ k s, Inv k s → ∀ n, B - k < n → ∃ r, G n s = some r ∧ Post r := by
  intro k s hI n
  induction n generalizing k s with
  | zero => intro h; omega
  | succ n ih =>
    intro h
    rcases step k n s hI with ⟨hk, t, h1, h3⟩ | h
    · rw [h1]
      exact ih (k + 1) t h3 (by omega)
    · exact h
theorem xup_s (σ : xM) (v i : Nat) (x : Int32) : xup σ v i x v i = x := by unfold xup; rw [if_pos ⟨rfl, rfl⟩]
theorem xup_n {σ : xM} {v i : Nat} {x : Int32} {a b : Nat} (h : ¬ (a = v ∧ b = i)) : xup σ v i x a b = σ a b := by unfold xup; rw [if_neg h]
theorem xup_id (σ : xM) (v i : Nat) : xup σ v i (σ v i) = σ := by
  funext a b
  unfold xup
  by_cases h : a = v ∧ b = i
  · rw [if_pos h, h.1, h.2]
  · rw [if_neg h]

/-! what ties the component's memory to the model's -/
def pUp (f : Nat → Int32) (i : Nat) (x : Int32) : Nat → Int32 := fun b => if b = i then x else f b
theorem pUp_s (f : Nat → Int32) (i : Nat) (x : Int32) : pUp f i x i = x := if_pos rfl
theorem pUp_n {f : Nat → Int32} {i : Nat} {x : Int32} {b : Nat} (h : b ≠ i) : pUp f i x b = f b := if_neg h
theorem xup_row (σ : xM) (v i : Nat) (x : Int32) : xup σ v i x v = pUp (σ v) i x := by
  funext b
  unfold xup pUp
  by_cases h : b = i
  · rw [if_pos ⟨rfl, h⟩, if_pos h]
  · rw [if_neg (fun q => h q.2), if_neg h]
theorem xup_row' {σ : xM} {v i w : Nat} {x : Int32} (h : w ≠ v) : xup σ v i x w = σ w := by
  funext b
  unfold xup
  rw [if_neg (fun q => h q.1)]
/-- a row of 186 ints that is a world with B bells -/
def pWB (B : Nat) (f : Nat → Int32) : Prop :=
  B ≤ 8 ∧ f 2 = Int32.ofNat B ∧ (∀ c, c < 64 → pI (f (18 + c)) 2) ∧ (∀ h, h < 4 → f (14 + h) = -1 ∨ pI (f (14 + h)) 64) ∧ (∀ s, s < 10 → f (4 + s) = -1 ∨ pI (f (4 + s)) B) ∧
  (∀ b, b < 8 → pI (f (146 + 5 * b)) 7 ∧ pI (f (146 + 5 * b + 1)) 64 ∧ pI (f (146 + 5 * b + 2)) 12 ∧ pI (f (146 + 5 * b + 3)) 100 ∧ pI (f (146 + 5 * b + 4)) 2) ∧
  pI (f 1) 10 ∧ ∀ c, c < 64 → pI (f (82 + c)) 10
theorem pWB.up {B : Nat} {f : Nat → Int32} (h : pWB B f) (i : Nat) (x : Int32) (h2 : i ≠ 2) (hn : ∀ c, c < 64 → i = 18 + c → pI x 2) (hh : ∀ c, c < 4 → i = 14 + c → x = -1 ∨ pI x 64) (hs : ∀ c, c < 10 → i = 4 + c → x = -1 ∨ pI x B)
    (hb : ∀ b, b < 8 → (i = 146 + 5 * b → pI x 7) ∧ (i = 146 + 5 * b + 1 → pI x 64) ∧ (i = 146 + 5 * b + 2 → pI x 12) ∧ (i = 146 + 5 * b + 3 → pI x 100) ∧ (i = 146 + 5 * b + 4 → pI x 2)) (hf : i = 1 → pI x 10) (ht : ∀ c, c < 64 → i = 82 + c → pI x 10) : pWB B (pUp f i x) := by
  obtain ⟨h1, h3, h4, h5, h6, h7, h10, h11⟩ := h
  refine ⟨h1, ?_, ?_, ?_, ?_, ?_, ?_, ?_⟩
  · rw [pUp_n (Ne.symm h2)]; exact h3
  · intro c hc
    by_cases q : 18 + c = i
    · rw [q, pUp_s]; exact hn c hc q.symm
    · rw [pUp_n q]; exact h4 c hc
  · intro c hc
    by_cases q : 14 + c = i
    · rw [q, pUp_s]; exact hh c hc q.symm
    · rw [pUp_n q]; exact h5 c hc
  · intro c hc
    by_cases q : 4 + c = i
    · rw [q, pUp_s]; exact hs c hc q.symm
    · rw [pUp_n q]; exact h6 c hc
  · intro b hb'
    have h8 := h7 b hb'
    have h9 := hb b hb'
    refine ⟨?_, ?_, ?_, ?_, ?_⟩
    · by_cases q : 146 + 5 * b = i
      · rw [q, pUp_s]; exact h9.1 q.symm
      · rw [pUp_n q]; exact h8.1
    · by_cases q : 146 + 5 * b + 1 = i
      · rw [q, pUp_s]; exact h9.2.1 q.symm
      · rw [pUp_n q]; exact h8.2.1
    · by_cases q : 146 + 5 * b + 2 = i
      · rw [q, pUp_s]; exact h9.2.2.1 q.symm
      · rw [pUp_n q]; exact h8.2.2.1
    · by_cases q : 146 + 5 * b + 3 = i
      · rw [q, pUp_s]; exact h9.2.2.2.1 q.symm
      · rw [pUp_n q]; exact h8.2.2.2.1
    · by_cases q : 146 + 5 * b + 4 = i
      · rw [q, pUp_s]; exact h9.2.2.2.2 q.symm
      · rw [pUp_n q]; exact h8.2.2.2.2
  · by_cases q : 1 = i
    · rw [q, pUp_s]; exact hf q.symm
    · rw [pUp_n q]; exact h10
  · intro c hc
    by_cases q : 82 + c = i
    · rw [q, pUp_s]; exact ht c hc q.symm
    · rw [pUp_n q]; exact h11 c hc
theorem pWB.bell {B : Nat} {f : Nat → Int32} (h : pWB B f) (b j : Nat) (x : Int32) (hb : b < 8) (hj : j < 5) (h0 : j = 0 → pI x 7) (h1 : j = 1 → pI x 64) (h2 : j = 2 → pI x 12) (h3 : j = 3 → pI x 100) (h4 : j = 4 → pI x 2) : pWB B (pUp f (146 + 5 * b + j) x) :=
  h.up _ x (by omega) (fun c hc q => by omega) (fun c hc q => by omega) (fun c hc q => by omega) (fun c hc => ⟨fun q => h0 (by omega), fun q => h1 (by omega), fun q => h2 (by omega), fun q => h3 (by omega), fun q => h4 (by omega)⟩) (fun q => by omega) (fun c hc q => by omega)
theorem pWB.net {B : Nat} {f : Nat → Int32} (h : pWB B f) (c : Nat) (x : Int32) (hc : c < 64) (hx : pI x 2) : pWB B (pUp f (18 + c) x) :=
  h.up _ x (by omega) (fun _ _ _ => hx) (fun c hc q => by omega) (fun c hc q => by omega) (fun c hc => ⟨fun q => by omega, fun q => by omega, fun q => by omega, fun q => by omega, fun q => by omega⟩) (fun q => by omega) (fun c hc q => by omega)
theorem pWB.thick {B : Nat} {f : Nat → Int32} (h : pWB B f) (c : Nat) (x : Int32) (hc : c < 64) (hx : pI x 10) : pWB B (pUp f (82 + c) x) :=
  h.up _ x (by omega) (fun c hc q => by omega) (fun c hc q => by omega) (fun c hc q => by omega) (fun c hc => ⟨fun q => by omega, fun q => by omega, fun q => by omega, fun q => by omega, fun q => by omega⟩) (fun q => by omega) (fun _ _ _ => hx)
theorem pWB.hunter {B : Nat} {f : Nat → Int32} (h : pWB B f) (c : Nat) (x : Int32) (hc : c < 4) (hx : x = -1 ∨ pI x 64) : pWB B (pUp f (14 + c) x) :=
  h.up _ x (by omega) (fun c hc q => by omega) (fun _ _ _ => hx) (fun c hc q => by omega) (fun c hc => ⟨fun q => by omega, fun q => by omega, fun q => by omega, fun q => by omega, fun q => by omega⟩) (fun q => by omega) (fun c hc q => by omega)
theorem pWB.spot {B : Nat} {f : Nat → Int32} (h : pWB B f) (c : Nat) (x : Int32) (hc : c < 10) (hx : x = -1 ∨ pI x B) : pWB B (pUp f (4 + c) x) :=
  h.up _ x (by omega) (fun c hc q => by omega) (fun c hc q => by omega) (fun _ _ _ => hx) (fun c hc => ⟨fun q => by omega, fun q => by omega, fun q => by omega, fun q => by omega, fun q => by omega⟩) (fun q => by omega) (fun c hc q => by omega)
theorem pWB.one {B : Nat} {f : Nat → Int32} (h : pWB B f) (c : Nat) (x : Int32) (hc : c = 0 ∨ c = 3) : pWB B (pUp f c x) :=
  h.up _ x (by omega) (fun c hc q => by omega) (fun c hc q => by omega) (fun c hc q => by omega) (fun c hc => ⟨fun q => by omega, fun q => by omega, fun q => by omega, fun q => by omega, fun q => by omega⟩) (fun q => by omega) (fun c hc q => by omega)
theorem pWB.fear {B : Nat} {f : Nat → Int32} (h : pWB B f) (x : Int32) (hx : pI x 10) : pWB B (pUp f 1 x) :=
  h.up _ x (by omega) (fun c hc q => by omega) (fun c hc q => by omega) (fun c hc q => by omega) (fun c hc => ⟨fun q => by omega, fun q => by omega, fun q => by omega, fun q => by omega, fun q => by omega⟩) (fun _ => hx) (fun c hc q => by omega)
/-- the row of the component's variable w is the row of the model's variable v -/
def pRow (σ : xM) (w : Nat) (τ : xM) (v : Nat) : Prop := ∀ i, i < 186 → τ v i = σ w i
/-- what is told apart from the field as it is now -/
def pO (σ τ : xM) : Prop :=
  (τ 24 0 = σ 6 1 ∧ (σ 6 1 = 0 ∨ σ 6 1 = 1 ∧ pRow σ 1 τ 21 ∧ ∃ B, pWB B (σ 1))) ∧
  (τ 24 2 = σ 6 0 ∧ pI (σ 6 0) 121 ∧ ∀ i, i < 120 → τ 26 i = σ 5 i &&& 255) ∧
  ((∀ i, i < 7 → τ 23 (i + 1) = σ 7 i) ∧ τ 23 0 = σ 7 0 + σ 7 1 + σ 7 2 + σ 7 3 + σ 7 4 + σ 7 5 + σ 7 6) ∧
  ((∀ s, s < 4 → τ 28 s = σ 13 s ∧ τ 29 s = σ 14 s ∧ pI (σ 14 s) 41 ∧ (σ 13 s = 0 ∨ σ 13 s = 8 ∨ σ 13 s = 16 ∨ σ 13 s = 32) ∧ ∀ i, i < 40 → τ 30 (40 * s + i) = σ 15 (40 * s + i) ∧ (σ 13 s = 8 → fits .byte (.int (σ 15 (40 * s + i))) = true) ∧ (σ 13 s = 16 → fits .short (.int (σ 15 (40 * s + i))) = true))) ∧
  (τ 32 0 = -1 ∧ τ 32 1 = 0 ∧ τ 32 2 = 1 ∧ τ 32 3 = 0 ∧ τ 33 0 = 0 ∧ τ 33 1 = 1 ∧ τ 33 2 = 0 ∧ τ 33 3 = -1)
def pR (σ τ : xM) : Prop := (pRow σ 0 τ 20 ∧ ∃ B, pWB B (σ 0)) ∧ pO σ τ
/-- but for the variables of L nothing is changed -/
def pF (L : List Nat) (σ σ' : xM) : Prop := ∀ v i, v ∉ L → (v = 24 → i = 0 ∨ i = 2) → σ' v i = σ v i
theorem pF.refl (L : List Nat) (σ : xM) : pF L σ σ := fun _ _ _ _ => rfl
theorem pF.trans {L : List Nat} {a b c : xM} (h1 : pF L a b) (h2 : pF L b c) : pF L a c := fun v i h q => (h2 v i h q).trans (h1 v i h q)
theorem pF.mono {L L' : List Nat} {a b : xM} (h : pF L a b) (hs : ∀ v, v ∈ L → v ∈ L') : pF L' a b := fun v i hv q => h v i (fun k => hv (hs v k)) q
theorem pF.up {L : List Nat} {a b : xM} (h : pF L a b) (v i : Nat) (x : Int32) (hv : v ∈ L) : pF L a (xup b v i x) := fun w j hw q => by
  have hne : ¬ (w = v ∧ j = i) := fun k => hw (k.1 ▸ hv)
  rw [xup_n hne]; exact h w j hw q
theorem pF.up24 {L : List Nat} {a b : xM} (h : pF L a b) (i : Nat) (x : Int32) (h0 : i ≠ 0) (h2 : i ≠ 2) : pF L a (xup b 24 i x) := fun w j hw q => by
  have hne : ¬ (w = 24 ∧ j = i) := fun k => by rcases q k.1 with q | q <;> omega
  rw [xup_n hne]; exact h w j hw q
theorem pO.l {σ σ' τ : xM} {L : List Nat} (h : pO σ τ) (f : pF L σ σ') (hL : 1 ∉ L ∧ 5 ∉ L ∧ 6 ∉ L ∧ 7 ∉ L ∧ 13 ∉ L ∧ 14 ∉ L ∧ 15 ∉ L) : pO σ' τ := by
  have e1 : σ' 1 = σ 1 := by funext i; exact f 1 i hL.1 (by omega)
  have e2 : σ' 5 = σ 5 := by funext i; exact f 5 i hL.2.1 (by omega)
  have e3 : σ' 6 = σ 6 := by funext i; exact f 6 i hL.2.2.1 (by omega)
  have e4 : σ' 7 = σ 7 := by funext i; exact f 7 i hL.2.2.2.1 (by omega)
  have e5 : σ' 13 = σ 13 := by funext i; exact f 13 i hL.2.2.2.2.1 (by omega)
  have e6 : σ' 14 = σ 14 := by funext i; exact f 14 i hL.2.2.2.2.2.1 (by omega)
  have e7 : σ' 15 = σ 15 := by funext i; exact f 15 i hL.2.2.2.2.2.2 (by omega)
  unfold pO pRow at *
  rw [e1, e2, e3, e4, e5, e6, e7]
  exact h
theorem pO.r {σ τ τ' : xM} {L : List Nat} (h : pO σ τ) (f : pF L τ τ') (hL : 21 ∉ L ∧ 23 ∉ L ∧ 24 ∉ L ∧ 26 ∉ L ∧ 28 ∉ L ∧ 29 ∉ L ∧ 30 ∉ L ∧ 32 ∉ L ∧ 33 ∉ L) : pO σ τ' := by
  have e1 : τ' 21 = τ 21 := by funext i; exact f 21 i hL.1 (by omega)
  have e2 : τ' 23 = τ 23 := by funext i; exact f 23 i hL.2.1 (by omega)
  have e3 : τ' 24 0 = τ 24 0 := f 24 0 hL.2.2.1 (by omega)
  have e4 : τ' 24 2 = τ 24 2 := f 24 2 hL.2.2.1 (by omega)
  have e5 : τ' 26 = τ 26 := by funext i; exact f 26 i hL.2.2.2.1 (by omega)
  have e6 : τ' 28 = τ 28 := by funext i; exact f 28 i hL.2.2.2.2.1 (by omega)
  have e7 : τ' 29 = τ 29 := by funext i; exact f 29 i hL.2.2.2.2.2.1 (by omega)
  have e8 : τ' 30 = τ 30 := by funext i; exact f 30 i hL.2.2.2.2.2.2.1 (by omega)
  have e9 : τ' 32 = τ 32 := by funext i; exact f 32 i hL.2.2.2.2.2.2.2.1 (by omega)
  have e10 : τ' 33 = τ 33 := by funext i; exact f 33 i hL.2.2.2.2.2.2.2.2 (by omega)
  unfold pO pRow at *
  rw [e1, e2, e3, e4, e5, e6, e7, e8, e9, e10]
  exact h
def pC : List Nat := [0, 1, 2, 3, 4, 5, 6, 7, 8, 9, 10, 11, 12, 13, 14, 15]
def pM : List Nat := [20, 21, 22, 23, 24, 25, 26, 27, 28, 29, 30, 31]
/-- both sides answer, and alike -/
def pOk {α : Type} (o : Option (α × xM)) (o' : Option (α × xM)) (σ τ : xM) : Prop := ∃ r σ' τ', o = some (r, σ') ∧ o' = some (r, τ') ∧ pR σ' τ' ∧ pF pC σ σ' ∧ pF pM τ τ'
theorem pR.now {σ τ : xM} {B : Nat} (h : pR σ τ) (i : Nat) (x : Int32) (hB : pWB B (pUp (σ 0) i x)) : pR (xup σ 0 i x) (xup τ 20 i x) := by
  refine ⟨⟨fun j hj => ?_, B, by rw [xup_row]; exact hB⟩, ?_⟩
  · rw [xup_row, xup_row]
    unfold pUp
    by_cases q : j = i
    · rw [if_pos q, if_pos q]
    · rw [if_neg q, if_neg q]; exact h.1.1 j hj
  · exact (h.2.l (L := [0]) ((pF.refl _ _).up 0 i x (by decide)) (by decide)).r (L := [20]) ((pF.refl _ _).up 20 i x (by decide)) (by decide)
theorem p_find {σ τ : xM} (k : Nat) (hk : k < 7) (hR : pR σ τ) {a b : Int32} (ha : a = Int32.ofNat k) (hb : b = -1000001 - Int32.ofNat k) : pOk (fX0_finding σ a) (fX13_finding τ b) σ τ := by
  subst ha hb
  have e1 : xin (Int32.ofNat k) 7 := (p_in (by omega)).2 hk
  have e2 : ((-1000001 : Int32) - (-1000001 - Int32.ofNat k)) + 1 = Int32.ofNat (k + 1) := by
    rw [← p_s]
    have : k = 0 ∨ k = 1 ∨ k = 2 ∨ k = 3 ∨ k = 4 ∨ k = 5 ∨ k = 6 := by omega
    rcases this with rfl | rfl | rfl | rfl | rfl | rfl | rfl <;> decide
  have e3 : xin (Int32.ofNat (k + 1)) 8 := (p_in (by omega)).2 (by omega)
  unfold fX0_finding fX13_finding
  rw [e2, if_pos e1, if_pos e1, if_pos e3, if_pos e3, p_nat (by omega), p_nat (by omega)]
  refine ⟨_, _, _, rfl, rfl, ?_, (pF.refl _ _).up _ _ _ (by decide), ((pF.refl _ _).up _ _ _ (by decide)).up _ _ _ (by decide)⟩
  have e4 : ((0 : Int32).toNatClampNeg) = 0 := by decide
  rw [e4]
  obtain ⟨hn, h1, h2, h3, h4, h5⟩ := hR
  refine ⟨hn, h1, h2, ?_, h4, h5⟩
  constructor
  · intro i hi
    rw [xup_n (by omega), xup_row, xup_row]
    unfold pUp
    by_cases q : i = k
    · subst q
      rw [if_pos rfl, if_pos rfl, h3.1 i hi]
    · rw [if_neg q, if_neg (by omega)]; exact h3.1 i hi
  · rw [xup_s, xup_n (by omega), h3.2, xup_row]
    have : k = 0 ∨ k = 1 ∨ k = 2 ∨ k = 3 ∨ k = 4 ∨ k = 5 ∨ k = 6 := by omega
    rcases this with rfl | rfl | rfl | rfl | rfl | rfl | rfl <;> simp only [pUp] <;> simp <;> ac_rfl

theorem p_range {a : Int32} {n : Nat} (hn : n < 2 ^ 31) (h : ¬ fX0_in a 0 (Int32.ofNat n) = 0) : ∃ k, k ≤ n ∧ a = Int32.ofNat k := by
  unfold fX0_in at h
  by_cases h0 : a < 0
  · rw [if_pos h0] at h; exact absurd rfl h
  · rw [if_neg h0] at h
    by_cases h1 : Int32.ofNat n < a
    · rw [if_pos h1] at h; exact absurd rfl h
    · exact p_of_range hn h0 h1
theorem p_range1 {a : Int32} {n m : Nat} (hn : n < 2 ^ 31) (hm : m < 2 ^ 31) (h : ¬ fX0_in a (Int32.ofNat m) (Int32.ofNat n) = 0) : ∃ k, m ≤ k ∧ k ≤ n ∧ a = Int32.ofNat k := by
  unfold fX0_in at h
  by_cases h0 : a < Int32.ofNat m
  · rw [if_pos h0] at h; exact absurd rfl h
  · rw [if_neg h0] at h
    by_cases h1 : Int32.ofNat n < a
    · rw [if_pos h1] at h; exact absurd rfl h
    · have h2 : ¬ a < 0 := by
        rw [Int32.lt_iff_toInt_lt] at *
        rw [p_int hm] at h0
        have h2 : (0 : Int32).toInt = 0 := by decide
        omega
      obtain ⟨k, hk, rfl⟩ := p_of_range hn h2 h1
      refine ⟨k, ?_, hk, rfl⟩
      rw [p_lt (by omega) hm] at h0
      omega
theorem p_rangeN {a : Int32} {n : Nat} (hn : n < 2 ^ 31) (h : ¬ fX0_in a (-1) (Int32.ofNat n) = 0) : a = -1 ∨ ∃ k, k ≤ n ∧ a = Int32.ofNat k := by
  by_cases h0 : a = -1
  · exact Or.inl h0
  · right
    apply p_range hn
    unfold fX0_in at *
    have h1 : (a < -1) ↔ a < 0 := by
      have h9 : (-1 : Int32).toInt = -1 := by decide
      have h2 : (0 : Int32).toInt = 0 := by decide
      have h3 : a.toInt ≠ -1 := fun q => h0 (Int32.toInt_inj.1 (q.trans h9.symm))
      rw [Int32.lt_iff_toInt_lt, Int32.lt_iff_toInt_lt]
      omega
    by_cases h2 : a < 0
    · rw [if_pos (h1.2 h2)] at h; exact absurd rfl h
    · rw [if_neg (fun q => h2 (h1.1 q))] at h
      rw [if_neg h2]
      exact h
theorem p_become (τ : xM) {i : Nat} (hi : i < 186) (x : Int32) : fX13_become τ (Int32.ofNat i) x = some (τ 20 i, xup τ 20 i x) := by
  unfold fX13_become
  rw [if_pos ((p_in (by omega)).2 hi), if_pos ((p_in (by omega)).2 hi), p_nat (by omega)]
theorem pOk.b {α : Type} {o o' : Option (α × xM)} {σ τ : xM} (h : pOk o o' σ τ) : pOk (o.bind fun r => some (r.1, r.2)) (o'.bind fun r => some (r.1, r.2)) σ τ := by
  obtain ⟨r, σ', τ', h1, h2, h3⟩ := h
  rw [h1, h2]
  exact ⟨r, σ', τ', rfl, rfl, h3⟩
theorem pOk.q {α : Type} {σ τ : xM} (hR : pR σ τ) (r : α) : pOk (some (r, σ)) (some (r, τ)) σ τ := ⟨r, σ, τ, rfl, rfl, hR, pF.refl _ _, pF.refl _ _⟩
theorem pOk.now {α : Type} {σ τ : xM} {B : Nat} (hR : pR σ τ) (r : α) (i : Nat) (x : Int32) (hB : pWB B (pUp (σ 0) i x)) : pOk (some (r, xup σ 0 i x)) (some (r, xup τ 20 i x)) σ τ :=
  ⟨r, _, _, rfl, rfl, hR.now i x hB, (pF.refl _ _).up _ _ _ (by decide), (pF.refl _ _).up _ _ _ (by decide)⟩
theorem pf0 {σ τ : xM} (hR : pR σ τ) : pOk ((fX0_finding σ 0).bind fun r => some (r.1, r.2)) ((fX13_finding τ (-1000001)).bind fun r => some (r.1, r.2)) σ τ := (p_find 0 (by decide) hR (by decide) (by decide)).b
theorem pf1 {σ τ : xM} (hR : pR σ τ) : pOk ((fX0_finding σ 1).bind fun r => some (r.1, r.2)) ((fX13_finding τ (-1000002)).bind fun r => some (r.1, r.2)) σ τ := (p_find 1 (by decide) hR (by decide) (by decide)).b
theorem pf2 {σ τ : xM} (hR : pR σ τ) : pOk ((fX0_finding σ 2).bind fun r => some (r.1, r.2)) ((fX13_finding τ (-1000003)).bind fun r => some (r.1, r.2)) σ τ := (p_find 2 (by decide) hR (by decide) (by decide)).b
theorem pf3 {σ τ : xM} (hR : pR σ τ) : pOk ((fX0_finding σ 3).bind fun r => some (r.1, r.2)) ((fX13_finding τ (-1000004)).bind fun r => some (r.1, r.2)) σ τ := (p_find 3 (by decide) hR (by decide) (by decide)).b
theorem pf4 {σ τ : xM} (hR : pR σ τ) : pOk ((fX0_finding σ 4).bind fun r => some (r.1, r.2)) ((fX13_finding τ (-1000005)).bind fun r => some (r.1, r.2)) σ τ := (p_find 4 (by decide) hR (by decide) (by decide)).b
theorem pf5 {σ τ : xM} (hR : pR σ τ) : pOk ((fX0_finding σ 5).bind fun r => some (r.1, r.2)) ((fX13_finding τ (-1000006)).bind fun r => some (r.1, r.2)) σ τ := (p_find 5 (by decide) hR (by decide) (by decide)).b
theorem pf6 {σ τ : xM} (hR : pR σ τ) : pOk ((fX0_finding σ 6).bind fun r => some (r.1, r.2)) ((fX13_finding τ (-1000007)).bind fun r => some (r.1, r.2)) σ τ := (p_find 6 (by decide) hR (by decide) (by decide)).b
theorem p_net {σ τ : xM} (hR : pR σ τ) (a1 a2 : Int32) : pOk (fX0_net σ a1 a2) (fX13_net τ a1 a2) σ τ := by
  unfold fX0_net fX13_net
  rw [show fX13_isCell a1 = fX0_isCell a1 from rfl, show fX13_within a2 0 1 = fX0_in a2 0 1 from rfl]
  by_cases h1 : fX0_isCell a1 = 0
  · rw [if_pos h1, if_pos h1]; exact pf0 hR
  rw [if_neg h1, if_neg h1]
  by_cases h2 : fX0_in a2 0 1 = 0
  · rw [if_pos h2, if_pos h2]; exact pf0 hR
  rw [if_neg h2, if_neg h2]
  obtain ⟨c, hc, rfl⟩ := p_range (n := 63) (by decide) h1
  obtain ⟨x, hx, rfl⟩ := p_range (n := 1) (by decide) h2
  have e1 : xin (Int32.ofNat c) 64 := (p_in (by omega)).2 (by omega)
  rw [if_pos e1, if_pos e1, if_pos e1, p_nat (by omega), show (18 : Int32) + Int32.ofNat c = Int32.ofNat (18 + c) from p_add 18 c, p_become τ (by omega)]
  dsimp only [Option.bind]
  rw [hR.1.1 (18 + c) (by omega)]
  obtain ⟨B, hB⟩ := hR.1.2
  by_cases h3 : σ 0 (18 + c) = Int32.ofNat x
  · rw [if_pos h3, if_pos h3]; exact pOk.now hR 0 (18 + c) _ (hB.net c _ (by omega) ⟨x, by omega, rfl⟩)
  · rw [if_neg h3, if_neg h3]; exact pOk.now hR 1 (18 + c) _ (hB.net c _ (by omega) ⟨x, by omega, rfl⟩)
theorem p_thick {σ τ : xM} (hR : pR σ τ) (a1 a2 : Int32) : pOk (fX0_thick σ a1 a2) (fX13_thick τ a1 a2) σ τ := by
  unfold fX0_thick fX13_thick
  rw [show fX13_isCell a1 = fX0_isCell a1 from rfl, show fX13_within a2 0 9 = fX0_in a2 0 9 from rfl]
  by_cases h1 : fX0_isCell a1 = 0
  · rw [if_pos h1, if_pos h1]; exact pf0 hR
  rw [if_neg h1, if_neg h1]
  by_cases h2 : fX0_in a2 0 9 = 0
  · rw [if_pos h2, if_pos h2]; exact pf0 hR
  rw [if_neg h2, if_neg h2]
  obtain ⟨c, hc, rfl⟩ := p_range (n := 63) (by decide) h1
  have e1 : xin (Int32.ofNat c) 64 := (p_in (by omega)).2 (by omega)
  rw [if_pos e1, if_pos e1, p_nat (by omega), show (82 : Int32) + Int32.ofNat c = Int32.ofNat (82 + c) from p_add 82 c, p_become τ (by omega)]
  dsimp only [Option.bind]
  rw [hR.1.1 (82 + c) (by omega)]
  obtain ⟨B, hB⟩ := hR.1.2
  obtain ⟨k, hk, e⟩ := p_range (n := 9) (by decide) h2
  exact pOk.now hR _ (82 + c) _ (hB.thick c _ (by omega) ⟨k, by omega, e⟩)
theorem p_hunter {σ τ : xM} (hR : pR σ τ) (a1 a2 : Int32) : pOk (fX0_hunter σ a1 a2) (fX13_hunter τ a1 a2) σ τ := by
  unfold fX0_hunter fX13_hunter
  rw [show fX13_isHunter a1 = fX0_isHunter a1 from rfl, show fX13_within a2 (-1) 63 = fX0_in a2 (-1) 63 from rfl]
  by_cases h1 : fX0_isHunter a1 = 0
  · rw [if_pos h1, if_pos h1]; exact pf0 hR
  rw [if_neg h1, if_neg h1]
  by_cases h2 : fX0_in a2 (-1) 63 = 0
  · rw [if_pos h2, if_pos h2]; exact pf0 hR
  rw [if_neg h2, if_neg h2]
  obtain ⟨c, hc, rfl⟩ := p_range (n := 3) (by decide) h1
  have e1 : xin (Int32.ofNat c) 4 := (p_in (by omega)).2 (by omega)
  rw [if_pos e1, if_pos e1, p_nat (by omega), show (14 : Int32) + Int32.ofNat c = Int32.ofNat (14 + c) from p_add 14 c, p_become τ (by omega)]
  dsimp only [Option.bind]
  rw [hR.1.1 (14 + c) (by omega)]
  obtain ⟨B, hB⟩ := hR.1.2
  refine pOk.now hR _ (14 + c) _ (hB.hunter c _ (by omega) ?_)
  rcases p_rangeN (n := 63) (by decide) h2 with h | ⟨k, hk, h⟩
  · exact Or.inl h
  · exact Or.inr ⟨k, by omega, h⟩
theorem p_fear {σ τ : xM} (hR : pR σ τ) (a1 : Int32) : pOk (fX0_fear σ a1) (fX13_fear τ a1) σ τ := by
  unfold fX0_fear fX13_fear
  rw [show fX13_within a1 0 9 = fX0_in a1 0 9 from rfl]
  by_cases h1 : fX0_in a1 0 9 = 0
  · rw [if_pos h1, if_pos h1]; exact pf0 hR
  rw [if_neg h1, if_neg h1, show (1 : Int32) = Int32.ofNat 1 from rfl, p_become τ (by omega)]
  dsimp only [Option.bind]
  rw [hR.1.1 1 (by omega)]
  obtain ⟨B, hB⟩ := hR.1.2
  obtain ⟨k, hk, e⟩ := p_range (n := 9) (by decide) h1
  exact pOk.now hR _ 1 _ (hB.fear _ ⟨k, by omega, e⟩)
theorem p_seed {σ τ : xM} (hR : pR σ τ) (a1 : Int32) : pOk (fX0_seed σ a1) (fX13_seed τ a1) σ τ := by
  unfold fX0_seed fX13_seed
  rw [show (3 : Int32) = Int32.ofNat 3 from rfl, p_become τ (by omega)]
  dsimp only [Option.bind]
  rw [hR.1.1 3 (by omega)]
  obtain ⟨B, hB⟩ := hR.1.2
  exact pOk.now hR _ 3 _ (hB.one 3 _ (by omega))
/-- what the model reads of a bell -/
theorem p_at (b f : Nat) : fX13_at (Int32.ofNat b) (Int32.ofNat f) = Int32.ofNat (146 + 5 * b + f) := by
  unfold fX13_at
  rw [show (5 : Int32) * Int32.ofNat b = Int32.ofNat (5 * b) from p_mul 5 b, show (146 : Int32) + Int32.ofNat (5 * b) = Int32.ofNat (146 + 5 * b) from p_add 146 _, p_add]
theorem p_bellIs {σ τ : xM} (hR : pRow σ 0 τ 20) {b f : Nat} (hb : b < 8) (hf : f < 5) : fX13_bellIs τ (Int32.ofNat b) (Int32.ofNat f) = some (σ 0 (146 + 5 * b + f)) := by
  unfold fX13_bellIs
  rw [p_at, if_pos ((p_in (by omega)).2 (by omega)), p_nat (by omega), hR _ (by omega)]
theorem p_isBell {σ τ : xM} (hR : pR σ τ) (a : Int32) : fX13_isBell τ a = some (fX0_isBell σ a) := by
  have h2 : ((2 : Int32).toNatClampNeg) = 2 := by decide
  have h3 : fX13_within a 0 (σ 0 2 - 1) = fX0_isBell σ a := rfl
  unfold fX13_isBell
  rw [h2, hR.1.1 2 (by omega), h3, if_pos]
  unfold fX0_isBell fX0_in
  by_cases h : a < 0
  · rw [if_pos h]; exact Or.inl rfl
  · rw [if_neg h]
    by_cases h : σ 0 2 - 1 < a
    · rw [if_pos h]; exact Or.inl rfl
    · rw [if_neg h]; exact Or.inr rfl
theorem p_bell_of {σ : xM} {B : Nat} (hB : pWB B (σ 0)) {a : Int32} (h : ¬ fX0_isBell σ a = 0) : ∃ b, b < B ∧ b < 8 ∧ a = Int32.ofNat b := by
  unfold fX0_isBell at h
  rw [hB.2.1] at h
  have h8 := hB.1
  rcases Nat.eq_zero_or_pos B with h0 | h0
  · subst h0
    exfalso
    apply h
    unfold fX0_in
    by_cases h1 : a < 0
    · rw [if_pos h1]
    · rw [if_neg h1, if_pos]
      rw [Int32.lt_iff_toInt_lt] at *
      have h2 : (0 : Int32).toInt = 0 := by decide
      have h3 : (Int32.ofNat 0 - 1).toInt = -1 := by decide
      omega
  · have e : Int32.ofNat B - 1 = Int32.ofNat (B - 1) := by
      have : B = 1 ∨ B = 2 ∨ B = 3 ∨ B = 4 ∨ B = 5 ∨ B = 6 ∨ B = 7 ∨ B = 8 := by omega
      rcases this with rfl | rfl | rfl | rfl | rfl | rfl | rfl | rfl <;> decide
    rw [e] at h
    obtain ⟨k, hk, rfl⟩ := p_range (by omega) h
    exact ⟨k, by omega, by omega, rfl⟩
theorem p_caughtC {σ : xM} {w b : Nat} (hb : b < 8) : fX4_isCaught σ w (Int32.ofNat b) = some (if σ w (146 + 5 * b + 4) = 1 then 1 else 0) := by
  unfold fX4_isCaught
  rw [if_pos ((p_in (by omega)).2 (by omega)), p_nat (by omega)]
  by_cases h : σ w (146 + 5 * b + 4) = 1
  · rw [if_pos h, if_pos h]
  · rw [if_neg h, if_neg h]
theorem p_caughtM {σ τ : xM} (hR : pRow σ 0 τ 20) {b : Nat} (hb : b < 8) : fX13_isCaught τ (Int32.ofNat b) = some (if σ 0 (146 + 5 * b + 4) = 1 then 1 else 0) := by
  unfold fX13_isCaught
  rw [show (4 : Int32) = Int32.ofNat 4 from rfl, p_bellIs hR hb (by omega)]
  dsimp only [Option.bind]
  by_cases h : σ 0 (146 + 5 * b + 4) = 1
  · rw [if_pos h, if_pos h]
  · rw [if_neg h, if_neg h]
theorem p_change {σ τ : xM} (hR : pR σ τ) (a1 a2 a3 : Int32) : pOk (fX0_change σ a1 a2 a3) (fX13_change τ a1 a2 a3) σ τ := by
  unfold fX0_change fX13_change
  rw [p_isBell hR, show fX13_mayBe a2 a3 = fX0_isTold a2 a3 from rfl]
  dsimp only [Option.bind]
  by_cases h1 : fX0_isBell σ a1 = 0
  · rw [if_pos h1, if_pos h1]; exact pf0 hR
  rw [if_neg h1, if_neg h1]
  by_cases h2 : fX0_isTold a2 a3 = 0
  · rw [if_pos h2, if_pos h2]; exact pf0 hR
  rw [if_neg h2, if_neg h2]
  obtain ⟨B, hB⟩ := hR.1.2
  obtain ⟨b, hb, hb8, rfl⟩ := p_bell_of hB h1
  have h3 : ∃ f, f < 5 ∧ a2 = Int32.ofNat f ∧ (f = 0 → pI a3 7) ∧ (f = 1 → pI a3 64) ∧ (f = 2 → pI a3 12) ∧ (f = 3 → pI a3 100) ∧ (f = 4 → pI a3 2) := by
    unfold fX0_isTold at h2
    by_cases q0 : a2 = 0
    · rw [if_pos q0] at h2
      obtain ⟨k, hk, e⟩ := p_range (n := 6) (by decide) h2
      exact ⟨0, by omega, q0, fun _ => ⟨k, by omega, e⟩, fun q => by omega, fun q => by omega, fun q => by omega, fun q => by omega⟩
    rw [if_neg q0] at h2
    by_cases q1 : a2 = 1
    · rw [if_pos q1] at h2
      obtain ⟨k, hk, e⟩ := p_range (n := 63) (by decide) h2
      exact ⟨1, by omega, q1, fun q => by omega, fun _ => ⟨k, by omega, e⟩, fun q => by omega, fun q => by omega, fun q => by omega⟩
    rw [if_neg q1] at h2
    by_cases q2 : a2 = 2
    · rw [if_pos q2] at h2
      obtain ⟨k, hk, e⟩ := p_range (n := 11) (by decide) h2
      exact ⟨2, by omega, q2, fun q => by omega, fun q => by omega, fun _ => ⟨k, by omega, e⟩, fun q => by omega, fun q => by omega⟩
    rw [if_neg q2] at h2
    by_cases q3 : a2 = 3
    · rw [if_pos q3] at h2
      obtain ⟨k, _, hk, e⟩ := p_range1 (n := 99) (m := 1) (by decide) (by decide) h2
      exact ⟨3, by omega, q3, fun q => by omega, fun q => by omega, fun q => by omega, fun _ => ⟨k, by omega, e⟩, fun q => by omega⟩
    rw [if_neg q3] at h2
    by_cases q4 : a2 = 4
    · rw [if_pos q4] at h2
      obtain ⟨k, hk, e⟩ := p_range (n := 1) (by decide) h2
      exact ⟨4, by omega, q4, fun q => by omega, fun q => by omega, fun q => by omega, fun q => by omega, fun _ => ⟨k, by omega, e⟩⟩
    rw [if_neg q4] at h2
    exact absurd rfl h2
  obtain ⟨f, hf, rfl, g0, g1, g2, g3, g4⟩ := h3
  have e1 : xin (Int32.ofNat b) 8 := (p_in (by omega)).2 (by omega)
  have e2 : xin (Int32.ofNat f) 5 := (p_in (by omega)).2 (by omega)
  rw [if_pos e1, if_pos e2, if_pos e2, if_pos e1, p_nat (by omega), p_nat (by omega), p_at, p_become τ (by omega)]
  dsimp only
  rw [hR.1.1 (146 + 5 * b + f) (by omega)]
  exact pOk.now hR _ (146 + 5 * b + f) _ (hB.bell b f _ hb8 hf g0 g1 g2 g3 g4)

/-! the bells' queries -/
theorem p_apartK : ∀ a, a < 64 → ∀ b, b < 64 → fX0_apart (Int32.ofNat a) (Int32.ofNat b) = fX13_apart (Int32.ofNat b) (Int32.ofNat a) ∧ (fX0_apart (Int32.ofNat a) (Int32.ofNat b)).toNatClampNeg < 15 ∧ fX0_apart (Int32.ofNat a) (Int32.ofNat b) = Int32.ofNat (fX0_apart (Int32.ofNat a) (Int32.ofNat b)).toNatClampNeg := by decide +kernel
theorem p_apartS {a b : Nat} (ha : a < 64) (hb : b < 64) : fX13_apart (Int32.ofNat b) (Int32.ofNat a) = fX0_apart (Int32.ofNat a) (Int32.ofNat b) := (p_apartK a ha b hb).1.symm
theorem p_apartI {a b : Nat} (ha : a < 64) (hb : b < 64) : pI (fX0_apart (Int32.ofNat a) (Int32.ofNat b)) 15 := ⟨_, (p_apartK a ha b hb).2.1, (p_apartK a ha b hb).2.2⟩
theorem p_underK : ∀ k, k < 7 → ∀ a, a < 7 → fX13_isUnder (Int32.ofNat k) (Int32.ofNat a) = some (xund k (Int32.ofNat a)) := by decide +kernel
theorem p_bellOf {σ : xM} {B : Nat} (hB : pWB B (σ 0)) {b : Nat} (hb : b < 8) : ∃ k, k < 7 ∧ σ 0 (146 + 5 * b) = Int32.ofNat k ∧ fX0_bellOf σ (Int32.ofNat b) = some (8 * k + b) := by
  obtain ⟨k, hk, e⟩ := (hB.2.2.2.2.2.1 b hb).1
  refine ⟨k, hk, e, ?_⟩
  unfold fX0_bellOf
  rw [if_pos ((p_in (by omega)).2 hb), p_nat (by omega), Nat.add_zero, e, show (8 : Int32) * Int32.ofNat k = Int32.ofNat (8 * k) from p_mul 8 k, p_add, if_pos ((p_in (by omega)).2 (by omega)), p_nat (by omega)]
theorem p_nearest {σ τ : xM} (hR : pRow σ 0 τ 20) {B : Nat} (hB : pWB B (σ 0)) (b1 : Int32) {a u : Nat} (ha : a < 64) (hu : u < 7) : ∃ r, fX0_nearest σ b1 (Int32.ofNat a) (Int32.ofNat u) = some r ∧ fX13_nearestOther τ b1 (Int32.ofNat a) (Int32.ofNat u) = some r ∧ (r = -1 ∨ pI r 15) := by
  have h2 : ((2 : Int32).toNatClampNeg) = 2 := by decide
  have hB8 := hB.1
  have key := p_lock (G := fun n (s : Int32 × Int32) => gX0_nearest_6 σ b1 (Int32.ofNat a) (Int32.ofNat u) n s.1 s.2) (G' := fun n (s : Int32 × Int32) => gX13_nearestOther_6 τ b1 (Int32.ofNat a) (Int32.ofNat u) n s.1 s.2)
    (fun k s s' => s = s' ∧ s.2 = Int32.ofNat k ∧ k ≤ B ∧ (s.1 = -1 ∨ pI s.1 15)) (Post := fun r r' => r = r' ∧ (r.1 = -1 ∨ pI r.1 15)) B ?_ 0 (-1, 0) (-1, 0) ⟨rfl, rfl, Nat.zero_le _, Or.inl rfl⟩ xfu (by unfold xfu; omega)
  · obtain ⟨r, r', h1, h3, h4, h5⟩ := key
    subst h4
    refine ⟨r.1, ?_, ?_, h5⟩
    · unfold fX0_nearest; rw [h1]; rfl
    · unfold fX13_nearestOther; rw [h3]; rfl
  · rintro k n ⟨x, y⟩ ⟨x', y'⟩ ⟨he, e2, hk, hx⟩
    obtain ⟨rfl, rfl⟩ := Prod.mk.inj he
    dsimp only at e2 hx ⊢
    subst e2
    by_cases hkB : k = B
    · right
      refine ⟨(x, Int32.ofNat k), (x, Int32.ofNat k), ?_, ?_, rfl, hx⟩
      · rw [gX0_nearest_6, hB.2.1, if_pos ((p_le (by omega) (by omega)).2 (by omega))]
      · rw [gX13_nearestOther_6, h2, hR 2 (by omega), hB.2.1, if_pos ((p_le (by omega) (by omega)).2 (by omega))]
    · left
      have hk8 : k < 8 := by omega
      have hle : ¬ Int32.ofNat B ≤ Int32.ofNat k := fun q => by have := (p_le (by omega) (by omega)).1 q; omega
      have hin : xin (Int32.ofNat k) 8 := (p_in (by omega)).2 (by omega)
      obtain ⟨κ, hκ, hκe, hbo⟩ := p_bellOf hB hk8
      obtain ⟨pl, hpl, hple⟩ := (hB.2.2.2.2.2.1 k hk8).2.1
      have hb0 := p_bellIs hR (b := k) (f := 0) hk8 (by omega)
      have hb1 := p_bellIs hR (b := k) (f := 1) hk8 (by omega)
      rw [Nat.add_zero, hκe] at hb0
      rw [hple] at hb1
      have hb0 : fX13_bellIs τ (Int32.ofNat k) 0 = some (Int32.ofNat κ) := hb0
      have hb1 : fX13_bellIs τ (Int32.ofNat k) 1 = some (Int32.ofNat pl) := hb1
      have e8 : (8 * κ + k) / 8 = κ := by omega
      refine ⟨by omega, ?_⟩
      rw [gX0_nearest_6, gX13_nearestOther_6, h2, hR 2 (by omega), hB.2.1, if_neg hle, if_neg hle, p_caughtC hk8, p_caughtM hR hk8, hbo, hb0, hb1]
      simp only [Option.bind, e8, p_underK κ hκ u hu, if_pos hin, p_s, p_nat (show k < 2 ^ 31 by omega), hple, p_apartS hpl ha]
      have base : ∃ t t' : Int32 × Int32, gX0_nearest_6 σ b1 (Int32.ofNat a) (Int32.ofNat u) n x (Int32.ofNat (k + 1)) = gX0_nearest_6 σ b1 (Int32.ofNat a) (Int32.ofNat u) n t.1 t.2 ∧ gX13_nearestOther_6 τ b1 (Int32.ofNat a) (Int32.ofNat u) n x (Int32.ofNat (k + 1)) = gX13_nearestOther_6 τ b1 (Int32.ofNat a) (Int32.ofNat u) n t'.1 t'.2 ∧ t = t' ∧ t.2 = Int32.ofNat (k + 1) ∧ k + 1 ≤ B ∧ (t.1 = -1 ∨ pI t.1 15) :=
        ⟨(x, Int32.ofNat (k + 1)), (x, Int32.ofNat (k + 1)), rfl, rfl, rfl, rfl, by omega, hx⟩
      have upd : ∃ t t' : Int32 × Int32, gX0_nearest_6 σ b1 (Int32.ofNat a) (Int32.ofNat u) n (fX0_apart (Int32.ofNat pl) (Int32.ofNat a)) (Int32.ofNat (k + 1)) = gX0_nearest_6 σ b1 (Int32.ofNat a) (Int32.ofNat u) n t.1 t.2 ∧ gX13_nearestOther_6 τ b1 (Int32.ofNat a) (Int32.ofNat u) n (fX0_apart (Int32.ofNat pl) (Int32.ofNat a)) (Int32.ofNat (k + 1)) = gX13_nearestOther_6 τ b1 (Int32.ofNat a) (Int32.ofNat u) n t'.1 t'.2 ∧ t = t' ∧ t.2 = Int32.ofNat (k + 1) ∧ k + 1 ≤ B ∧ (t.1 = -1 ∨ pI t.1 15) :=
        ⟨(_, Int32.ofNat (k + 1)), (_, Int32.ofNat (k + 1)), rfl, rfl, rfl, rfl, by omega, Or.inr (p_apartI hpl ha)⟩
      by_cases q1 : Int32.ofNat k = b1
      · rw [if_pos q1, if_pos q1]; exact base
      rw [if_neg q1, if_neg q1]
      by_cases q2 : (if σ 0 (146 + 5 * k + 4) = 1 then (1 : Int32) else 0) = 0
      · rw [if_pos q2, if_pos q2]
        by_cases q3 : xund κ (Int32.ofNat u) = 0
        · rw [if_pos q3, if_pos q3]; exact base
        rw [if_neg q3, if_neg q3]
        have q4 : (x = -1) ↔ x < 0 := by
          rcases hx with hx | ⟨j, hj, hx⟩
          · rw [hx]; decide
          · rw [hx]; exact ⟨fun q => absurd q (p_ne1 _ (by omega)), fun q => absurd q (p_nlt0 _ (by omega))⟩
        by_cases q5 : x < 0
        · rw [if_pos (q4.2 q5), if_pos q5]; exact upd
        rw [if_neg (fun q => q5 (q4.1 q)), if_neg q5]
        by_cases q6 : x ≤ fX0_apart (Int32.ofNat pl) (Int32.ofNat a)
        · rw [if_pos q6, if_pos q6]; exact base
        · rw [if_neg q6, if_neg q6]; exact upd
      · rw [if_neg q2, if_neg q2]; exact base
theorem p_fearAt {σ τ : xM} (hR : pRow σ 0 τ 20) {B : Nat} (hB : pWB B (σ 0)) {a : Nat} (ha : a < 64) : ∃ r, fX4_fearAt σ 0 (Int32.ofNat a) = some r ∧ ∃ q, gX13_worthOf_10 τ (Int32.ofNat a) xfu (τ 20 ((1 : Int32).toNatClampNeg)) 0 = some (r, q) := by
  have h1' : ((1 : Int32).toNatClampNeg) = 1 := by decide
  have key := p_lock (G := fun n (s : Int32 × Int32) => gX4_fearAt_17 σ 0 (Int32.ofNat a) 4 n s.1 s.2) (G' := fun n (s : Int32 × Int32) => gX13_worthOf_10 τ (Int32.ofNat a) n s.1 s.2)
    (fun k s s' => s = s' ∧ s.2 = Int32.ofNat k ∧ k ≤ 4) (Post := fun r r' => r = r') 4 ?_ 0 (σ 0 1, 0) (σ 0 1, 0) ⟨rfl, rfl, Nat.zero_le _⟩ xfu (by unfold xfu; omega)
  · obtain ⟨r, r', h1, h3, h4⟩ := key
    subst h4
    refine ⟨r.1, ?_, r.2, ?_⟩
    · unfold fX4_fearAt; rw [h1]; rfl
    · rw [h1', hR 1 (by omega)]; exact h3
  · rintro k n ⟨x, y⟩ ⟨x', y'⟩ ⟨he, e2, hk⟩
    obtain ⟨rfl, rfl⟩ := Prod.mk.inj he
    dsimp only at e2 ⊢
    subst e2
    by_cases hkB : k = 4
    · right
      subst hkB
      refine ⟨(x, Int32.ofNat 4), (x, Int32.ofNat 4), ?_, ?_, rfl⟩
      · rw [gX4_fearAt_17, if_pos (by decide)]
      · rw [gX13_worthOf_10, if_pos (by decide)]
    · left
      have hle : ¬ (4 : Int32) ≤ Int32.ofNat k := fun q => by have := (p_le (a := 4) (by omega) (by omega)).1 q; omega
      have hin : xin (Int32.ofNat k) 4 := (p_in (by omega)).2 (by omega)
      have h14 : (14 : Int32) + Int32.ofNat k = Int32.ofNat (14 + k) := p_add 14 k
      have hin2 : xin (Int32.ofNat (14 + k)) 186 := (p_in (by omega)).2 (by omega)
      refine ⟨by omega, ?_⟩
      rw [gX4_fearAt_17, gX13_worthOf_10, if_neg hle, if_neg hle, h14]
      simp only [if_pos hin, if_pos hin2, p_nat (show k < 2 ^ 31 by omega), p_nat (show 14 + k < 2 ^ 31 by omega), hR _ (show 14 + k < 186 by omega), p_s]
      rcases hB.2.2.2.1 k (by omega) with hh | ⟨c, hc, hh⟩
      · rw [hh, if_pos rfl, if_neg (by decide)]
        exact ⟨(x, Int32.ofNat (k + 1)), (x, Int32.ofNat (k + 1)), rfl, rfl, rfl, rfl, by omega⟩
      · rw [hh, if_neg (p_ne1 _ (by omega)), if_pos (p_0le _ (by omega)), p_apartS hc ha]
        exact ⟨(_, Int32.ofNat (k + 1)), (_, Int32.ofNat (k + 1)), rfl, rfl, rfl, rfl, by omega⟩

theorem p_worthOf {σ τ : xM} (hR : pRow σ 0 τ 20) {B : Nat} (hB : pWB B (σ 0)) {a b : Nat} (ha : a < 64) (hb : b < 8) : ∃ r, fX0_worthOf σ (Int32.ofNat b) (Int32.ofNat a) = some r ∧ fX13_worthOf τ (Int32.ofNat b) (Int32.ofNat a) = some r := by
  obtain ⟨κ, hκ, hκe, hbo⟩ := p_bellOf hB hb
  obtain ⟨m, hm, q, hm2⟩ := p_fearAt hR hB ha
  obtain ⟨n0, hn0, hn0', _⟩ := p_nearest hR hB (Int32.ofNat b) ha (u := 0) (by omega)
  obtain ⟨n1, hn1, hn1', hn1r⟩ := p_nearest hR hB (Int32.ofNat b) ha (u := 1) (by omega)
  have hn0 : fX0_nearest σ (Int32.ofNat b) (Int32.ofNat a) 0 = some n0 := hn0
  have hn0' : fX13_nearestOther τ (Int32.ofNat b) (Int32.ofNat a) 0 = some n0 := hn0'
  have hn1 : fX0_nearest σ (Int32.ofNat b) (Int32.ofNat a) 1 = some n1 := hn1
  have hn1' : fX13_nearestOther τ (Int32.ofNat b) (Int32.ofNat a) 1 = some n1 := hn1'
  have hb0 : fX13_bellIs τ (Int32.ofNat b) 0 = some (Int32.ofNat κ) := by
    have h := p_bellIs hR (b := b) (f := 0) hb (by omega)
    rw [Nat.add_zero, hκe] at h
    exact h
  have hin : xin (Int32.ofNat a) 64 := (p_in (by omega)).2 ha
  have h82 : (82 : Int32) + Int32.ofNat a = Int32.ofNat (82 + a) := p_add 82 a
  have hin2 : xin (Int32.ofNat (82 + a)) 186 := (p_in (by omega)).2 (by omega)
  have ht : σ 0 (18 + 64 * 1 + a) = σ 0 (82 + a) := rfl
  have e8 : (8 * κ + b) / 8 = κ := by omega
  have e9 : (8 * κ + b) % 8 = b := by omega
  have x78 : ∀ x : Int32, x + 8 - 1 = x + 7 := fun x => by rw [Int32.sub_eq_add_neg, Int32.add_assoc]; rfl
  have n1i : (0 ≤ n1) ↔ ¬ n1 = -1 := by
    rcases hn1r with hx | ⟨j, hj, hx⟩
    · rw [hx]; decide
    · rw [hx]; exact ⟨fun _ => p_ne1 _ (by omega), fun _ => p_0le _ (by omega)⟩
  unfold fX0_worthOf fX13_worthOf
  rw [hbo, hm2, h82]
  simp only [Option.bind, e8, e9, if_pos hin2, hb0, p_nat (show 82 + a < 2 ^ 31 by omega), hR _ (show 82 + a < 186 by omega)]
  have h7 : κ = 0 ∨ κ = 1 ∨ κ = 2 ∨ κ = 3 ∨ κ = 4 ∨ κ = 5 ∨ κ = 6 := by omega
  have u1 : fX13_isUnder (Int32.ofNat 1) 1 = some 1 := p_underK 1 (by omega) 1 (by omega)
  have u2 : fX13_isUnder (Int32.ofNat 2) 1 = some 0 := p_underK 2 (by omega) 1 (by omega)
  have u3 : fX13_isUnder (Int32.ofNat 3) 1 = some 0 := p_underK 3 (by omega) 1 (by omega)
  have u4 : fX13_isUnder (Int32.ofNat 4) 1 = some 0 := p_underK 4 (by omega) 1 (by omega)
  have u6 : fX13_isUnder (Int32.ofNat 6) 1 = some 1 := p_underK 6 (by omega) 1 (by omega)
  rcases h7 with rfl | rfl | rfl | rfl | rfl | rfl | rfl
  · simp only [xwor, fX6_worth_k0, hm, Option.bind, if_pos hin, p_nat (show a < 2 ^ 31 by omega)]
    exact ⟨_, rfl, rfl⟩
  · simp only [xwor, fX7_worth_k1, fX6_worth_k1, hm, Option.bind, if_pos hin, p_nat (show a < 2 ^ 31 by omega), hn1, hn1', u1]
    by_cases q : n1 = -1
    · have q2 : ¬ 0 ≤ n1 := fun k => n1i.1 k q
      rw [if_neg q2]
      simp only [q]
      exact ⟨_, rfl, by simp⟩
    · rw [if_pos (n1i.2 q)]
      simp only [q]
      exact ⟨_, rfl, by simp⟩
  · simp only [xwor, fX8_worth_k2, fX6_worth_k2, hm, Option.bind, if_pos hin, p_nat (show a < 2 ^ 31 by omega), hn0, hn0', u2]
    exact ⟨_, rfl, by simp⟩
  · simp only [xwor, fX9_worth_k3, fX8_worth_k3, fX6_worth_k3, hm, Option.bind, if_pos hin, p_nat (show a < 2 ^ 31 by omega), hn0, hn0', u3, x78]
    exact ⟨_, rfl, by simp⟩
  · simp only [xwor, fX10_worth_k4, fX9_worth_k4, fX8_worth_k4, fX6_worth_k4, fX14_twice_k4, hm, Option.bind, if_pos hin, p_nat (show a < 2 ^ 31 by omega), hn0, hn0', u4, x78]
    exact ⟨_, rfl, by simp⟩
  · simp only [xwor, fX11_worth_k5, fX6_worth_k5, fX14_twice_k5, hm, Option.bind, if_pos hin, p_nat (show a < 2 ^ 31 by omega)]
    exact ⟨_, rfl, by simp; rfl⟩
  · simp only [xwor, fX12_worth_k6, fX7_worth_k6, fX6_worth_k6, fX14_twice_k6, hm, Option.bind, if_pos hin, p_nat (show a < 2 ^ 31 by omega), hn1, hn1', u6]
    by_cases q : n1 = -1
    · have q2 : ¬ 0 ≤ n1 := fun k => n1i.1 k q
      rw [if_neg q2]
      simp only [q]
      exact ⟨_, rfl, by simp⟩
    · rw [if_pos (n1i.2 q)]
      simp only [q]
      exact ⟨_, rfl, by simp⟩

theorem p_beside {σ τ : xM} (hO : pO σ τ) {d p : Nat} (hd : d < 4) (hp : p < 64) : fX13_beside τ (Int32.ofNat p) (Int32.ofNat d) = some (fX0_beside (Int32.ofNat p) (Int32.ofNat d)) ∧ (fX0_beside (Int32.ofNat p) (Int32.ofNat d) = -1 ∨ pI (fX0_beside (Int32.ofNat p) (Int32.ofNat d)) 64) := by
  obtain ⟨_, _, _, _, c0, c1, c2, c3, c4, c5, c6, c7⟩ := hO
  have hI : ∀ d, d < 4 → ∀ p, p < 64 → fX0_beside (Int32.ofNat p) (Int32.ofNat d) = -1 ∨ fX0_beside (Int32.ofNat p) (Int32.ofNat d) = Int32.ofNat (fX0_beside (Int32.ofNat p) (Int32.ofNat d)).toNatClampNeg ∧ (fX0_beside (Int32.ofNat p) (Int32.ofNat d)).toNatClampNeg < 64 := by decide +kernel
  refine ⟨?_, ?_⟩
  · unfold fX13_beside
    rw [if_pos ((p_in (by omega)).2 hd), if_pos ((p_in (by omega)).2 hd), p_nat (by omega)]
    have h4 : d = 0 ∨ d = 1 ∨ d = 2 ∨ d = 3 := by omega
    rcases h4 with rfl | rfl | rfl | rfl
    · rw [c0, c4]; revert p; decide +kernel
    · rw [c1, c5]; revert p; decide +kernel
    · rw [c2, c6]; revert p; decide +kernel
    · rw [c3, c7]; revert p; decide +kernel
  · rcases hI d hd p hp with h | ⟨h, h2⟩
    · exact Or.inl h
    · exact Or.inr ⟨_, h2, h⟩
theorem p_nextOf {σ τ : xM} (hR : pRow σ 0 τ 20) {B : Nat} (hB : pWB B (σ 0)) {σ0 : xM} (hO : pO σ0 τ) {b : Nat} (hb : b < 8) : ∃ r, fX0_nextOf σ (Int32.ofNat b) = some r ∧ fX13_nextOf τ (Int32.ofNat b) = some r ∧ pI r 64 := by
  obtain ⟨p, hp, hpe⟩ := (hB.2.2.2.2.2.1 b hb).2.1
  obtain ⟨w, hw, hw'⟩ := p_worthOf hR hB hp hb
  have hb1 : fX13_bellIs τ (Int32.ofNat b) 1 = some (Int32.ofNat p) := by
    have h := p_bellIs hR (b := b) (f := 1) hb (by omega)
    rw [hpe] at h
    exact h
  have hin : xin (Int32.ofNat b) 8 := (p_in (by omega)).2 hb
  have key := p_lock (G := fun n (s : Int32 × Int32 × Int32) => gX0_nextOf_25 σ (Int32.ofNat b) (Int32.ofNat p) n s.1 s.2.1 s.2.2) (G' := fun n (s : Int32 × Int32 × Int32) => gX13_nextOf_17 τ (Int32.ofNat b) n s.1 s.2.1 s.2.2)
    (fun k s s' => s = s' ∧ s.2.2 = Int32.ofNat k ∧ k ≤ 4 ∧ pI s.1 64) (Post := fun r r' => r = r' ∧ pI r.1 64) 4 ?_ 0 (Int32.ofNat p, w, 0) (Int32.ofNat p, w, 0) ⟨rfl, rfl, Nat.zero_le _, p, hp, rfl⟩ xfu (by unfold xfu; omega)
  · obtain ⟨r, r', h1, h3, h4, h5⟩ := key
    subst h4
    refine ⟨r.1, ?_, ?_, h5⟩
    · unfold fX0_nextOf
      simp only [if_pos hin, p_nat (show b < 2 ^ 31 by omega), hpe, hw, Option.bind]
      rw [h1]
    · unfold fX13_nextOf
      simp only [hb1, hw', Option.bind]
      rw [h3]
  · rintro k n ⟨x, y, z⟩ s' ⟨rfl, e2, hk, hx⟩
    dsimp only at e2 hx ⊢
    subst e2
    by_cases hkB : k = 4
    · right
      subst hkB
      refine ⟨(x, y, Int32.ofNat 4), (x, y, Int32.ofNat 4), ?_, ?_, rfl, hx⟩
      · rw [gX0_nextOf_25, if_pos (by decide)]
      · rw [gX13_nextOf_17, if_pos (by decide)]
    · left
      have hle : ¬ (4 : Int32) ≤ Int32.ofNat k := fun q => by have := (p_le (a := 4) (by omega) (by omega)).1 q; omega
      obtain ⟨be, bx⟩ := p_beside hO (d := k) (p := p) (by omega) hp
      refine ⟨by omega, ?_⟩
      rw [gX0_nextOf_25, gX13_nextOf_17, if_neg hle, if_neg hle]
      simp only [hb1, be, Option.bind, p_s]
      rcases bx with bx | ⟨c, hc, bx⟩
      · rw [bx, if_pos rfl, if_neg (by decide : ¬ (0 : Int32) ≤ -1), if_pos (Int32.le_refl y), if_pos (Int32.le_refl y)]
        exact ⟨(_, _, Int32.ofNat (k + 1)), (_, _, Int32.ofNat (k + 1)), rfl, rfl, rfl, rfl, by omega, hx⟩
      · obtain ⟨v, hv, hv'⟩ := p_worthOf hR hB hc hb
        rw [bx, if_neg (p_ne1 _ (by omega)), if_pos (p_0le _ (by omega)), hv, hv']
        dsimp only
        by_cases q : v ≤ y
        · rw [if_pos q, if_pos q]
          exact ⟨(_, _, Int32.ofNat (k + 1)), (_, _, Int32.ofNat (k + 1)), rfl, rfl, rfl, rfl, by omega, hx⟩
        · rw [if_neg q, if_neg q]
          exact ⟨(_, _, Int32.ofNat (k + 1)), (_, _, Int32.ofNat (k + 1)), rfl, rfl, rfl, rfl, by omega, c, hc, rfl⟩

theorem p_hasNet {τ : xM} {r c : Nat} (hr : r < 64) (hc : c < 2) (h : τ 20 (18 + r) = Int32.ofNat c) : fX13_hasNet τ (Int32.ofNat r) = some (Int32.ofNat c) := by
  unfold fX13_hasNet
  rw [show (18 : Int32) + Int32.ofNat r = Int32.ofNat (18 + r) from p_add 18 r, if_pos ((p_in (by omega)).2 (by omega)), p_nat (by omega), h]
  have : c = 0 ∨ c = 1 := by omega
  rcases this with rfl | rfl
  · rw [if_neg (by decide)]; rfl
  · rw [if_pos (by decide)]; rfl
/-- nothing has moved, or some bell has moved or was caught -/
def pMv (B : Nat) (σ σ' τ' : xM) : Prop := (τ' 24 1 = 0 ∧ ∀ i, i ≠ 0 → σ' 0 i = σ 0 i) ∨ (τ' 24 1 = 1 ∧ ∃ b, b < B ∧ (σ' 0 (146 + 5 * b + 1) ≠ σ 0 (146 + 5 * b + 1) ∨ σ' 0 (146 + 5 * b + 4) ≠ σ 0 (146 + 5 * b + 4)))
theorem p_hour {σ τ : xM} (hR : pRow σ 0 τ 20) {B : Nat} (hB : pWB B (σ 0)) {σ0 : xM} (hO : pO σ0 τ) : ∃ σ' τ', fX0_passes_2 σ = some σ' ∧ fX13_hour τ = some τ' ∧ pRow σ' 0 τ' 20 ∧ pWB B (σ' 0) ∧ pF [0] σ σ' ∧ pF [20] τ τ' ∧ pMv B σ σ' τ' := by
  have h2 : ((2 : Int32).toNatClampNeg) = 2 := by decide
  have h0' : ((0 : Int32).toNatClampNeg) = 0 := by decide
  have hB8 := hB.1
  have key := p_lock (G := fun n (s : Int32 × xM) => gX0_passes_2_2 n s.1 s.2) (G' := fun n (s : Int32 × xM) => gX13_hour_7 n s.1 s.2)
    (fun k s s' => s.1 = Int32.ofNat k ∧ s'.1 = Int32.ofNat k ∧ k ≤ B ∧ pRow s.2 0 s'.2 20 ∧ pWB B (s.2 0) ∧ pF [0] σ s.2 ∧ pF [20] τ s'.2 ∧ (∀ j, k ≤ j → j < 8 → ∀ f, f < 5 → s.2 0 (146 + 5 * j + f) = σ 0 (146 + 5 * j + f)) ∧ ((s'.2 24 1 = 0 ∧ ∀ i, s.2 0 i = σ 0 i) ∨ (s'.2 24 1 = 1 ∧ ∃ b, b < k ∧ (s.2 0 (146 + 5 * b + 1) ≠ σ 0 (146 + 5 * b + 1) ∨ s.2 0 (146 + 5 * b + 4) ≠ σ 0 (146 + 5 * b + 4)))))
    (Post := fun r r' => pRow r.2 0 r'.2 20 ∧ pWB B (r.2 0) ∧ pF [0] σ r.2 ∧ pF [20] τ r'.2 ∧ ((r'.2 24 1 = 0 ∧ ∀ i, r.2 0 i = σ 0 i) ∨ (r'.2 24 1 = 1 ∧ ∃ b, b < B ∧ (r.2 0 (146 + 5 * b + 1) ≠ σ 0 (146 + 5 * b + 1) ∨ r.2 0 (146 + 5 * b + 4) ≠ σ 0 (146 + 5 * b + 4)))))
    B ?_ 0 (0, σ) (0, xup τ 24 1 0) ⟨rfl, rfl, Nat.zero_le _, fun i hi => by show xup τ 24 1 0 20 i = σ 0 i; rw [xup_n (by omega)]; exact hR i hi, hB, pF.refl _ _, (pF.refl _ _).up24 1 0 (by omega) (by omega), fun _ _ _ _ _ => rfl, Or.inl ⟨xup_s τ 24 1 0, fun _ => rfl⟩⟩ xfu (by unfold xfu; omega)
  · obtain ⟨⟨_, s1⟩, ⟨_, t1⟩, h1, h3, h4, h5, h6, h7, h8⟩ := key
    dsimp only at h1 h3 h4 h5 h6 h7 h8
    refine ⟨xup s1 0 0 (s1 0 0 + 1), xup t1 20 0 (t1 20 0 + 1), ?_, ?_, ?_, ?_, h6.up _ _ _ (by decide), h7.up _ _ _ (by decide), ?_⟩
    · unfold fX0_passes_2
      rw [h1]; rfl
    · unfold fX13_hour
      rw [h3, h0']; rfl
    · intro i hi
      rw [h4 0 (by omega), xup_row, xup_row]
      unfold pUp
      by_cases q : i = 0
      · rw [if_pos q, if_pos q]
      · rw [if_neg q, if_neg q]; exact h4 i hi
    · rw [xup_row]; exact h5.one 0 _ (by omega)
    · rcases h8 with ⟨h8, h9⟩ | ⟨h8, b, hb, h9⟩
      · left
        refine ⟨by rw [xup_n (by omega)]; exact h8, fun i hi => by rw [xup_n (by omega)]; exact h9 i⟩
      · right
        refine ⟨by rw [xup_n (by omega)]; exact h8, b, hb, ?_⟩
        rw [xup_n (by omega), xup_n (by omega)]
        exact h9
  · rintro k n ⟨x, s1⟩ ⟨x', t1⟩ ⟨e1, e2, hk, g1, g2, g3, g4, g5, g6⟩
    dsimp only at e1 e2 hk g1 g2 g3 g4 g5 g6 ⊢
    subst e1 e2
    by_cases hkB : k = B
    · right
      subst hkB
      refine ⟨(Int32.ofNat k, s1), (Int32.ofNat k, t1), ?_, ?_, g1, g2, g3, g4, g6⟩
      · rw [gX0_passes_2_2, g2.2.1, if_pos (Int32.le_refl _)]
      · rw [gX13_hour_7, h2, g1 2 (by omega), g2.2.1, if_pos (Int32.le_refl _)]
    · left
      refine ⟨by omega, ?_⟩
      have hk8 : k < 8 := by omega
      have hle : ¬ Int32.ofNat B ≤ Int32.ofNat k := fun q => by have := (p_le (by omega) (by omega)).1 q; omega
      have hin : xin (Int32.ofNat k) 8 := (p_in (by omega)).2 (by omega)
      rw [gX0_passes_2_2, gX13_hour_7, h2, g1 2 (by omega), g2.2.1, if_neg hle, if_neg hle, p_caughtC hk8, p_caughtM g1 hk8]
      simp only [Option.bind]
      by_cases q1 : s1 0 (146 + 5 * k + 4) = 1
      · rw [if_pos q1, if_neg (by decide), if_neg (by decide), p_s]
        refine ⟨(_, s1), (_, t1), rfl, rfl, rfl, rfl, by omega, g1, g2, g3, g4, fun j hj h8 => g5 j (by omega) h8, ?_⟩
        rcases g6 with g6 | ⟨g6, b, hb, g7⟩
        · exact Or.inl g6
        · exact Or.inr ⟨g6, b, by omega, g7⟩
      · rw [if_neg q1, if_pos rfl, if_pos rfl]
        obtain ⟨r, hr, hr', ⟨pr, hpr, rfl⟩⟩ := p_nextOf g1 g2 (hO.r g4 (by decide)) hk8
        obtain ⟨c, hc, hce⟩ := g2.2.2.1 pr hpr
        obtain ⟨pl, hpl, hple⟩ := (g2.2.2.2.2.2.1 k hk8).2.1
        obtain ⟨cc, hcc, hcce⟩ := (g2.2.2.2.2.2.1 k hk8).2.2.2.2
        have hcc0 : cc = 0 := by
          have : cc ≠ 1 := fun q => q1 (by rw [hcce, q]; rfl)
          omega
        have hb1 : fX13_bellIs t1 (Int32.ofNat k) 1 = some (Int32.ofNat pl) := by
          have h := p_bellIs g1 (b := k) (f := 1) hk8 (by omega)
          rw [hple] at h
          exact h
        have at1 : fX13_at (Int32.ofNat k) 1 = Int32.ofNat (146 + 5 * k + 1) := p_at k 1
        have at4 : fX13_at (Int32.ofNat k) 4 = Int32.ofNat (146 + 5 * k + 4) := p_at k 4
        have hin1 : xin (Int32.ofNat (146 + 5 * k + 1)) 186 := (p_in (by omega)).2 (by omega)
        have hin4 : xin (Int32.ofNat (146 + 5 * k + 4)) 186 := (p_in (by omega)).2 (by omega)
        have hn1 : ∀ m, fX13_hasNet (xup (xup t1 24 1 m) 20 (146 + 5 * k + 1) (Int32.ofNat pr)) (Int32.ofNat pr) = some (Int32.ofNat c) := fun m =>
          p_hasNet hpr hc (by rw [xup_n (by omega), xup_n (by omega), g1 _ (by omega)]; exact hce)
        have hn0 : fX13_hasNet t1 (Int32.ofNat pr) = some (Int32.ofNat c) := p_hasNet hpr hc (by rw [g1 _ (by omega)]; exact hce)
        have c01 : c = 0 ∨ c = 1 := by omega
        -- the component
        have eC : ((fX0_nextOf s1 (Int32.ofNat k)).bind fun r6 => if xin (Int32.ofNat k) 8 then (if xin (Int32.ofNat k) 8 then (if xin ((xup s1 0 (146 + 5 * (Int32.ofNat k).toNatClampNeg + 1) r6) 0 (146 + 5 * (Int32.ofNat k).toNatClampNeg + 1)) 64 then (if xin (Int32.ofNat k) 8 then (gX0_passes_2_2 n (Int32.ofNat k + 1) (xup (xup s1 0 (146 + 5 * (Int32.ofNat k).toNatClampNeg + 1) r6) 0 (146 + 5 * (Int32.ofNat k).toNatClampNeg + 4) ((xup s1 0 (146 + 5 * (Int32.ofNat k).toNatClampNeg + 1) r6) 0 (18 + 64 * 0 + ((xup s1 0 (146 + 5 * (Int32.ofNat k).toNatClampNeg + 1) r6) 0 (146 + 5 * (Int32.ofNat k).toNatClampNeg + 1)).toNatClampNeg)))) else none) else none) else none) else none) = gX0_passes_2_2 n (Int32.ofNat (k + 1)) (xup (xup s1 0 (146 + 5 * k + 1) (Int32.ofNat pr)) 0 (146 + 5 * k + 4) (Int32.ofNat c)) := by
          rw [hr]
          simp only [Option.bind, if_pos hin, p_nat (show k < 2 ^ 31 by omega), xup_s, p_nat (show pr < 2 ^ 31 by omega), p_s]
          rw [if_pos ((p_in (by omega)).2 hpr), xup_n (by omega), show 18 + 64 * 0 + pr = 18 + pr from rfl, hce]
        simp only [Option.bind] at eC
        rw [eC, hr']
        simp only [Option.bind]
        -- the model: what becomes of 'isMoved'
        have eM : ∃ m : Int32, (if t1 24 1 = 0 then (if Int32.ofNat pr = Int32.ofNat pl then m = Int32.ofNat c else m = 1) else m = 1) := by
          by_cases q2 : t1 24 1 = 0
          · by_cases q3 : Int32.ofNat pr = Int32.ofNat pl
            · exact ⟨Int32.ofNat c, by rw [if_pos q2, if_pos q3]⟩
            · exact ⟨1, by rw [if_pos q2, if_neg q3]⟩
          · exact ⟨1, by rw [if_neg q2]⟩
        obtain ⟨m, hm⟩ := eM
        have fin : ∃ t t' : Int32 × xM, gX0_passes_2_2 n (Int32.ofNat (k + 1)) (xup (xup s1 0 (146 + 5 * k + 1) (Int32.ofNat pr)) 0 (146 + 5 * k + 4) (Int32.ofNat c)) = gX0_passes_2_2 n t.1 t.2 ∧ gX13_hour_7 n (Int32.ofNat (k + 1)) (xup (xup (xup t1 24 1 m) 20 (146 + 5 * k + 1) (Int32.ofNat pr)) 20 (146 + 5 * k + 4) (Int32.ofNat c)) = gX13_hour_7 n t'.1 t'.2 ∧ t.1 = Int32.ofNat (k + 1) ∧ t'.1 = Int32.ofNat (k + 1) ∧ k + 1 ≤ B ∧ pRow t.2 0 t'.2 20 ∧ pWB B (t.2 0) ∧ pF [0] σ t.2 ∧ pF [20] τ t'.2 ∧ (∀ j, k + 1 ≤ j → j < 8 → ∀ f, f < 5 → t.2 0 (146 + 5 * j + f) = σ 0 (146 + 5 * j + f)) ∧ ((t'.2 24 1 = 0 ∧ ∀ i, t.2 0 i = σ 0 i) ∨ (t'.2 24 1 = 1 ∧ ∃ b, b < k + 1 ∧ (t.2 0 (146 + 5 * b + 1) ≠ σ 0 (146 + 5 * b + 1) ∨ t.2 0 (146 + 5 * b + 4) ≠ σ 0 (146 + 5 * b + 4)))) := by
          refine ⟨(Int32.ofNat (k + 1), xup (xup s1 0 (146 + 5 * k + 1) (Int32.ofNat pr)) 0 (146 + 5 * k + 4) (Int32.ofNat c)), (Int32.ofNat (k + 1), xup (xup (xup t1 24 1 m) 20 (146 + 5 * k + 1) (Int32.ofNat pr)) 20 (146 + 5 * k + 4) (Int32.ofNat c)), rfl, rfl, rfl, rfl, by omega, ?_, ?_, (g3.up _ _ _ (by decide)).up _ _ _ (by decide), ((g4.up24 1 m (by omega) (by omega)).up _ _ _ (by decide)).up _ _ _ (by decide), ?_, ?_⟩
          · intro i hi
            dsimp only
            rw [xup_row, xup_row, xup_row, xup_row, xup_row' (by decide : 20 ≠ 24)]
            unfold pUp
            by_cases q : i = 146 + 5 * k + 4
            · rw [if_pos q, if_pos q]
            rw [if_neg q, if_neg q]
            by_cases q : i = 146 + 5 * k + 1
            · rw [if_pos q, if_pos q]
            rw [if_neg q, if_neg q]
            exact g1 i hi
          · dsimp only
            rw [xup_row, xup_row]
            exact (g2.bell k 1 _ hk8 (by omega) (by omega) (fun _ => ⟨pr, hpr, rfl⟩) (by omega) (by omega) (by omega)).bell k 4 _ hk8 (by omega) (by omega) (by omega) (by omega) (by omega) (fun _ => ⟨c, hc, rfl⟩)
          · intro j hj hj8 f hf
            dsimp only
            rw [xup_n (by omega), xup_n (by omega)]
            exact g5 j (by omega) hj8 f hf
          · dsimp only
            rw [xup_n (by omega), xup_n (by omega), xup_s]
            by_cases q2 : t1 24 1 = 0
            · rw [if_pos q2] at hm
              have g7 : ∀ i, s1 0 i = σ 0 i := by
                rcases g6 with g6 | g6
                · exact g6.2
                · rw [g6.1] at q2; exact absurd q2 (by decide)
              by_cases q3 : Int32.ofNat pr = Int32.ofNat pl
              · rw [if_pos q3] at hm
                subst hm
                rcases c01 with rfl | rfl
                · left
                  refine ⟨rfl, fun i => ?_⟩
                  rw [xup_row, xup_row]
                  unfold pUp
                  by_cases q : i = 146 + 5 * k + 4
                  · rw [if_pos q, q, ← g7, hcce, hcc0]
                  rw [if_neg q]
                  by_cases q : i = 146 + 5 * k + 1
                  · rw [if_pos q, q, ← g7, hple, q3]
                  rw [if_neg q]; exact g7 i
                · right
                  refine ⟨rfl, k, by omega, Or.inr ?_⟩
                  rw [xup_s, ← g7, hcce, hcc0]
                  decide
              · rw [if_neg q3] at hm
                subst hm
                right
                refine ⟨rfl, k, by omega, Or.inl ?_⟩
                rw [xup_n (by omega), xup_s, ← g7, hple]
                exact q3
            · rw [if_neg q2] at hm
              subst hm
              right
              rcases g6 with g6 | ⟨g6, b, hb, g7⟩
              · exact absurd g6.1 q2
              · refine ⟨rfl, b, by omega, ?_⟩
                rw [xup_n (by omega), xup_n (by omega), xup_n (by omega), xup_n (by omega)]
                exact g7
        have hfin : ∀ (e : Option (Int32 × xM)), e = gX13_hour_7 n (Int32.ofNat (k + 1)) (xup (xup (xup t1 24 1 m) 20 (146 + 5 * k + 1) (Int32.ofNat pr)) 20 (146 + 5 * k + 4) (Int32.ofNat c)) → ∃ t t' : Int32 × xM, gX0_passes_2_2 n (Int32.ofNat (k + 1)) (xup (xup s1 0 (146 + 5 * k + 1) (Int32.ofNat pr)) 0 (146 + 5 * k + 4) (Int32.ofNat c)) = gX0_passes_2_2 n t.1 t.2 ∧ e = gX13_hour_7 n t'.1 t'.2 ∧ t.1 = Int32.ofNat (k + 1) ∧ t'.1 = Int32.ofNat (k + 1) ∧ k + 1 ≤ B ∧ pRow t.2 0 t'.2 20 ∧ pWB B (t.2 0) ∧ pF [0] σ t.2 ∧ pF [20] τ t'.2 ∧ (∀ j, k + 1 ≤ j → j < 8 → ∀ f, f < 5 → t.2 0 (146 + 5 * j + f) = σ 0 (146 + 5 * j + f)) ∧ ((t'.2 24 1 = 0 ∧ ∀ i, t.2 0 i = σ 0 i) ∨ (t'.2 24 1 = 1 ∧ ∃ b, b < k + 1 ∧ (t.2 0 (146 + 5 * b + 1) ≠ σ 0 (146 + 5 * b + 1) ∨ t.2 0 (146 + 5 * b + 4) ≠ σ 0 (146 + 5 * b + 4)))) := by
          intro e he
          rw [he]
          exact fin
        refine hfin _ ?_
        simp only [hb1, hn0, hn1, at1, at4, if_pos hin1, if_pos hin4, p_nat (show 146 + 5 * k + 1 < 2 ^ 31 by omega), p_nat (show 146 + 5 * k + 4 < 2 ^ 31 by omega), p_s, Option.bind]
        by_cases q2 : t1 24 1 = 0
        · rw [if_pos q2] at hm
          rw [if_pos q2]
          by_cases q3 : Int32.ofNat pr = Int32.ofNat pl
          · rw [if_pos q3] at hm
            rw [if_pos q3]
            subst hm
            rcases c01 with rfl | rfl
            · rw [if_pos (by decide), if_pos (by decide)]; rfl
            · rw [if_neg (by decide), if_neg (by decide)]; rfl
          · rw [if_neg q3] at hm
            rw [if_neg q3]
            subst hm
            rcases c01 with rfl | rfl
            · rw [if_pos (by decide)]; rfl
            · rw [if_neg (by decide)]; rfl
        · rw [if_neg q2] at hm
          rw [if_neg q2]
          subst hm
          rcases c01 with rfl | rfl
          · rw [if_pos (by decide)]; rfl
          · rw [if_neg (by decide)]; rfl

/-! copies -/
theorem p_copyRow (τ : xM) {v0 v1 : Nat} (hne : v0 ≠ v1) : ∃ τ', fX13_copyRow τ v0 v1 = some τ' ∧ pF [v1] τ τ' ∧ ∀ i, i < 186 → τ' v1 i = τ v0 i := by
  have key := p_loop (G := fun n (s : Int32 × xM) => gX13_copyRow_2 v0 v1 n s.1 s.2)
    (fun k s => s.1 = Int32.ofNat k ∧ k ≤ 186 ∧ pF [v1] τ s.2 ∧ (∀ i, i < k → s.2 v1 i = τ v0 i) ∧ ∀ i, s.2 v0 i = τ v0 i) (Post := fun r => pF [v1] τ r.2 ∧ ∀ i, i < 186 → r.2 v1 i = τ v0 i)
    186 ?_ 0 (0, τ) ⟨rfl, by omega, pF.refl _ _, fun i hi => by omega, fun _ => rfl⟩ xfu (by unfold xfu; omega)
  · obtain ⟨⟨_, t⟩, h1, h2, h3⟩ := key
    refine ⟨t, ?_, h2, h3⟩
    unfold fX13_copyRow
    rw [h1]; rfl
  · rintro k n ⟨x, t⟩ ⟨e1, hk, h3, h4, h5⟩
    dsimp only at e1 hk h3 h4 h5 ⊢
    subst e1
    by_cases hkB : k = 186
    · right
      subst hkB
      refine ⟨(Int32.ofNat 186, t), ?_, h3, h4⟩
      rw [gX13_copyRow_2, if_pos (by decide)]
    · left
      have hle : ¬ (186 : Int32) ≤ Int32.ofNat k := fun q => by have := (p_le (a := 186) (by omega) (by omega)).1 q; omega
      have hin : xin (Int32.ofNat k) 186 := (p_in (by omega)).2 (by omega)
      refine ⟨by omega, (Int32.ofNat (k + 1), xup t v1 k (t v0 k)), ?_, rfl, by omega, h3.up _ _ _ (by simp), ?_, ?_⟩
      · rw [gX13_copyRow_2, if_neg hle, if_pos hin, if_pos hin, p_nat (by omega), p_s]
      · intro i hi
        dsimp only
        by_cases q : i = k
        · rw [q, xup_s, h5]
        · rw [xup_n (fun w => q w.2)]; exact h4 i (by omega)
      · intro i
        dsimp only
        rw [xup_n (fun w => hne w.1)]; exact h5 i
theorem p_own : ∀ a b w r, w < 4 → r < 12 → xown a b = xwc w r → a = w := by
  intro a b w r hw hr h
  have e0 : xwb 0 = 17 := rfl
  have e1 : xwb 1 = 29 := rfl
  have e2 : xwb 2 = 41 := rfl
  have e3 : xwb 3 = 5 := rfl
  unfold xwc at h
  have hwb : xwb w < 42 ∧ 5 ≤ xwb w := by
    have : w = 0 ∨ w = 1 ∨ w = 2 ∨ w = 3 := by omega
    rcases this with rfl | rfl | rfl | rfl <;> omega
  by_cases ha : a < 4
  · have hA : ∃ q, q < 12 ∧ xown a b = xwb a + q := by
      unfold xown
      rw [if_pos ha]
      by_cases h1 : b < 4
      · exact ⟨0, by omega, by rw [if_pos h1]; rfl⟩
      rw [if_neg h1]
      by_cases h1 : b < 14
      · exact ⟨11, by omega, by rw [if_pos h1]⟩
      rw [if_neg h1]
      by_cases h1 : b < 18
      · exact ⟨4, by omega, by rw [if_pos h1]⟩
      rw [if_neg h1]
      by_cases h1 : b < 82
      · exact ⟨2, by omega, by rw [if_pos h1]⟩
      rw [if_neg h1]
      by_cases h1 : b < 146
      · exact ⟨3, by omega, by rw [if_pos h1]⟩
      rw [if_neg h1]
      exact ⟨6 + (b - 146) % 5, by omega, by omega⟩
    obtain ⟨q, hq, hA⟩ := hA
    rw [hA] at h
    have ha4 : a = 0 ∨ a = 1 ∨ a = 2 ∨ a = 3 := by omega
    have hw4 : w = 0 ∨ w = 1 ∨ w = 2 ∨ w = 3 := by omega
    rcases ha4 with rfl | rfl | rfl | rfl <;> rcases hw4 with rfl | rfl | rfl | rfl <;> omega
  · exfalso
    unfold xown at h
    rw [if_neg ha] at h
    by_cases h1 : a < 12
    · rw [if_pos h1] at h
      have : a = 4 ∨ a = 5 ∨ a = 6 ∨ a = 7 ∨ a = 8 ∨ a = 9 ∨ a = 10 ∨ a = 11 := by omega
      rcases this with rfl | rfl | rfl | rfl | rfl | rfl | rfl | rfl <;> simp at h <;> omega
    rw [if_neg h1] at h
    by_cases h1 : a = 12
    · rw [if_pos h1] at h; omega
    rw [if_neg h1] at h
    by_cases h1 : a < 20
    · rw [if_pos h1] at h; omega
    rw [if_neg h1] at h
    by_cases h2 : a < 34
    · have : a = 20 ∨ a = 21 ∨ a = 22 ∨ a = 23 ∨ a = 24 ∨ a = 25 ∨ a = 26 ∨ a = 27 ∨ a = 28 ∨ a = 29 ∨ a = 30 ∨ a = 31 ∨ a = 32 ∨ a = 33 := by omega
      rcases this with rfl | rfl | rfl | rfl | rfl | rfl | rfl | rfl | rfl | rfl | rfl | rfl | rfl | rfl <;> simp at h <;> omega
    · rw [List.getD_eq_getElem?_getD, List.getElem?_eq_none (by simp; omega)] at h
      simp at h
      omega
def pCp (w w1 : Nat) (σ σk : xM) (S : Nat → Prop) : Prop := (∀ a b, a ≠ w → σk a b = σ a b) ∧ ∀ b, b < 186 → S b → σk w b = σ w1 b
theorem pCp.cp {w w1 : Nat} {σ σk : xM} {S : Nat → Prop} (h : pCp w w1 σ σk S) (hw : w < 4) (hne : w1 ≠ w) (r n : Nat) (g : Nat → Nat) (hr : r < 12) (hg : ∀ b, b < 186 → xown w b = xwc w r → xslt w b < n → g (xslt w b) = b) : pCp w w1 σ (xcp σk (xwc w r) n w1 g) (fun b => S b ∨ (xown w b = xwc w r ∧ xslt w b < n)) := by
  constructor
  · intro a b ha
    unfold xcp
    rw [if_neg (fun q => ha (p_own a b w r hw hr q.1))]
    exact h.1 a b ha
  · intro b hb hS
    unfold xcp
    by_cases q : xown w b = xwc w r ∧ xslt w b < n
    · rw [if_pos q, hg b hb q.1 q.2, h.1 w1 b hne]
    · rw [if_neg q]
      exact h.2 b hb (hS.resolve_right q)
theorem pCp.up {w w1 : Nat} {σ σk : xM} {S : Nat → Prop} (h : pCp w w1 σ σk S) (hne : w1 ≠ w) (i : Nat) : pCp w w1 σ (xup σk w i (σk w1 i)) (fun b => S b ∨ b = i) := by
  constructor
  · intro a b ha
    rw [xup_n (fun q => ha q.1)]
    exact h.1 a b ha
  · intro b hb hS
    by_cases q : b = i
    · rw [q, xup_s, h.1 w1 i hne]
    · rw [xup_n (fun k => q k.2)]
      exact h.2 b hb (hS.resolve_right q)
theorem p_becomeC (σ : xM) {w w1 : Nat} (hw : w < 4) (hne : w1 ≠ w) : ∃ σ', fX4_become σ w w1 = some σ' ∧ pF [w] σ σ' ∧ ∀ i, i < 186 → σ' w i = σ w1 i := by
  have i0 : xin (0 : Int32) 2 := by decide
  have i1 : xin (1 : Int32) 2 := by decide
  have n0 : ((0 : Int32).toNatClampNeg) = 0 := by decide
  have n1 : ((1 : Int32).toNatClampNeg) = 1 := by decide
  have n2 : ((2 : Int32).toNatClampNeg) = 2 := by decide
  have n3 : ((3 : Int32).toNatClampNeg) = 3 := by decide
  have n4 : ((4 : Int32).toNatClampNeg) = 4 := by decide
  have ec : ∀ τ : xM, fX4_copyAll_c τ w1 w = some (xcp (xcp τ (xwc w 2) 64 w1 (fun j => 18 + j)) (xwc w 3) 64 w1 (fun j => 82 + j)) := by
    intro τ
    unfold fX4_copyAll_c
    rw [show xfu = 1997 + 1 + 1 + 1 from rfl, gX4_copyAll_c_2, if_neg (by decide), if_pos i0, if_pos i0, show (0 : Int32) + 1 = 1 from rfl, gX4_copyAll_c_2, if_neg (by decide), if_pos i1, if_pos i1, show (1 : Int32) + 1 = 2 from rfl, gX4_copyAll_c_2, if_pos (by decide), n0, n1]
    simp only [Option.bind]
  have eb : ∀ τ : xM, fX4_copyAll_b τ w1 w = some (xcp (xcp (xcp (xcp (xcp τ (xwc w 6) 8 w1 (fun j => 146 + 5 * j)) (xwc w 7) 8 w1 (fun j => 146 + 5 * j + 1)) (xwc w 8) 8 w1 (fun j => 146 + 5 * j + 2)) (xwc w 9) 8 w1 (fun j => 146 + 5 * j + 3)) (xwc w 10) 8 w1 (fun j => 146 + 5 * j + 4)) := by
    intro τ
    unfold fX4_copyAll_b
    rw [show xfu = 1994 + 1 + 1 + 1 + 1 + 1 + 1 from rfl, gX4_copyAll_b_2, if_neg (by decide), if_pos (by decide), if_pos (by decide), show (0 : Int32) + 1 = 1 from rfl, gX4_copyAll_b_2, if_neg (by decide), if_pos (by decide), if_pos (by decide), show (1 : Int32) + 1 = 2 from rfl, gX4_copyAll_b_2, if_neg (by decide), if_pos (by decide), if_pos (by decide), show (2 : Int32) + 1 = 3 from rfl, gX4_copyAll_b_2, if_neg (by decide), if_pos (by decide), if_pos (by decide), show (3 : Int32) + 1 = 4 from rfl, gX4_copyAll_b_2, if_neg (by decide), if_pos (by decide), if_pos (by decide), show (4 : Int32) + 1 = 5 from rfl, gX4_copyAll_b_2, if_pos (by decide), n0, n1, n2, n3, n4]
    simp only [Option.bind]
    rfl
  have D2 : ∀ w, w < 4 → ∀ b, b < 186 → xown w b = xwc w 2 → xslt w b < 64 → 18 + xslt w b = b := by decide +kernel
  have D3 : ∀ w, w < 4 → ∀ b, b < 186 → xown w b = xwc w 3 → xslt w b < 64 → 82 + xslt w b = b := by decide +kernel
  have D4 : ∀ w, w < 4 → ∀ b, b < 186 → xown w b = xwc w 4 → xslt w b < 4 → 14 + xslt w b = b := by decide +kernel
  have D11 : ∀ w, w < 4 → ∀ b, b < 186 → xown w b = xwc w 11 → xslt w b < 10 → 4 + xslt w b = b := by decide +kernel
  have D6 : ∀ w, w < 4 → ∀ b, b < 186 → xown w b = xwc w 6 → xslt w b < 8 → 146 + 5 * xslt w b = b := by decide +kernel
  have D7 : ∀ w, w < 4 → ∀ b, b < 186 → xown w b = xwc w 7 → xslt w b < 8 → 146 + 5 * xslt w b + 1 = b := by decide +kernel
  have D8 : ∀ w, w < 4 → ∀ b, b < 186 → xown w b = xwc w 8 → xslt w b < 8 → 146 + 5 * xslt w b + 2 = b := by decide +kernel
  have D9 : ∀ w, w < 4 → ∀ b, b < 186 → xown w b = xwc w 9 → xslt w b < 8 → 146 + 5 * xslt w b + 3 = b := by decide +kernel
  have D10 : ∀ w, w < 4 → ∀ b, b < 186 → xown w b = xwc w 10 → xslt w b < 8 → 146 + 5 * xslt w b + 4 = b := by decide +kernel
  have c0 : pCp w w1 σ σ (fun _ => False) := ⟨fun _ _ _ => rfl, fun _ _ h => h.elim⟩
  have c1 := c0.cp hw hne 2 64 (fun j => 18 + j) (by omega) (D2 w hw)
  have c2 := c1.cp hw hne 3 64 (fun j => 82 + j) (by omega) (D3 w hw)
  have c3 := c2.cp hw hne 4 4 (fun j => 14 + j) (by omega) (D4 w hw)
  have c4 := (c3.up hne 1).up hne 2
  have c5 := c4.cp hw hne 6 8 (fun j => 146 + 5 * j) (by omega) (D6 w hw)
  have c6 := c5.cp hw hne 7 8 (fun j => 146 + 5 * j + 1) (by omega) (D7 w hw)
  have c7 := c6.cp hw hne 8 8 (fun j => 146 + 5 * j + 2) (by omega) (D8 w hw)
  have c8 := c7.cp hw hne 9 8 (fun j => 146 + 5 * j + 3) (by omega) (D9 w hw)
  have c9 := c8.cp hw hne 10 8 (fun j => 146 + 5 * j + 4) (by omega) (D10 w hw)
  have c10 := ((c9.up hne 0).up hne 3).cp hw hne 11 10 (fun j => 4 + j) (by omega) (D11 w hw)
  have hx : ∃ σ', fX4_become σ w w1 = some σ' ∧ pCp w w1 σ σ' (fun b => (((((((((((((False ∨ (xown w b = xwc w 2 ∧ xslt w b < 64)) ∨ (xown w b = xwc w 3 ∧ xslt w b < 64)) ∨ (xown w b = xwc w 4 ∧ xslt w b < 4)) ∨ b = 1) ∨ b = 2) ∨ (xown w b = xwc w 6 ∧ xslt w b < 8)) ∨ (xown w b = xwc w 7 ∧ xslt w b < 8)) ∨ (xown w b = xwc w 8 ∧ xslt w b < 8)) ∨ (xown w b = xwc w 9 ∧ xslt w b < 8)) ∨ (xown w b = xwc w 10 ∧ xslt w b < 8)) ∨ b = 0) ∨ b = 3) ∨ (xown w b = xwc w 11 ∧ xslt w b < 10))) := by
    refine ⟨_, ?_, c10⟩
    unfold fX4_become
    rw [ec]
    simp only [Option.bind]
    rw [eb]
  obtain ⟨σ', hx, c⟩ := hx
  refine ⟨σ', hx, ?_, ?_⟩
  · intro v i hv _
    exact c.1 v i (fun q => hv (by rw [q]; exact List.mem_singleton.2 rfl))
  · intro i hi
    refine c.2 i hi ?_
    have E2 : ∀ w, w < 4 → ∀ b, b < 186 → 18 ≤ b → b < 82 → xown w b = xwc w 2 ∧ xslt w b < 64 := by decide +kernel
    have E3 : ∀ w, w < 4 → ∀ b, b < 186 → 82 ≤ b → b < 146 → xown w b = xwc w 3 ∧ xslt w b < 64 := by decide +kernel
    have E4 : ∀ w, w < 4 → ∀ b, b < 186 → 14 ≤ b → b < 18 → xown w b = xwc w 4 ∧ xslt w b < 4 := by decide +kernel
    have E11 : ∀ w, w < 4 → ∀ b, b < 186 → 4 ≤ b → b < 14 → xown w b = xwc w 11 ∧ xslt w b < 10 := by decide +kernel
    have E6 : ∀ w, w < 4 → ∀ b, b < 186 → 146 ≤ b → (b - 146) % 5 = 0 → xown w b = xwc w 6 ∧ xslt w b < 8 := by decide +kernel
    have E7 : ∀ w, w < 4 → ∀ b, b < 186 → 146 ≤ b → (b - 146) % 5 = 1 → xown w b = xwc w 7 ∧ xslt w b < 8 := by decide +kernel
    have E8 : ∀ w, w < 4 → ∀ b, b < 186 → 146 ≤ b → (b - 146) % 5 = 2 → xown w b = xwc w 8 ∧ xslt w b < 8 := by decide +kernel
    have E9 : ∀ w, w < 4 → ∀ b, b < 186 → 146 ≤ b → (b - 146) % 5 = 3 → xown w b = xwc w 9 ∧ xslt w b < 8 := by decide +kernel
    have E10 : ∀ w, w < 4 → ∀ b, b < 186 → 146 ≤ b → (b - 146) % 5 = 4 → xown w b = xwc w 10 ∧ xslt w b < 8 := by decide +kernel
    by_cases h0 : i < 4
    · have : i = 0 ∨ i = 1 ∨ i = 2 ∨ i = 3 := by omega
      rcases this with q | q | q | q
      · exact Or.inl (Or.inl (Or.inr (q)))
      · exact Or.inl (Or.inl (Or.inl (Or.inl (Or.inl (Or.inl (Or.inl (Or.inl (Or.inl (Or.inr (q))))))))))
      · exact Or.inl (Or.inl (Or.inl (Or.inl (Or.inl (Or.inl (Or.inl (Or.inl (Or.inr (q)))))))))
      · exact Or.inl (Or.inr (q))
    by_cases h1 : i < 14
    · exact Or.inr (E11 w hw i hi (by omega) (by omega))
    by_cases h2 : i < 18
    · exact Or.inl (Or.inl (Or.inl (Or.inl (Or.inl (Or.inl (Or.inl (Or.inl (Or.inl (Or.inl (Or.inr (E4 w hw i hi (by omega) (by omega))))))))))))
    by_cases h3 : i < 82
    · exact Or.inl (Or.inl (Or.inl (Or.inl (Or.inl (Or.inl (Or.inl (Or.inl (Or.inl (Or.inl (Or.inl (Or.inl (Or.inr (E2 w hw i hi (by omega) (by omega))))))))))))))
    by_cases h4 : i < 146
    · exact Or.inl (Or.inl (Or.inl (Or.inl (Or.inl (Or.inl (Or.inl (Or.inl (Or.inl (Or.inl (Or.inl (Or.inr (E3 w hw i hi (by omega) (by omega)))))))))))))
    have : (i - 146) % 5 = 0 ∨ (i - 146) % 5 = 1 ∨ (i - 146) % 5 = 2 ∨ (i - 146) % 5 = 3 ∨ (i - 146) % 5 = 4 := by omega
    rcases this with q | q | q | q | q
    · exact Or.inl (Or.inl (Or.inl (Or.inl (Or.inl (Or.inl (Or.inl (Or.inr (E6 w hw i hi (by omega) q))))))))
    · exact Or.inl (Or.inl (Or.inl (Or.inl (Or.inl (Or.inl (Or.inr (E7 w hw i hi (by omega) q)))))))
    · exact Or.inl (Or.inl (Or.inl (Or.inl (Or.inl (Or.inr (E8 w hw i hi (by omega) q))))))
    · exact Or.inl (Or.inl (Or.inl (Or.inl (Or.inr (E9 w hw i hi (by omega) q)))))
    · exact Or.inl (Or.inl (Or.inl (Or.inr (E10 w hw i hi (by omega) q))))

