set_option maxRecDepth 100000
abbrev xCl : List vw_C := [(RX0, TX0, 15), (RX1, TX1, 7), (RX2, TX2, 8), (RX3, TX3, 6), (RX4, TX4, 8), (RX5, TX5, 1), (RX6, TX6, 2), (RX7, TX7, 3), (RX8, TX8, 3), (RX9, TX9, 4), (RX10, TX10, 5), (RX11, TX11, 3), (RX12, TX12, 4), (RX13, TX13, 24)]
abbrev xtys (E : xE) : List (ClassId × FieldType) := [(xak E 0, .int), (xak E 1, .byte), (xak E 2, .short), (xak E 3, .boolean), (xak E 4, .array .int), (xak E 5, .object RX5), (xak E 6, .object "java/lang/String")]
def xR (E : xE) (c : Nat × Nat × Nat) : Option Nat := if c.1 = 1 then some (xa E c.2.1) else some (xks E c.2.1)
def xcv (E : xE) (σ : xM) (c : Nat × Nat × Nat) : Value :=
  if c.1 = 0 then .int (σ c.2.1 c.2.2)
  else if c.1 = 1 then .ref (xa E c.2.1)
  else if c.1 = 2 then .int (Int32.ofNat c.2.1)
  else if c.1 = 3 then .null
  else if c.1 = 4 then va_rf (if σ c.2.1 c.2.2 < 0 then none else some (xa E (σ c.2.1 c.2.2).toNatClampNeg))
  else if c.1 = 5 then va_rf (if σ 13 c.2.2 = 0 then none else some (xq E c.2.2))
  else .ref (xks E c.2.1)
def xent (E : xE) (σ : xM) (k : Nat) : va_E :=
  if (xsh k).1 = 0 then .inr ((xsh k).2.1, (List.range (xsh k).2.2).map (fun j => xcv E σ (xlc k j)))
  else if (xsh k).1 = 1 then .inl (xak E (xsh k).2.1, (xsh k).2.2, .inl (fun j => σ (xlc k j).2.1 (xlc k j).2.2))
  else .inl (xak E (xsh k).2.1, (xsh k).2.2, .inr (.inr (.inr (.inr (fun j => xR E (xlc k j))))))
def xsk (x : Int32) : Nat := if x = 8 then 1 else if x = 16 then 2 else 0
def xSh (E : xE) (σ : xM) (H : Heap) (s : Nat) : Prop := H[xq E s]? = some (vp_cell (xak E (xsk (σ 13 s))) ((σ 14 s).toNatClampNeg, .inl (fun j => σ 15 (40 * s + j)))) ∧ xz E + 201 ≤ xq E s
def xW (E : xE) (σ : xM) (H : Heap) : Prop := (∀ k, k < 201 → va_at (xD E) xCl (xa E k, xent E σ k) H) ∧ (∀ s, s < 4 → σ 13 s ≠ 0 → xSh E σ H s) ∧ ∀ s t, s < 4 → t < 4 → σ 13 s ≠ 0 → σ 13 t ≠ 0 → xq E s = xq E t → s = t
theorem xcv_up {E : xE} {σ : xM} {v i : Nat} {x : Int32} {c : Nat × Nat × Nat} (hv : v ≠ 13) (h : (c.1 = 0 ∨ c.1 = 4) → ¬ (c.2.1 = v ∧ c.2.2 = i)) : xcv E (xup σ v i x) c = xcv E σ c := by
  unfold xcv
  by_cases h0 : c.1 = 0
  · rw [if_pos h0, if_pos h0]
    simp only [xup, if_neg (h (Or.inl h0))]
  · rw [if_neg h0, if_neg h0]
    by_cases h4 : c.1 = 4
    · simp [xup, if_neg (h (Or.inr h4)), h4]
    · simp only [if_neg h4]
      have e : ∀ b, xup σ v i x 13 b = σ 13 b := fun b => by
        unfold xup
        rw [if_neg (fun q => hv q.1.symm)]
      simp only [e]
theorem xent_up {E : xE} {σ : xM} {v i : Nat} {x : Int32} {k : Nat} (hk : k < 201) (hv : v ≠ 13) (h : xown v i ≠ k) {H : Heap} (hH : va_at (xD E) xCl (xa E k, xent E σ k) H) : va_at (xD E) xCl (xa E k, xent E (xup σ v i x) k) H := by
  have key : ∀ j, j < (xsh k).2.2 → ((xlc k j).1 = 0 ∨ (xlc k j).1 = 4) → ¬ ((xlc k j).2.1 = v ∧ (xlc k j).2.2 = i) := by
    intro j hj hc ⟨e1, e2⟩
    have h1 := (xown_ok k hk j hj hc).1
    rw [e1, e2] at h1
    exact h h1
  unfold xent at hH ⊢
  by_cases h0 : (xsh k).1 = 0
  · rw [if_pos h0] at hH ⊢
    have e : (List.range (xsh k).2.2).map (fun j => xcv E (xup σ v i x) (xlc k j)) = (List.range (xsh k).2.2).map (fun j => xcv E σ (xlc k j)) := by
      apply List.map_congr_left
      intro j hj
      exact xcv_up hv (key j (List.mem_range.mp hj))
    rw [e]
    exact hH
  · rw [if_neg h0] at hH ⊢
    by_cases h1 : (xsh k).1 = 1
    · rw [if_pos h1] at hH ⊢
      have hH' : H[xa E k]? = some (arrV (xak E (xsh k).2.1) (xsh k).2.2 (fun j => .int (σ (xlc k j).2.1 (xlc k j).2.2))) := hH
      show H[xa E k]? = some (arrV (xak E (xsh k).2.1) (xsh k).2.2 (fun j => .int (xup σ v i x (xlc k j).2.1 (xlc k j).2.2)))
      rw [hH']
      congr 1
      unfold arrV
      congr 2
      funext j
      have hj0 := ((xkind_ok k hk).1 h1 j.val j.isLt)
      simp only [xup, if_neg (key j.val j.isLt (Or.inl hj0))]
    · rw [if_neg h1] at hH ⊢
      exact hH
/-- an int of the world is written: (v, i) lies in the cell k, which is now as it must be -/
theorem xW.upd {E : xE} {σ : xM} {H H1 : Heap} {v i : Nat} {x : Int32} (hW : xW E σ H) (hv : v < 13 ∨ 16 ≤ v) (hz : H1.size = H.size) (oq : ∀ q, q ≠ xa E (xown v i) → H1[q]? = H[q]?) (hn : va_at (xD E) xCl (xa E (xown v i), xent E (xup σ v i x) (xown v i)) H1) (hko : xown v i < 201) : xW E (xup σ v i x) H1 := by
  have e : ∀ a b, 13 ≤ a → a < 16 → xup σ v i x a b = σ a b := fun a b h1 h2 => by
    unfold xup
    rw [if_neg (fun q => by omega)]
  refine ⟨fun k hk => ?_, fun s hs h => ?_, fun s t hs ht h1 h2 => ?_⟩
  · by_cases hko : xown v i = k
    · rw [← hko]; exact hn
    · have h1 := xent_up (x := x) hk (by omega) hko (hW.1 k hk)
      exact h1.kept (oq (xa E k) (fun q => hko (by unfold xa at q; omega)))
  · rw [e 13 s (by omega) (by omega)] at h
    have h2 := hW.2.1 s hs h
    unfold xSh at h2 ⊢
    simp only [e 13 _ (by omega) (by omega), e 14 _ (by omega) (by omega), e 15 _ (by omega) (by omega)]
    refine ⟨?_, h2.2⟩
    rw [oq (xq E s) (fun q => by unfold xa at q; omega)]
    exact h2.1
  · rw [e 13 s (by omega) (by omega)] at h1
    rw [e 13 t (by omega) (by omega)] at h2
    exact hW.2.2 s t hs ht h1 h2
/-- an object of the world -/
theorem xW.obj {E : xE} {σ : xM} {H : Heap} (hW : xW E σ H) (k ci N : Nat) (hk : k < 201) (hs : xsh k = (0, ci, N)) {fs : List Value} (hf : (List.range N).map (fun j => xcv E σ (xlc k j)) = fs) : va_P (xD E) xCl [(xa E k, .inr (ci, fs))] H := by
  intro j q hq
  have h0 : j < 1 := (List.getElem?_eq_some_iff.mp hq).1
  rw [show j = 0 by omega] at hq
  cases hq
  have h := hW.1 k hk
  unfold xent at h
  rw [hs] at h
  rw [← hf]
  exact h
/-- an array of ints of the world -/
theorem xW.arr {E : xE} {σ : xM} {H : Heap} (hW : xW E σ H) (k a n v : Nat) (g : Nat → Nat) (hk : k < 201) (hs : xsh k = (1, a, n)) (hl : ∀ j, j < n → xlc k j = (0, v, g j)) : va_P (xD E) xCl [(xa E k, .inl (xak E a, n, .inl (fun j => σ v (g j))))] H := by
  intro j q hq
  have h0 : j < 1 := (List.getElem?_eq_some_iff.mp hq).1
  rw [show j = 0 by omega] at hq
  cases hq
  have h := hW.1 k hk
  unfold xent at h
  rw [hs] at h
  have hH' : H[xa E k]? = some (arrV (xak E a) n (fun j => .int (σ (xlc k j).2.1 (xlc k j).2.2))) := h
  show H[xa E k]? = some (arrV (xak E a) n (fun j => .int (σ v (g j))))
  rw [hH']
  congr 1
  unfold arrV
  congr 2
  funext j
  simp only [hl j.val j.isLt]
/-- an array of references of the world -/
theorem xW.rar {E : xE} {σ : xM} {H : Heap} (hW : xW E σ H) (k a n : Nat) (g : Nat → Nat) (hk : k < 201) (hs : xsh k = (2, a, n)) (hl : ∀ j, j < n → xlc k j = (1, g j, 0)) : va_P (xD E) xCl [(xa E k, .inl (xak E a, n, .inr (.inr (.inr (.inr (fun j => some (xa E (g j))))))))] H := by
  intro j q hq
  have h0 : j < 1 := (List.getElem?_eq_some_iff.mp hq).1
  rw [show j = 0 by omega] at hq
  cases hq
  have h := hW.1 k hk
  unfold xent at h
  rw [hs] at h
  have hH' : H[xa E k]? = some (arrV (xak E a) n (fun j => va_rf (xR E (xlc k j)))) := h
  show H[xa E k]? = some (arrV (xak E a) n (fun j => va_rf (some (xa E (g j)))))
  rw [hH']
  congr 1
  unfold arrV
  congr 2
  funext j
  simp only [hl j.val j.isLt, xR, if_true]
