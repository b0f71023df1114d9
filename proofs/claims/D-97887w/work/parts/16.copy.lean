set_option maxRecDepth 100000
def xAr (k n v : Nat) (g : Nat → Nat) : Prop := k < 201 ∧ xsh k = (1, 0, n) ∧ (∀ j, j < n → xlc k j = (0, v, g j)) ∧ (v < 13 ∨ 16 ≤ v)
/-- what lies in the cell k2, of n ints, becomes what the variable v1 holds at the places g1 -/
def xcp (σ : xM) (k2 n v1 : Nat) (g1 : Nat → Nat) : xM := fun a b => if xown a b = k2 ∧ xslt a b < n then σ v1 (g1 (xslt a b)) else σ a b
theorem xent_off {E : xE} {σ σ' : xM} {k k2 : Nat} (hk : k < 201) (h2 : k2 < 201) (hne : k ≠ k2) (hoff : ∀ a b, xown a b ≠ k2 → σ' a b = σ a b) {H : Heap} (hH : va_at (xD E) xCl (xa E k, xent E σ k) H) : va_at (xD E) xCl (xa E k, xent E σ' k) H := by
  have key : ∀ j, j < (xsh k).2.2 → ((xlc k j).1 = 0 ∨ (xlc k j).1 = 4) → σ' (xlc k j).2.1 (xlc k j).2.2 = σ (xlc k j).2.1 (xlc k j).2.2 := by
    intro j hj hc
    exact hoff _ _ (fun q => hne ((xown_ok k hk j hj hc).1.symm.trans q))
  have e13 : ∀ b, σ' 13 b = σ 13 b := fun b => hoff 13 b (by have : xown 13 b = 999 := rfl; omega)
  unfold xent at hH ⊢
  by_cases h0 : (xsh k).1 = 0
  · rw [if_pos h0] at hH ⊢
    have e : (List.range (xsh k).2.2).map (fun j => xcv E σ' (xlc k j)) = (List.range (xsh k).2.2).map (fun j => xcv E σ (xlc k j)) := by
      apply List.map_congr_left
      intro j hj
      have kj := key j (List.mem_range.mp hj)
      unfold xcv
      by_cases c0 : (xlc k j).1 = 0
      · rw [if_pos c0, if_pos c0, kj (Or.inl c0)]
      · by_cases c4 : (xlc k j).1 = 4
        · simp only [c4, kj (Or.inr c4)]
          rfl
        · simp only [c0, c4, if_false, e13]
    rw [e]
    exact hH
  · rw [if_neg h0] at hH ⊢
    by_cases h1 : (xsh k).1 = 1
    · rw [if_pos h1] at hH ⊢
      have hH' : H[xa E k]? = some (arrV (xak E (xsh k).2.1) (xsh k).2.2 (fun j => .int (σ (xlc k j).2.1 (xlc k j).2.2))) := hH
      show H[xa E k]? = some (arrV (xak E (xsh k).2.1) (xsh k).2.2 (fun j => .int (σ' (xlc k j).2.1 (xlc k j).2.2)))
      rw [hH']
      congr 1
      unfold arrV
      congr 2
      funext j
      have hj0 := ((xkind_ok k hk).1 h1 j.val j.isLt)
      simp only [key j.val j.isLt (Or.inl hj0)]
    · rw [if_neg h1] at hH ⊢
      exact hH
theorem xW.updC {E : xE} {σ σ' : xM} {H H1 : Heap} (hW : xW E σ H) (k : Nat) (hk : k < 201) (hoff : ∀ a b, xown a b ≠ k → σ' a b = σ a b) (oq : ∀ q, q ≠ xa E k → H1[q]? = H[q]?) (hn : va_at (xD E) xCl (xa E k, xent E σ' k) H1) : xW E σ' H1 := by
  have e : ∀ a b, 13 ≤ a → a < 16 → σ' a b = σ a b := fun a b h1 h2 => hoff a b (by
    have : xown a b = 999 := by unfold xown; rw [if_neg (by omega), if_neg (by omega), if_neg (by omega), if_pos (by omega)]
    omega)
  refine ⟨fun j hj => ?_, fun s hs h => ?_, fun s t hs ht h1 h2 => ?_⟩
  · by_cases hko : j = k
    · rw [hko]; exact hn
    · exact (xent_off hj hk hko hoff (hW.1 j hj)).kept (oq (xa E j) (fun q => hko (by unfold xa at q; omega)))
  · rw [e 13 s (by omega) (by omega)] at h
    have h2 := hW.2.1 s hs h
    unfold xSh at h2 ⊢
    simp only [e 13 _ (by omega) (by omega), e 14 _ (by omega) (by omega), e 15 _ (by omega) (by omega)]
    refine ⟨?_, h2.2⟩
    rw [oq (xq E s) (fun q => by unfold xa at q; omega)]
    exact h2.1
  · rw [e 13 s (by omega) (by omega)] at h1
    rw [e 13 t (by omega) (by omega)] at h2
    exact hW.2.2 s t hs ht h1 h2
section XCP
variable {p : Program} {l : Launch} {e : Env} {R : Room} {s : State} {m : MethodId} {args : Array Value} {below : List Frame} {meth : Method} {c : Code} {H : Heap} {locs : List Loc} {cells slots : Nat} {Q : State → Prop}
variable {cc : ByteArray} {nL : Nat} {own : String} {E : xE} {σ : xM} {pc : Nat} {ls : Array Slot} {rest : List Value}
theorem x_copy {index : Nat} (F : xFx p m c cc nL s args own E) (hsz : ls.size = nL) (hlink : (Cond.methodLink own index arraycopyName).before args s = true) (hW : xW E σ H) (hS : va_S (xA E) s.heap H locs) (k1 n v1 : Nat) (g1 : Nat → Nat) (k2 v2 : Nat) (g2 : Nat → Nat) (A1 : xAr k1 n v1 g1) (A2 : xAr k2 n v2 g2) (hne : k1 ≠ k2) (hn : n < 2 ^ 31) {N : Int32} (hN : N = nI n)
    (hframes : 1 ≤ R.frames) (hlocals : (rest.map fun v => v.category).sum + (nativeFrameWords "java/lang/System" "arraycopy" 5 + 11) ≤ R.locals) (hdg : decode cc pc = .ok (.invokestatic index, 3))
    (kk : ∀ (H1 : Heap) (locs1 : List Loc), xW E (xcp σ k2 n v1 g1) H1 → va_S (xA E) s.heap H1 locs1 → W p l e R s m args below meth c H1 locs1 cells slots Q (F0 m (pc + 3) ls rest)) : W p l e R s m args below meth c H locs cells slots Q (F0 m pc ls (.int N :: .int 0 :: .ref (xa E k2) :: .int 0 :: .ref (xa E k1) :: rest)) := by
  subst hN
  intro T hT X
  have hml := F.1.2.2.1
  have hts := F.1.2.2.2.2
  have hcl : (nI n).toNatClampNeg = n := nI_clamp hn
  have hti : (nI n).toInt = (n : Int) := nI_toInt hn
  have hc0 := hW.arr k1 0 n v1 g1 A1.1 A1.2.1 A1.2.2.1 0 _ rfl
  have hc1 := hW.arr k2 0 n v2 g2 A2.1 A2.2.1 A2.2.2.1 0 _ rfl
  have hc0 : H[xa E k1]? = some (vp_cell (xak E 0) (n, .inl (fun j => σ v1 (g1 j)))) := hc0
  have hc1 : H[xa E k2]? = some (vp_cell (xak E 0) (n, .inl (fun j => σ v2 (g2 j)))) := hc1
  obtain ⟨-, k0, hk0, cm0, hkk0⟩ := (F.2.1.1.2 0 _ rfl).1 n (fun j => .int (σ v1 (g1 j)))
  have hk0 : s.vm.classes[xak E 0]? = some k0 := hk0
  have hkk0 : k0.kind = .array cm0 .int := hkk0
  obtain ⟨vm', X', step⟩ := X.arraycopy F.1.1 F.1.2.2.2.1 hlink (hts _ q763) (hts _ q762) (hts _ q118) (src := xa E k1) (dst := xa E k2) (cs := vp_cell (xak E 0) (n, .inl (fun j => σ v1 (g1 j)))) (cd := vp_cell (xak E 0) (n, .inl (fun j => σ v2 (g2 j)))) (srcPos := 0) (destPos := 0) (n := nI n) (by rw [hT]; exact hc0) (by rw [hT]; exact hc1)
    (fun _ h => by cases h) (fun _ h => by cases h) (fun h => by cases h) (fun h => by cases h) hk0 hk0 hkk0 hkk0 rfl (by decide) (by decide) (nI_pos hn)
    (by rw [hti]; show ¬ (0 : Int) + _ > ((arrV (xak E 0) n _).slots.size : Int); rw [arrV_size]; omega)
    (by rw [hti]; show ¬ (0 : Int) + _ > ((arrV (xak E 0) n _).slots.size : Int); rw [arrV_size]; omega)
    (fun vm₁ _ i hi => by
      rw [hcl] at hi
      have e : (vp_cell (xak E 0) (n, .inl (fun j => σ v1 (g1 j)))).slots.getD ((0 : Int32).toNatClampNeg + i) .null = .int (σ v1 (g1 i)) := by
        show (arrV (xak E 0) n (fun j => .int (σ v1 (g1 j)))).slots.getD _ _ = _
        rw [Array.getD_eq_getD_getElem?, show (0 : Int32).toNatClampNeg + i = i from Nat.zero_add i, arrV_read _ _ hi]
        rfl
      refine ⟨?_, ?_⟩
      · rw [e]; rfl
      · rw [e]; exact trivial)
    (g := F0 m pc ls (.int (nI n) :: .int 0 :: .ref (xa E k2) :: .int 0 :: .ref (xa E k1) :: rest)) rfl (by rw [hml]; exact hsz) (rest := rest) rfl (by rw [F.1.2.1]; exact hdg) hframes (by show 2 * 0 + _ + _ ≤ _; omega)
  have h4 : (0 : Int32).toNatClampNeg + (nI n).toNatClampNeg ≤ n := by rw [hcl]; exact Nat.le_of_eq (Nat.zero_add n)
  have e1 : copied (vp_cell (xak E 0) (n, .inl (fun j => σ v1 (g1 j)))) (vp_cell (xak E 0) (n, .inl (fun j => σ v2 (g2 j)))) 0 0 (nI n) = vp_cell (xak E 0) (n, .inl (va_cpy (fun j => σ v1 (g1 j)) (fun j => σ v2 (g2 j)) (0 : Int32).toNatClampNeg (0 : Int32).toNatClampNeg (nI n).toNatClampNeg)) := va_copied (n1 := n) (fun z => .int z) (xak E 0) (xak E 0) (fun j => σ v1 (g1 j)) (fun j => σ v2 (g2 j)) h4
  rw [e1, hcl] at X' step
  have hl : xa E k2 < H.size := (Array.getElem?_eq_some_iff.mp hc1).1
  have oq : ∀ q : Nat, q ≠ xa E k2 → (H.setIfInBounds (xa E k2) (vp_cell (xak E 0) (n, .inl (va_cpy (fun j => σ v1 (g1 j)) (fun j => σ v2 (g2 j)) (0 : Int32).toNatClampNeg (0 : Int32).toNatClampNeg n))))[q]? = H[q]? := fun q hq => by simp [Array.getElem?_setIfInBounds, Ne.symm hq]
  have hheap : ((T.setVm vm').setCell (xa E k2) (vp_cell (xak E 0) (n, .inl (va_cpy (fun j => σ v1 (g1 j)) (fun j => σ v2 (g2 j)) (0 : Int32).toNatClampNeg (0 : Int32).toNatClampNeg n)))).heap = H.setIfInBounds (xa E k2) (vp_cell (xak E 0) (n, .inl (va_cpy (fun j => σ v1 (g1 j)) (fun j => σ v2 (g2 j)) (0 : Int32).toNatClampNeg (0 : Int32).toNatClampNeg n))) := by rw [← hT]; rfl
  have hkey : ∀ j, j < n → xown v2 (g2 j) = k2 ∧ xslt v2 (g2 j) = j := fun j hj => by
    have h2 := xown_ok k2 A2.1 j (by rw [A2.2.1]; exact hj) (by rw [A2.2.2.1 j hj]; exact Or.inl rfl)
    rw [A2.2.2.1 j hj] at h2
    exact h2
  have hW1 : xW E (xcp σ k2 n v1 g1) (H.setIfInBounds (xa E k2) (vp_cell (xak E 0) (n, .inl (va_cpy (fun j => σ v1 (g1 j)) (fun j => σ v2 (g2 j)) (0 : Int32).toNatClampNeg (0 : Int32).toNatClampNeg n)))) := by
    refine hW.updC k2 A2.1 (fun a b hab => by unfold xcp; rw [if_neg (fun q => hab q.1)]) oq ?_
    unfold xent
    rw [A2.2.1]
    show (H.setIfInBounds (xa E k2) _)[xa E k2]? = some (arrV (xak E 0) n (fun j => .int (xcp σ k2 n v1 g1 (xlc k2 j).2.1 (xlc k2 j).2.2)))
    rw [show (H.setIfInBounds (xa E k2) (vp_cell (xak E 0) (n, .inl (va_cpy (fun j => σ v1 (g1 j)) (fun j => σ v2 (g2 j)) (0 : Int32).toNatClampNeg (0 : Int32).toNatClampNeg n))))[xa E k2]? = some (vp_cell (xak E 0) (n, .inl (va_cpy (fun j => σ v1 (g1 j)) (fun j => σ v2 (g2 j)) (0 : Int32).toNatClampNeg (0 : Int32).toNatClampNeg n))) by simp [Array.getElem?_setIfInBounds, hl], vp_cell_i]
    congr 1
    unfold arrV
    congr 2
    funext j
    simp only [A2.2.2.1 j.val j.isLt]
    obtain ⟨h1, h2⟩ := hkey j.val j.isLt
    have hz : (0 : Int32).toNatClampNeg = 0 := by decide
    have e1 : va_cpy (fun j => σ v1 (g1 j)) (fun j => σ v2 (g2 j)) (0 : Int32).toNatClampNeg (0 : Int32).toNatClampNeg n j.val = σ v1 (g1 j.val) := by
      have hj := j.isLt
      rw [hz]
      unfold va_cpy
      rw [if_pos ⟨Nat.zero_le _, by omega⟩]
      simp
    have e2 : xcp σ k2 n v1 g1 v2 (g2 j.val) = σ v1 (g1 j.val) := by
      unfold xcp
      rw [if_pos ⟨h1, by rw [h2]; exact j.isLt⟩, h2]
    rw [e1, e2]
  obtain ⟨t, a1, b1⟩ := kk _ _ hW1 ⟨by simp; exact hS.1, fun q g1 g2 => by
      rw [oq q (fun e => g2 (by rw [e]; exact xA_xa E k2))]
      exact hS.2.1 q g1 g2, fun q hq => by
      rcases List.mem_append.mp hq with h | h
      · exact hS.2.2 q h
      · obtain ⟨z, -, hz⟩ := List.mem_map.mp h
        rw [← hz]
        exact xA_xa E k2⟩ _ hheap X'
  exact ⟨t, step t a1, b1⟩
end XCP
/-- World.copy: one int array of the world to another of the same length -/
theorem mX4_copy (l : Launch) (E : xE) (σ : xM) (k1 n v1 : Nat) (g1 : Nat → Nat) (k2 v2 : Nat) (g2 : Nat → Nat) (A1 : xAr k1 n v1 g1) (A2 : xAr k2 n v2 g2) (hne : k1 ≠ k2) (hn : n < 2 ^ 31) : Met l yX4_copy (ws_ yX4_copy cX4_copy 2 none) ({ frames := 1, cells := 0, slots := 0, locals := 40 } : Room) (xPc E σ [.ref (xa E k1), .ref (xa E k2)]) (xQc E (.returned none) (xcp σ k2 n v1 g1)) 0 0 (xA E) := by
  refine x_of (C := RX4) (n := "copy") (d := "([I[I)V") (r := none) (by decide) rfl (by first | decide | exact Nat.le_of_ble_eq_true rfl) ?_
  intro p e s m below meth c ls F hr hlk hW hS hl
  have hl : lv_has ls 2 [(0, .ref (xa E k1)), (1, .ref (xa E k2))] := hl
  obtain ⟨hx, hb, hml, hown, hts⟩ := id F.1
  have hK := F.2.1.1
  refine lv_aload_n hx hb dX4_copy_0 rfl (lv_at hl 0 rfl) ?_
  refine lv_iconst (v := 0) hx hb dX4_copy_1 (by decide) ?_
  refine lv_aload_n hx hb dX4_copy_2 rfl (lv_at hl 1 rfl) ?_
  refine lv_iconst (v := 0) hx hb dX4_copy_3 (by decide) ?_
  refine lv_aload_n hx hb dX4_copy_4 rfl (lv_at hl 1 rfl) ?_
  refine va_alen (v := nI n) hx hb hK (hW.arr k2 0 n v2 g2 A2.1 A2.2.1 A2.2.2.1) 0 0 rfl rfl rfl dX4_copy_5 ?_
  refine x_copy F hl.1 (hts _ q761) hW hS k1 n v1 g1 k2 v2 g2 A1 A2 hne hn rfl (by decide) (Nat.le_of_ble_eq_true rfl) dX4_copy_6 (fun H locs hW hS => ?_)
  exact x_vret F hr hlk hW hS dX4_copy_9
