set_option maxRecDepth 100000
theorem x_lit {i : Int32} {n : Nat} (h : xin i n) : vp_in i n := h
theorem x_lt {i : Int32} {n : Nat} (h : xin i n) : i.toNatClampNeg < n := Nat.not_le.mp fun q => h (Or.inr q)
theorem x_b01 {v : Int32} (h : v = 0 ∨ v = 1) : narrow .boolean (.int v) = .int v := by rcases h with h | h <;> rw [h] <;> rfl
theorem x_f01 {v : Int32} (h : v = 0 ∨ v = 1) : fits .boolean (.int v) = true := by rcases h with h | h <;> rw [h] <;> rfl
/-! java/lang/Math.abs(I)I -/
def fJ3_abs (a0 : Int32) : Int32 :=
  if 0 ≤ a0 then a0 else (-a0)
set_option maxHeartbeats 4000000 in
theorem mJ3_abs (l : Launch) (E : xE) (σ : xM) (a0 : Int32) : Met l yJ3_abs (ws_ yJ3_abs cJ3_abs 1 (some .int)) ({ frames := 0, cells := 0, slots := 0, locals := 0 } : Room) (xPc E σ [.int a0]) (xQc E (.returned (some (.int (fJ3_abs a0)))) σ) 0 0 (xA E) := by
  refine x_ofF (C := RJ3) (n := "abs") (d := "(I)I") (r := (some .int)) (by decide +kernel) rfl (by first | decide | exact Nat.le_of_ble_eq_true rfl) ?_
  intro p e s m below meth c ls F hr hlk hW hS hl
  have hl : lv_has ls 1 [(0, .int a0)] := hl
  obtain ⟨hx, hb, hml, hown, hts⟩ := id F.1
  have hK := F.2.1.1
  obtain ⟨r, h⟩ : ∃ r, fJ3_abs a0 = r := ⟨_, rfl⟩
  rw [h]
  unfold fJ3_abs at h
  refine lv_iload_n hx hb dJ3_abs_0 rfl (lv_at hl 0 rfl) ?_
  refine lv_if_ge (tgt := 9) hx hb dJ3_abs_1 (by decide) (fun c1 => ?_) (fun c1 => ?_)
  · rw [if_pos c1] at h
    refine lv_iload_n hx hb dJ3_abs_9 rfl (lv_at hl 0 rfl) ?_
    subst h
    exact x_iret F hr hlk hW hS dJ3_abs_10
  · rw [if_neg c1] at h
    refine lv_iload_n hx hb dJ3_abs_4 rfl (lv_at hl 0 rfl) ?_
    refine lv_ineg hx hb dJ3_abs_5 ?_
    refine lv_goto (tgt := 10) hx hb dJ3_abs_6 (by decide) ?_
    subst h
    exact x_iret F hr hlk hW hS dJ3_abs_10
/-! java/lang/Math.max(II)I -/
def fJ3_max (a0 : Int32) (a1 : Int32) : Int32 :=
  if a0 < a1 then a1 else a0
set_option maxHeartbeats 4000000 in
theorem mJ3_max (l : Launch) (E : xE) (σ : xM) (a0 : Int32) (a1 : Int32) : Met l yJ3_max (ws_ yJ3_max cJ3_max 2 (some .int)) ({ frames := 0, cells := 0, slots := 0, locals := 0 } : Room) (xPc E σ [.int a0, .int a1]) (xQc E (.returned (some (.int (fJ3_max a0 a1)))) σ) 0 0 (xA E) := by
  refine x_ofF (C := RJ3) (n := "max") (d := "(II)I") (r := (some .int)) (by decide +kernel) rfl (by first | decide | exact Nat.le_of_ble_eq_true rfl) ?_
  intro p e s m below meth c ls F hr hlk hW hS hl
  have hl : lv_has ls 2 [(0, .int a0), (1, .int a1)] := hl
  obtain ⟨hx, hb, hml, hown, hts⟩ := id F.1
  have hK := F.2.1.1
  obtain ⟨r, h⟩ : ∃ r, fJ3_max a0 a1 = r := ⟨_, rfl⟩
  rw [h]
  unfold fJ3_max at h
  refine lv_iload_n hx hb dJ3_max_0 rfl (lv_at hl 0 rfl) ?_
  refine lv_iload_n hx hb dJ3_max_1 rfl (lv_at hl 1 rfl) ?_
  refine lv_icmp_lt (tgt := 9) hx hb dJ3_max_2 (by decide) (fun c1 => ?_) (fun c1 => ?_)
  · rw [if_pos c1] at h
    refine lv_iload_n hx hb dJ3_max_9 rfl (lv_at hl 1 rfl) ?_
    subst h
    exact x_iret F hr hlk hW hS dJ3_max_10
  · rw [if_neg c1] at h
    refine lv_iload_n hx hb dJ3_max_5 rfl (lv_at hl 0 rfl) ?_
    refine lv_goto (tgt := 10) hx hb dJ3_max_6 (by decide) ?_
    subst h
    exact x_iret F hr hlk hW hS dJ3_max_10
/-! java/lang/Math.min(II)I -/
def fJ3_min (a0 : Int32) (a1 : Int32) : Int32 :=
  if a1 < a0 then a1 else a0
set_option maxHeartbeats 4000000 in
theorem mJ3_min (l : Launch) (E : xE) (σ : xM) (a0 : Int32) (a1 : Int32) : Met l yJ3_min (ws_ yJ3_min cJ3_min 2 (some .int)) ({ frames := 0, cells := 0, slots := 0, locals := 0 } : Room) (xPc E σ [.int a0, .int a1]) (xQc E (.returned (some (.int (fJ3_min a0 a1)))) σ) 0 0 (xA E) := by
  refine x_ofF (C := RJ3) (n := "min") (d := "(II)I") (r := (some .int)) (by decide +kernel) rfl (by first | decide | exact Nat.le_of_ble_eq_true rfl) ?_
  intro p e s m below meth c ls F hr hlk hW hS hl
  have hl : lv_has ls 2 [(0, .int a0), (1, .int a1)] := hl
  obtain ⟨hx, hb, hml, hown, hts⟩ := id F.1
  have hK := F.2.1.1
  obtain ⟨r, h⟩ : ∃ r, fJ3_min a0 a1 = r := ⟨_, rfl⟩
  rw [h]
  unfold fJ3_min at h
  refine lv_iload_n hx hb dJ3_min_0 rfl (lv_at hl 0 rfl) ?_
  refine lv_iload_n hx hb dJ3_min_1 rfl (lv_at hl 1 rfl) ?_
  refine lv_icmp_gt (tgt := 9) hx hb dJ3_min_2 (by decide) (fun c1 => ?_) (fun c1 => ?_)
  · rw [if_pos c1] at h
    refine lv_iload_n hx hb dJ3_min_9 rfl (lv_at hl 1 rfl) ?_
    subst h
    exact x_iret F hr hlk hW hS dJ3_min_10
  · rw [if_neg c1] at h
    refine lv_iload_n hx hb dJ3_min_5 rfl (lv_at hl 0 rfl) ?_
    refine lv_goto (tgt := 10) hx hb dJ3_min_6 (by decide) ?_
    subst h
    exact x_iret F hr hlk hW hS dJ3_min_10
/-! java/lang/Integer.bitCount(I)I -/
def fJ4_bitCount (a0 : Int32) : Int32 :=
  ((((((((a0 - ((((a0 : Int32).toUInt32 >>> ((1 : Int32).toUInt32 &&& Int32.toUInt32 31)).toInt32) &&& 1431655765)) &&& 858993459) + (((((a0 - ((((a0 : Int32).toUInt32 >>> ((1 : Int32).toUInt32 &&& Int32.toUInt32 31)).toInt32) &&& 1431655765)) : Int32).toUInt32 >>> ((2 : Int32).toUInt32 &&& Int32.toUInt32 31)).toInt32) &&& 858993459)) + ((((((a0 - ((((a0 : Int32).toUInt32 >>> ((1 : Int32).toUInt32 &&& Int32.toUInt32 31)).toInt32) &&& 1431655765)) &&& 858993459) + (((((a0 - ((((a0 : Int32).toUInt32 >>> ((1 : Int32).toUInt32 &&& Int32.toUInt32 31)).toInt32) &&& 1431655765)) : Int32).toUInt32 >>> ((2 : Int32).toUInt32 &&& Int32.toUInt32 31)).toInt32) &&& 858993459)) : Int32).toUInt32 >>> ((4 : Int32).toUInt32 &&& Int32.toUInt32 31)).toInt32)) &&& 252645135) + ((((((((a0 - ((((a0 : Int32).toUInt32 >>> ((1 : Int32).toUInt32 &&& Int32.toUInt32 31)).toInt32) &&& 1431655765)) &&& 858993459) + (((((a0 - ((((a0 : Int32).toUInt32 >>> ((1 : Int32).toUInt32 &&& Int32.toUInt32 31)).toInt32) &&& 1431655765)) : Int32).toUInt32 >>> ((2 : Int32).toUInt32 &&& Int32.toUInt32 31)).toInt32) &&& 858993459)) + ((((((a0 - ((((a0 : Int32).toUInt32 >>> ((1 : Int32).toUInt32 &&& Int32.toUInt32 31)).toInt32) &&& 1431655765)) &&& 858993459) + (((((a0 - ((((a0 : Int32).toUInt32 >>> ((1 : Int32).toUInt32 &&& Int32.toUInt32 31)).toInt32) &&& 1431655765)) : Int32).toUInt32 >>> ((2 : Int32).toUInt32 &&& Int32.toUInt32 31)).toInt32) &&& 858993459)) : Int32).toUInt32 >>> ((4 : Int32).toUInt32 &&& Int32.toUInt32 31)).toInt32)) &&& 252645135) : Int32).toUInt32 >>> ((8 : Int32).toUInt32 &&& Int32.toUInt32 31)).toInt32)) + (((((((((a0 - ((((a0 : Int32).toUInt32 >>> ((1 : Int32).toUInt32 &&& Int32.toUInt32 31)).toInt32) &&& 1431655765)) &&& 858993459) + (((((a0 - ((((a0 : Int32).toUInt32 >>> ((1 : Int32).toUInt32 &&& Int32.toUInt32 31)).toInt32) &&& 1431655765)) : Int32).toUInt32 >>> ((2 : Int32).toUInt32 &&& Int32.toUInt32 31)).toInt32) &&& 858993459)) + ((((((a0 - ((((a0 : Int32).toUInt32 >>> ((1 : Int32).toUInt32 &&& Int32.toUInt32 31)).toInt32) &&& 1431655765)) &&& 858993459) + (((((a0 - ((((a0 : Int32).toUInt32 >>> ((1 : Int32).toUInt32 &&& Int32.toUInt32 31)).toInt32) &&& 1431655765)) : Int32).toUInt32 >>> ((2 : Int32).toUInt32 &&& Int32.toUInt32 31)).toInt32) &&& 858993459)) : Int32).toUInt32 >>> ((4 : Int32).toUInt32 &&& Int32.toUInt32 31)).toInt32)) &&& 252645135) + ((((((((a0 - ((((a0 : Int32).toUInt32 >>> ((1 : Int32).toUInt32 &&& Int32.toUInt32 31)).toInt32) &&& 1431655765)) &&& 858993459) + (((((a0 - ((((a0 : Int32).toUInt32 >>> ((1 : Int32).toUInt32 &&& Int32.toUInt32 31)).toInt32) &&& 1431655765)) : Int32).toUInt32 >>> ((2 : Int32).toUInt32 &&& Int32.toUInt32 31)).toInt32) &&& 858993459)) + ((((((a0 - ((((a0 : Int32).toUInt32 >>> ((1 : Int32).toUInt32 &&& Int32.toUInt32 31)).toInt32) &&& 1431655765)) &&& 858993459) + (((((a0 - ((((a0 : Int32).toUInt32 >>> ((1 : Int32).toUInt32 &&& Int32.toUInt32 31)).toInt32) &&& 1431655765)) : Int32).toUInt32 >>> ((2 : Int32).toUInt32 &&& Int32.toUInt32 31)).toInt32) &&& 858993459)) : Int32).toUInt32 >>> ((4 : Int32).toUInt32 &&& Int32.toUInt32 31)).toInt32)) &&& 252645135) : Int32).toUInt32 >>> ((8 : Int32).toUInt32 &&& Int32.toUInt32 31)).toInt32)) : Int32).toUInt32 >>> ((16 : Int32).toUInt32 &&& Int32.toUInt32 31)).toInt32)) &&& 63)
set_option maxHeartbeats 4000000 in
theorem mJ4_bitCount (l : Launch) (E : xE) (σ : xM) (a0 : Int32) : Met l yJ4_bitCount (ws_ yJ4_bitCount cJ4_bitCount 1 (some .int)) ({ frames := 0, cells := 0, slots := 0, locals := 0 } : Room) (xPc E σ [.int a0]) (xQc E (.returned (some (.int (fJ4_bitCount a0)))) σ) 0 0 (xA E) := by
  refine x_ofF (C := RJ4) (n := "bitCount") (d := "(I)I") (r := (some .int)) (by decide +kernel) rfl (by first | decide | exact Nat.le_of_ble_eq_true rfl) ?_
  intro p e s m below meth c ls F hr hlk hW hS hl
  have hl : lv_has ls 1 [(0, .int a0)] := hl
  obtain ⟨hx, hb, hml, hown, hts⟩ := id F.1
  have hK := F.2.1.1
  obtain ⟨r, h⟩ : ∃ r, fJ4_bitCount a0 = r := ⟨_, rfl⟩
  rw [h]
  unfold fJ4_bitCount at h
  refine lv_iload_n hx hb dJ4_bitCount_0 rfl (lv_at hl 0 rfl) ?_
  refine lv_iload_n hx hb dJ4_bitCount_1 rfl (lv_at hl 0 rfl) ?_
  refine lv_iconst (v := 1) hx hb dJ4_bitCount_2 (by decide) ?_
  refine lv_iushr (v := ((a0 : Int32).toUInt32 >>> ((1 : Int32).toUInt32 &&& Int32.toUInt32 31)).toInt32) hx hb dJ4_bitCount_3 rfl ?_
  refine lv_ldcw (v := 1431655765) hx hb hown (hts _ q727) dJ4_bitCount_4 ?_
  refine lv_iand hx hb dJ4_bitCount_7 ?_
  refine lv_isub hx hb dJ4_bitCount_8 ?_
  refine lv_istore_n (lv' := [(0, .int (a0 - ((((a0 : Int32).toUInt32 >>> ((1 : Int32).toUInt32 &&& Int32.toUInt32 31)).toInt32) &&& 1431655765)))]) hx hb dJ4_bitCount_9 rfl hl (by decide) rfl (fun ls hl => ?_)
  refine lv_iload_n hx hb dJ4_bitCount_10 rfl (lv_at hl 0 rfl) ?_
  refine lv_ldcw (v := 858993459) hx hb hown (hts _ q728) dJ4_bitCount_11 ?_
  refine lv_iand hx hb dJ4_bitCount_14 ?_
  refine lv_iload_n hx hb dJ4_bitCount_15 rfl (lv_at hl 0 rfl) ?_
  refine lv_iconst (v := 2) hx hb dJ4_bitCount_16 (by decide) ?_
  refine lv_iushr (v := (((a0 - ((((a0 : Int32).toUInt32 >>> ((1 : Int32).toUInt32 &&& Int32.toUInt32 31)).toInt32) &&& 1431655765)) : Int32).toUInt32 >>> ((2 : Int32).toUInt32 &&& Int32.toUInt32 31)).toInt32) hx hb dJ4_bitCount_17 rfl ?_
  refine lv_ldcw (v := 858993459) hx hb hown (hts _ q728) dJ4_bitCount_18 ?_
  refine lv_iand hx hb dJ4_bitCount_21 ?_
  refine lv_iadd hx hb dJ4_bitCount_22 ?_
  refine lv_istore_n (lv' := [(0, .int (((a0 - ((((a0 : Int32).toUInt32 >>> ((1 : Int32).toUInt32 &&& Int32.toUInt32 31)).toInt32) &&& 1431655765)) &&& 858993459) + (((((a0 - ((((a0 : Int32).toUInt32 >>> ((1 : Int32).toUInt32 &&& Int32.toUInt32 31)).toInt32) &&& 1431655765)) : Int32).toUInt32 >>> ((2 : Int32).toUInt32 &&& Int32.toUInt32 31)).toInt32) &&& 858993459)))]) hx hb dJ4_bitCount_23 rfl hl (by decide) rfl (fun ls hl => ?_)
  refine lv_iload_n hx hb dJ4_bitCount_24 rfl (lv_at hl 0 rfl) ?_
  refine lv_iload_n hx hb dJ4_bitCount_25 rfl (lv_at hl 0 rfl) ?_
  refine lv_iconst (v := 4) hx hb dJ4_bitCount_26 (by decide) ?_
  refine lv_iushr (v := (((((a0 - ((((a0 : Int32).toUInt32 >>> ((1 : Int32).toUInt32 &&& Int32.toUInt32 31)).toInt32) &&& 1431655765)) &&& 858993459) + (((((a0 - ((((a0 : Int32).toUInt32 >>> ((1 : Int32).toUInt32 &&& Int32.toUInt32 31)).toInt32) &&& 1431655765)) : Int32).toUInt32 >>> ((2 : Int32).toUInt32 &&& Int32.toUInt32 31)).toInt32) &&& 858993459)) : Int32).toUInt32 >>> ((4 : Int32).toUInt32 &&& Int32.toUInt32 31)).toInt32) hx hb dJ4_bitCount_27 rfl ?_
  refine lv_iadd hx hb dJ4_bitCount_28 ?_
  refine lv_ldcw (v := 252645135) hx hb hown (hts _ q729) dJ4_bitCount_29 ?_
  refine lv_iand hx hb dJ4_bitCount_32 ?_
  refine lv_istore_n (lv' := [(0, .int (((((a0 - ((((a0 : Int32).toUInt32 >>> ((1 : Int32).toUInt32 &&& Int32.toUInt32 31)).toInt32) &&& 1431655765)) &&& 858993459) + (((((a0 - ((((a0 : Int32).toUInt32 >>> ((1 : Int32).toUInt32 &&& Int32.toUInt32 31)).toInt32) &&& 1431655765)) : Int32).toUInt32 >>> ((2 : Int32).toUInt32 &&& Int32.toUInt32 31)).toInt32) &&& 858993459)) + ((((((a0 - ((((a0 : Int32).toUInt32 >>> ((1 : Int32).toUInt32 &&& Int32.toUInt32 31)).toInt32) &&& 1431655765)) &&& 858993459) + (((((a0 - ((((a0 : Int32).toUInt32 >>> ((1 : Int32).toUInt32 &&& Int32.toUInt32 31)).toInt32) &&& 1431655765)) : Int32).toUInt32 >>> ((2 : Int32).toUInt32 &&& Int32.toUInt32 31)).toInt32) &&& 858993459)) : Int32).toUInt32 >>> ((4 : Int32).toUInt32 &&& Int32.toUInt32 31)).toInt32)) &&& 252645135))]) hx hb dJ4_bitCount_33 rfl hl (by decide) rfl (fun ls hl => ?_)
  refine lv_iload_n hx hb dJ4_bitCount_34 rfl (lv_at hl 0 rfl) ?_
  refine lv_iload_n hx hb dJ4_bitCount_35 rfl (lv_at hl 0 rfl) ?_
  refine lv_bipush (v := 8) hx hb dJ4_bitCount_36 (by decide) ?_
  refine lv_iushr (v := (((((((a0 - ((((a0 : Int32).toUInt32 >>> ((1 : Int32).toUInt32 &&& Int32.toUInt32 31)).toInt32) &&& 1431655765)) &&& 858993459) + (((((a0 - ((((a0 : Int32).toUInt32 >>> ((1 : Int32).toUInt32 &&& Int32.toUInt32 31)).toInt32) &&& 1431655765)) : Int32).toUInt32 >>> ((2 : Int32).toUInt32 &&& Int32.toUInt32 31)).toInt32) &&& 858993459)) + ((((((a0 - ((((a0 : Int32).toUInt32 >>> ((1 : Int32).toUInt32 &&& Int32.toUInt32 31)).toInt32) &&& 1431655765)) &&& 858993459) + (((((a0 - ((((a0 : Int32).toUInt32 >>> ((1 : Int32).toUInt32 &&& Int32.toUInt32 31)).toInt32) &&& 1431655765)) : Int32).toUInt32 >>> ((2 : Int32).toUInt32 &&& Int32.toUInt32 31)).toInt32) &&& 858993459)) : Int32).toUInt32 >>> ((4 : Int32).toUInt32 &&& Int32.toUInt32 31)).toInt32)) &&& 252645135) : Int32).toUInt32 >>> ((8 : Int32).toUInt32 &&& Int32.toUInt32 31)).toInt32) hx hb dJ4_bitCount_38 rfl ?_
  refine lv_iadd hx hb dJ4_bitCount_39 ?_
  refine lv_istore_n (lv' := [(0, .int ((((((a0 - ((((a0 : Int32).toUInt32 >>> ((1 : Int32).toUInt32 &&& Int32.toUInt32 31)).toInt32) &&& 1431655765)) &&& 858993459) + (((((a0 - ((((a0 : Int32).toUInt32 >>> ((1 : Int32).toUInt32 &&& Int32.toUInt32 31)).toInt32) &&& 1431655765)) : Int32).toUInt32 >>> ((2 : Int32).toUInt32 &&& Int32.toUInt32 31)).toInt32) &&& 858993459)) + ((((((a0 - ((((a0 : Int32).toUInt32 >>> ((1 : Int32).toUInt32 &&& Int32.toUInt32 31)).toInt32) &&& 1431655765)) &&& 858993459) + (((((a0 - ((((a0 : Int32).toUInt32 >>> ((1 : Int32).toUInt32 &&& Int32.toUInt32 31)).toInt32) &&& 1431655765)) : Int32).toUInt32 >>> ((2 : Int32).toUInt32 &&& Int32.toUInt32 31)).toInt32) &&& 858993459)) : Int32).toUInt32 >>> ((4 : Int32).toUInt32 &&& Int32.toUInt32 31)).toInt32)) &&& 252645135) + ((((((((a0 - ((((a0 : Int32).toUInt32 >>> ((1 : Int32).toUInt32 &&& Int32.toUInt32 31)).toInt32) &&& 1431655765)) &&& 858993459) + (((((a0 - ((((a0 : Int32).toUInt32 >>> ((1 : Int32).toUInt32 &&& Int32.toUInt32 31)).toInt32) &&& 1431655765)) : Int32).toUInt32 >>> ((2 : Int32).toUInt32 &&& Int32.toUInt32 31)).toInt32) &&& 858993459)) + ((((((a0 - ((((a0 : Int32).toUInt32 >>> ((1 : Int32).toUInt32 &&& Int32.toUInt32 31)).toInt32) &&& 1431655765)) &&& 858993459) + (((((a0 - ((((a0 : Int32).toUInt32 >>> ((1 : Int32).toUInt32 &&& Int32.toUInt32 31)).toInt32) &&& 1431655765)) : Int32).toUInt32 >>> ((2 : Int32).toUInt32 &&& Int32.toUInt32 31)).toInt32) &&& 858993459)) : Int32).toUInt32 >>> ((4 : Int32).toUInt32 &&& Int32.toUInt32 31)).toInt32)) &&& 252645135) : Int32).toUInt32 >>> ((8 : Int32).toUInt32 &&& Int32.toUInt32 31)).toInt32)))]) hx hb dJ4_bitCount_40 rfl hl (by decide) rfl (fun ls hl => ?_)
  refine lv_iload_n hx hb dJ4_bitCount_41 rfl (lv_at hl 0 rfl) ?_
  refine lv_iload_n hx hb dJ4_bitCount_42 rfl (lv_at hl 0 rfl) ?_
  refine lv_bipush (v := 16) hx hb dJ4_bitCount_43 (by decide) ?_
  refine lv_iushr (v := ((((((((a0 - ((((a0 : Int32).toUInt32 >>> ((1 : Int32).toUInt32 &&& Int32.toUInt32 31)).toInt32) &&& 1431655765)) &&& 858993459) + (((((a0 - ((((a0 : Int32).toUInt32 >>> ((1 : Int32).toUInt32 &&& Int32.toUInt32 31)).toInt32) &&& 1431655765)) : Int32).toUInt32 >>> ((2 : Int32).toUInt32 &&& Int32.toUInt32 31)).toInt32) &&& 858993459)) + ((((((a0 - ((((a0 : Int32).toUInt32 >>> ((1 : Int32).toUInt32 &&& Int32.toUInt32 31)).toInt32) &&& 1431655765)) &&& 858993459) + (((((a0 - ((((a0 : Int32).toUInt32 >>> ((1 : Int32).toUInt32 &&& Int32.toUInt32 31)).toInt32) &&& 1431655765)) : Int32).toUInt32 >>> ((2 : Int32).toUInt32 &&& Int32.toUInt32 31)).toInt32) &&& 858993459)) : Int32).toUInt32 >>> ((4 : Int32).toUInt32 &&& Int32.toUInt32 31)).toInt32)) &&& 252645135) + ((((((((a0 - ((((a0 : Int32).toUInt32 >>> ((1 : Int32).toUInt32 &&& Int32.toUInt32 31)).toInt32) &&& 1431655765)) &&& 858993459) + (((((a0 - ((((a0 : Int32).toUInt32 >>> ((1 : Int32).toUInt32 &&& Int32.toUInt32 31)).toInt32) &&& 1431655765)) : Int32).toUInt32 >>> ((2 : Int32).toUInt32 &&& Int32.toUInt32 31)).toInt32) &&& 858993459)) + ((((((a0 - ((((a0 : Int32).toUInt32 >>> ((1 : Int32).toUInt32 &&& Int32.toUInt32 31)).toInt32) &&& 1431655765)) &&& 858993459) + (((((a0 - ((((a0 : Int32).toUInt32 >>> ((1 : Int32).toUInt32 &&& Int32.toUInt32 31)).toInt32) &&& 1431655765)) : Int32).toUInt32 >>> ((2 : Int32).toUInt32 &&& Int32.toUInt32 31)).toInt32) &&& 858993459)) : Int32).toUInt32 >>> ((4 : Int32).toUInt32 &&& Int32.toUInt32 31)).toInt32)) &&& 252645135) : Int32).toUInt32 >>> ((8 : Int32).toUInt32 &&& Int32.toUInt32 31)).toInt32)) : Int32).toUInt32 >>> ((16 : Int32).toUInt32 &&& Int32.toUInt32 31)).toInt32) hx hb dJ4_bitCount_45 rfl ?_
  refine lv_iadd hx hb dJ4_bitCount_46 ?_
  refine lv_istore_n (lv' := [(0, .int (((((((a0 - ((((a0 : Int32).toUInt32 >>> ((1 : Int32).toUInt32 &&& Int32.toUInt32 31)).toInt32) &&& 1431655765)) &&& 858993459) + (((((a0 - ((((a0 : Int32).toUInt32 >>> ((1 : Int32).toUInt32 &&& Int32.toUInt32 31)).toInt32) &&& 1431655765)) : Int32).toUInt32 >>> ((2 : Int32).toUInt32 &&& Int32.toUInt32 31)).toInt32) &&& 858993459)) + ((((((a0 - ((((a0 : Int32).toUInt32 >>> ((1 : Int32).toUInt32 &&& Int32.toUInt32 31)).toInt32) &&& 1431655765)) &&& 858993459) + (((((a0 - ((((a0 : Int32).toUInt32 >>> ((1 : Int32).toUInt32 &&& Int32.toUInt32 31)).toInt32) &&& 1431655765)) : Int32).toUInt32 >>> ((2 : Int32).toUInt32 &&& Int32.toUInt32 31)).toInt32) &&& 858993459)) : Int32).toUInt32 >>> ((4 : Int32).toUInt32 &&& Int32.toUInt32 31)).toInt32)) &&& 252645135) + ((((((((a0 - ((((a0 : Int32).toUInt32 >>> ((1 : Int32).toUInt32 &&& Int32.toUInt32 31)).toInt32) &&& 1431655765)) &&& 858993459) + (((((a0 - ((((a0 : Int32).toUInt32 >>> ((1 : Int32).toUInt32 &&& Int32.toUInt32 31)).toInt32) &&& 1431655765)) : Int32).toUInt32 >>> ((2 : Int32).toUInt32 &&& Int32.toUInt32 31)).toInt32) &&& 858993459)) + ((((((a0 - ((((a0 : Int32).toUInt32 >>> ((1 : Int32).toUInt32 &&& Int32.toUInt32 31)).toInt32) &&& 1431655765)) &&& 858993459) + (((((a0 - ((((a0 : Int32).toUInt32 >>> ((1 : Int32).toUInt32 &&& Int32.toUInt32 31)).toInt32) &&& 1431655765)) : Int32).toUInt32 >>> ((2 : Int32).toUInt32 &&& Int32.toUInt32 31)).toInt32) &&& 858993459)) : Int32).toUInt32 >>> ((4 : Int32).toUInt32 &&& Int32.toUInt32 31)).toInt32)) &&& 252645135) : Int32).toUInt32 >>> ((8 : Int32).toUInt32 &&& Int32.toUInt32 31)).toInt32)) + (((((((((a0 - ((((a0 : Int32).toUInt32 >>> ((1 : Int32).toUInt32 &&& Int32.toUInt32 31)).toInt32) &&& 1431655765)) &&& 858993459) + (((((a0 - ((((a0 : Int32).toUInt32 >>> ((1 : Int32).toUInt32 &&& Int32.toUInt32 31)).toInt32) &&& 1431655765)) : Int32).toUInt32 >>> ((2 : Int32).toUInt32 &&& Int32.toUInt32 31)).toInt32) &&& 858993459)) + ((((((a0 - ((((a0 : Int32).toUInt32 >>> ((1 : Int32).toUInt32 &&& Int32.toUInt32 31)).toInt32) &&& 1431655765)) &&& 858993459) + (((((a0 - ((((a0 : Int32).toUInt32 >>> ((1 : Int32).toUInt32 &&& Int32.toUInt32 31)).toInt32) &&& 1431655765)) : Int32).toUInt32 >>> ((2 : Int32).toUInt32 &&& Int32.toUInt32 31)).toInt32) &&& 858993459)) : Int32).toUInt32 >>> ((4 : Int32).toUInt32 &&& Int32.toUInt32 31)).toInt32)) &&& 252645135) + ((((((((a0 - ((((a0 : Int32).toUInt32 >>> ((1 : Int32).toUInt32 &&& Int32.toUInt32 31)).toInt32) &&& 1431655765)) &&& 858993459) + (((((a0 - ((((a0 : Int32).toUInt32 >>> ((1 : Int32).toUInt32 &&& Int32.toUInt32 31)).toInt32) &&& 1431655765)) : Int32).toUInt32 >>> ((2 : Int32).toUInt32 &&& Int32.toUInt32 31)).toInt32) &&& 858993459)) + ((((((a0 - ((((a0 : Int32).toUInt32 >>> ((1 : Int32).toUInt32 &&& Int32.toUInt32 31)).toInt32) &&& 1431655765)) &&& 858993459) + (((((a0 - ((((a0 : Int32).toUInt32 >>> ((1 : Int32).toUInt32 &&& Int32.toUInt32 31)).toInt32) &&& 1431655765)) : Int32).toUInt32 >>> ((2 : Int32).toUInt32 &&& Int32.toUInt32 31)).toInt32) &&& 858993459)) : Int32).toUInt32 >>> ((4 : Int32).toUInt32 &&& Int32.toUInt32 31)).toInt32)) &&& 252645135) : Int32).toUInt32 >>> ((8 : Int32).toUInt32 &&& Int32.toUInt32 31)).toInt32)) : Int32).toUInt32 >>> ((16 : Int32).toUInt32 &&& Int32.toUInt32 31)).toInt32)))]) hx hb dJ4_bitCount_47 rfl hl (by decide) rfl (fun ls hl => ?_)
  refine lv_iload_n hx hb dJ4_bitCount_48 rfl (lv_at hl 0 rfl) ?_
  refine lv_bipush (v := 63) hx hb dJ4_bitCount_49 (by decide) ?_
  refine lv_iand hx hb dJ4_bitCount_51 ?_
  subst h
  exact x_iret F hr hlk hW hS dJ4_bitCount_52
/-! java/lang/Integer.numberOfTrailingZeros(I)I -/
def fJ4_numberOfTrailingZeros (a0 : Int32) : Int32 :=
  if 0 < ((a0 ^^^ (-1)) &&& (a0 - 1)) then (if ((a0 ^^^ (-1)) &&& (a0 - 1)) ≤ 65536 then (if ((a0 ^^^ (-1)) &&& (a0 - 1)) ≤ 256 then (if ((a0 ^^^ (-1)) &&& (a0 - 1)) ≤ 16 then (if ((a0 ^^^ (-1)) &&& (a0 - 1)) ≤ 4 then (1 + (((((a0 ^^^ (-1)) &&& (a0 - 1)) : Int32).toUInt32 >>> ((1 : Int32).toUInt32 &&& Int32.toUInt32 31)).toInt32)) else ((1 + 2) + ((((((((a0 ^^^ (-1)) &&& (a0 - 1)) : Int32).toUInt32 >>> ((2 : Int32).toUInt32 &&& Int32.toUInt32 31)).toInt32) : Int32).toUInt32 >>> ((1 : Int32).toUInt32 &&& Int32.toUInt32 31)).toInt32))) else (if (((((a0 ^^^ (-1)) &&& (a0 - 1)) : Int32).toUInt32 >>> ((4 : Int32).toUInt32 &&& Int32.toUInt32 31)).toInt32) ≤ 4 then ((1 + 4) + ((((((((a0 ^^^ (-1)) &&& (a0 - 1)) : Int32).toUInt32 >>> ((4 : Int32).toUInt32 &&& Int32.toUInt32 31)).toInt32) : Int32).toUInt32 >>> ((1 : Int32).toUInt32 &&& Int32.toUInt32 31)).toInt32)) else (((1 + 4) + 2) + (((((((((((a0 ^^^ (-1)) &&& (a0 - 1)) : Int32).toUInt32 >>> ((4 : Int32).toUInt32 &&& Int32.toUInt32 31)).toInt32) : Int32).toUInt32 >>> ((2 : Int32).toUInt32 &&& Int32.toUInt32 31)).toInt32) : Int32).toUInt32 >>> ((1 : Int32).toUInt32 &&& Int32.toUInt32 31)).toInt32)))) else (if (((((a0 ^^^ (-1)) &&& (a0 - 1)) : Int32).toUInt32 >>> ((8 : Int32).toUInt32 &&& Int32.toUInt32 31)).toInt32) ≤ 16 then (if (((((a0 ^^^ (-1)) &&& (a0 - 1)) : Int32).toUInt32 >>> ((8 : Int32).toUInt32 &&& Int32.toUInt32 31)).toInt32) ≤ 4 then ((1 + 8) + ((((((((a0 ^^^ (-1)) &&& (a0 - 1)) : Int32).toUInt32 >>> ((8 : Int32).toUInt32 &&& Int32.toUInt32 31)).toInt32) : Int32).toUInt32 >>> ((1 : Int32).toUInt32 &&& Int32.toUInt32 31)).toInt32)) else (((1 + 8) + 2) + (((((((((((a0 ^^^ (-1)) &&& (a0 - 1)) : Int32).toUInt32 >>> ((8 : Int32).toUInt32 &&& Int32.toUInt32 31)).toInt32) : Int32).toUInt32 >>> ((2 : Int32).toUInt32 &&& Int32.toUInt32 31)).toInt32) : Int32).toUInt32 >>> ((1 : Int32).toUInt32 &&& Int32.toUInt32 31)).toInt32))) else (if ((((((((a0 ^^^ (-1)) &&& (a0 - 1)) : Int32).toUInt32 >>> ((8 : Int32).toUInt32 &&& Int32.toUInt32 31)).toInt32) : Int32).toUInt32 >>> ((4 : Int32).toUInt32 &&& Int32.toUInt32 31)).toInt32) ≤ 4 then (((1 + 8) + 4) + (((((((((((a0 ^^^ (-1)) &&& (a0 - 1)) : Int32).toUInt32 >>> ((8 : Int32).toUInt32 &&& Int32.toUInt32 31)).toInt32) : Int32).toUInt32 >>> ((4 : Int32).toUInt32 &&& Int32.toUInt32 31)).toInt32) : Int32).toUInt32 >>> ((1 : Int32).toUInt32 &&& Int32.toUInt32 31)).toInt32)) else ((((1 + 8) + 4) + 2) + ((((((((((((((a0 ^^^ (-1)) &&& (a0 - 1)) : Int32).toUInt32 >>> ((8 : Int32).toUInt32 &&& Int32.toUInt32 31)).toInt32) : Int32).toUInt32 >>> ((4 : Int32).toUInt32 &&& Int32.toUInt32 31)).toInt32) : Int32).toUInt32 >>> ((2 : Int32).toUInt32 &&& Int32.toUInt32 31)).toInt32) : Int32).toUInt32 >>> ((1 : Int32).toUInt32 &&& Int32.toUInt32 31)).toInt32))))) else (if (((((a0 ^^^ (-1)) &&& (a0 - 1)) : Int32).toUInt32 >>> ((16 : Int32).toUInt32 &&& Int32.toUInt32 31)).toInt32) ≤ 256 then (if (((((a0 ^^^ (-1)) &&& (a0 - 1)) : Int32).toUInt32 >>> ((16 : Int32).toUInt32 &&& Int32.toUInt32 31)).toInt32) ≤ 16 then (if (((((a0 ^^^ (-1)) &&& (a0 - 1)) : Int32).toUInt32 >>> ((16 : Int32).toUInt32 &&& Int32.toUInt32 31)).toInt32) ≤ 4 then ((1 + 16) + ((((((((a0 ^^^ (-1)) &&& (a0 - 1)) : Int32).toUInt32 >>> ((16 : Int32).toUInt32 &&& Int32.toUInt32 31)).toInt32) : Int32).toUInt32 >>> ((1 : Int32).toUInt32 &&& Int32.toUInt32 31)).toInt32)) else (((1 + 16) + 2) + (((((((((((a0 ^^^ (-1)) &&& (a0 - 1)) : Int32).toUInt32 >>> ((16 : Int32).toUInt32 &&& Int32.toUInt32 31)).toInt32) : Int32).toUInt32 >>> ((2 : Int32).toUInt32 &&& Int32.toUInt32 31)).toInt32) : Int32).toUInt32 >>> ((1 : Int32).toUInt32 &&& Int32.toUInt32 31)).toInt32))) else (if ((((((((a0 ^^^ (-1)) &&& (a0 - 1)) : Int32).toUInt32 >>> ((16 : Int32).toUInt32 &&& Int32.toUInt32 31)).toInt32) : Int32).toUInt32 >>> ((4 : Int32).toUInt32 &&& Int32.toUInt32 31)).toInt32) ≤ 4 then (((1 + 16) + 4) + (((((((((((a0 ^^^ (-1)) &&& (a0 - 1)) : Int32).toUInt32 >>> ((16 : Int32).toUInt32 &&& Int32.toUInt32 31)).toInt32) : Int32).toUInt32 >>> ((4 : Int32).toUInt32 &&& Int32.toUInt32 31)).toInt32) : Int32).toUInt32 >>> ((1 : Int32).toUInt32 &&& Int32.toUInt32 31)).toInt32)) else ((((1 + 16) + 4) + 2) + ((((((((((((((a0 ^^^ (-1)) &&& (a0 - 1)) : Int32).toUInt32 >>> ((16 : Int32).toUInt32 &&& Int32.toUInt32 31)).toInt32) : Int32).toUInt32 >>> ((4 : Int32).toUInt32 &&& Int32.toUInt32 31)).toInt32) : Int32).toUInt32 >>> ((2 : Int32).toUInt32 &&& Int32.toUInt32 31)).toInt32) : Int32).toUInt32 >>> ((1 : Int32).toUInt32 &&& Int32.toUInt32 31)).toInt32)))) else (if ((((((((a0 ^^^ (-1)) &&& (a0 - 1)) : Int32).toUInt32 >>> ((16 : Int32).toUInt32 &&& Int32.toUInt32 31)).toInt32) : Int32).toUInt32 >>> ((8 : Int32).toUInt32 &&& Int32.toUInt32 31)).toInt32) ≤ 16 then (if ((((((((a0 ^^^ (-1)) &&& (a0 - 1)) : Int32).toUInt32 >>> ((16 : Int32).toUInt32 &&& Int32.toUInt32 31)).toInt32) : Int32).toUInt32 >>> ((8 : Int32).toUInt32 &&& Int32.toUInt32 31)).toInt32) ≤ 4 then (((1 + 16) + 8) + (((((((((((a0 ^^^ (-1)) &&& (a0 - 1)) : Int32).toUInt32 >>> ((16 : Int32).toUInt32 &&& Int32.toUInt32 31)).toInt32) : Int32).toUInt32 >>> ((8 : Int32).toUInt32 &&& Int32.toUInt32 31)).toInt32) : Int32).toUInt32 >>> ((1 : Int32).toUInt32 &&& Int32.toUInt32 31)).toInt32)) else ((((1 + 16) + 8) + 2) + ((((((((((((((a0 ^^^ (-1)) &&& (a0 - 1)) : Int32).toUInt32 >>> ((16 : Int32).toUInt32 &&& Int32.toUInt32 31)).toInt32) : Int32).toUInt32 >>> ((8 : Int32).toUInt32 &&& Int32.toUInt32 31)).toInt32) : Int32).toUInt32 >>> ((2 : Int32).toUInt32 &&& Int32.toUInt32 31)).toInt32) : Int32).toUInt32 >>> ((1 : Int32).toUInt32 &&& Int32.toUInt32 31)).toInt32))) else (if (((((((((((a0 ^^^ (-1)) &&& (a0 - 1)) : Int32).toUInt32 >>> ((16 : Int32).toUInt32 &&& Int32.toUInt32 31)).toInt32) : Int32).toUInt32 >>> ((8 : Int32).toUInt32 &&& Int32.toUInt32 31)).toInt32) : Int32).toUInt32 >>> ((4 : Int32).toUInt32 &&& Int32.toUInt32 31)).toInt32) ≤ 4 then ((((1 + 16) + 8) + 4) + ((((((((((((((a0 ^^^ (-1)) &&& (a0 - 1)) : Int32).toUInt32 >>> ((16 : Int32).toUInt32 &&& Int32.toUInt32 31)).toInt32) : Int32).toUInt32 >>> ((8 : Int32).toUInt32 &&& Int32.toUInt32 31)).toInt32) : Int32).toUInt32 >>> ((4 : Int32).toUInt32 &&& Int32.toUInt32 31)).toInt32) : Int32).toUInt32 >>> ((1 : Int32).toUInt32 &&& Int32.toUInt32 31)).toInt32)) else (((((1 + 16) + 8) + 4) + 2) + (((((((((((((((((a0 ^^^ (-1)) &&& (a0 - 1)) : Int32).toUInt32 >>> ((16 : Int32).toUInt32 &&& Int32.toUInt32 31)).toInt32) : Int32).toUInt32 >>> ((8 : Int32).toUInt32 &&& Int32.toUInt32 31)).toInt32) : Int32).toUInt32 >>> ((4 : Int32).toUInt32 &&& Int32.toUInt32 31)).toInt32) : Int32).toUInt32 >>> ((2 : Int32).toUInt32 &&& Int32.toUInt32 31)).toInt32) : Int32).toUInt32 >>> ((1 : Int32).toUInt32 &&& Int32.toUInt32 31)).toInt32)))))) else (((a0 ^^^ (-1)) &&& (a0 - 1)) &&& 32)
set_option maxHeartbeats 4000000 in
theorem mJ4_numberOfTrailingZeros (l : Launch) (E : xE) (σ : xM) (a0 : Int32) : Met l yJ4_numberOfTrailingZeros (ws_ yJ4_numberOfTrailingZeros cJ4_numberOfTrailingZeros 2 (some .int)) ({ frames := 0, cells := 0, slots := 0, locals := 0 } : Room) (xPc E σ [.int a0]) (xQc E (.returned (some (.int (fJ4_numberOfTrailingZeros a0)))) σ) 0 0 (xA E) := by
  refine x_ofF (C := RJ4) (n := "numberOfTrailingZeros") (d := "(I)I") (r := (some .int)) (by decide +kernel) rfl (by first | decide | exact Nat.le_of_ble_eq_true rfl) ?_
  intro p e s m below meth c ls F hr hlk hW hS hl
  have hl : lv_has ls 2 [(0, .int a0)] := hl
  obtain ⟨hx, hb, hml, hown, hts⟩ := id F.1
  have hK := F.2.1.1
  obtain ⟨r, h⟩ : ∃ r, fJ4_numberOfTrailingZeros a0 = r := ⟨_, rfl⟩
  rw [h]
  unfold fJ4_numberOfTrailingZeros at h
  refine lv_iload_n hx hb dJ4_numberOfTrailingZeros_0 rfl (lv_at hl 0 rfl) ?_
  refine lv_iconst (v := (-1)) hx hb dJ4_numberOfTrailingZeros_1 (by decide) ?_
  refine lv_ixor hx hb dJ4_numberOfTrailingZeros_2 ?_
  refine lv_iload_n hx hb dJ4_numberOfTrailingZeros_3 rfl (lv_at hl 0 rfl) ?_
  refine lv_iconst (v := 1) hx hb dJ4_numberOfTrailingZeros_4 (by decide) ?_
  refine lv_isub hx hb dJ4_numberOfTrailingZeros_5 ?_
  refine lv_iand hx hb dJ4_numberOfTrailingZeros_6 ?_
  refine lv_istore_n (lv' := [(0, .int ((a0 ^^^ (-1)) &&& (a0 - 1)))]) hx hb dJ4_numberOfTrailingZeros_7 rfl hl (by decide) rfl (fun ls hl => ?_)
  refine lv_iload_n hx hb dJ4_numberOfTrailingZeros_8 rfl (lv_at hl 0 rfl) ?_
  refine lv_if_gt (tgt := 17) hx hb dJ4_numberOfTrailingZeros_9 (by decide) (fun c1 => ?_) (fun c1 => ?_)
  · rw [if_pos c1] at h
    refine lv_iconst (v := 1) hx hb dJ4_numberOfTrailingZeros_17 (by decide) ?_
    refine lv_istore_n (lv' := [(1, .int 1), (0, .int ((a0 ^^^ (-1)) &&& (a0 - 1)))]) hx hb dJ4_numberOfTrailingZeros_18 rfl hl (by decide) rfl (fun ls hl => ?_)
    refine lv_iload_n hx hb dJ4_numberOfTrailingZeros_19 rfl (lv_at hl 1 rfl) ?_
    refine lv_ldcw (v := 65536) hx hb hown (hts _ q941) dJ4_numberOfTrailingZeros_20 ?_
    refine lv_icmp_le (tgt := 34) hx hb dJ4_numberOfTrailingZeros_23 (by decide) (fun c2 => ?_) (fun c2 => ?_)
    · rw [if_pos c2] at h
      refine lv_iload_n hx hb dJ4_numberOfTrailingZeros_34 rfl (lv_at hl 1 rfl) ?_
      refine lv_sipush (v := 256) hx hb dJ4_numberOfTrailingZeros_35 (by decide) ?_
      refine lv_icmp_le (tgt := 49) hx hb dJ4_numberOfTrailingZeros_38 (by decide) (fun c3 => ?_) (fun c3 => ?_)
      · rw [if_pos c3] at h
        refine lv_iload_n hx hb dJ4_numberOfTrailingZeros_49 rfl (lv_at hl 1 rfl) ?_
        refine lv_bipush (v := 16) hx hb dJ4_numberOfTrailingZeros_50 (by decide) ?_
        refine lv_icmp_le (tgt := 62) hx hb dJ4_numberOfTrailingZeros_52 (by decide) (fun c4 => ?_) (fun c4 => ?_)
        · rw [if_pos c4] at h
          refine lv_iload_n hx hb dJ4_numberOfTrailingZeros_62 rfl (lv_at hl 1 rfl) ?_
          refine lv_iconst (v := 4) hx hb dJ4_numberOfTrailingZeros_63 (by decide) ?_
          refine lv_icmp_le (tgt := 74) hx hb dJ4_numberOfTrailingZeros_64 (by decide) (fun c5 => ?_) (fun c5 => ?_)
          · rw [if_pos c5] at h
            refine lv_iload_n hx hb dJ4_numberOfTrailingZeros_74 rfl (lv_at hl 0 rfl) ?_
            refine lv_iload_n hx hb dJ4_numberOfTrailingZeros_75 rfl (lv_at hl 1 rfl) ?_
            refine lv_iconst (v := 1) hx hb dJ4_numberOfTrailingZeros_76 (by decide) ?_
            refine lv_iushr (v := ((((a0 ^^^ (-1)) &&& (a0 - 1)) : Int32).toUInt32 >>> ((1 : Int32).toUInt32 &&& Int32.toUInt32 31)).toInt32) hx hb dJ4_numberOfTrailingZeros_77 rfl ?_
            refine lv_iadd hx hb dJ4_numberOfTrailingZeros_78 ?_
            subst h
            exact x_iret F hr hlk hW hS dJ4_numberOfTrailingZeros_79
          · rw [if_neg c5] at h
            refine lv_iinc (k := 0) (v := (1 + 2)) (lv' := [(1, .int (1 + 2)), (0, .int ((a0 ^^^ (-1)) &&& (a0 - 1)))]) hx hb dJ4_numberOfTrailingZeros_67 hl rfl rfl (by decide) rfl (fun ls hl => ?_)
            refine lv_iload_n hx hb dJ4_numberOfTrailingZeros_70 rfl (lv_at hl 1 rfl) ?_
            refine lv_iconst (v := 2) hx hb dJ4_numberOfTrailingZeros_71 (by decide) ?_
            refine lv_iushr (v := ((((a0 ^^^ (-1)) &&& (a0 - 1)) : Int32).toUInt32 >>> ((2 : Int32).toUInt32 &&& Int32.toUInt32 31)).toInt32) hx hb dJ4_numberOfTrailingZeros_72 rfl ?_
            refine lv_istore_n (lv' := [(0, .int (((((a0 ^^^ (-1)) &&& (a0 - 1)) : Int32).toUInt32 >>> ((2 : Int32).toUInt32 &&& Int32.toUInt32 31)).toInt32)), (1, .int (1 + 2))]) hx hb dJ4_numberOfTrailingZeros_73 rfl hl (by decide) rfl (fun ls hl => ?_)
            refine lv_iload_n hx hb dJ4_numberOfTrailingZeros_74 rfl (lv_at hl 1 rfl) ?_
            refine lv_iload_n hx hb dJ4_numberOfTrailingZeros_75 rfl (lv_at hl 0 rfl) ?_
            refine lv_iconst (v := 1) hx hb dJ4_numberOfTrailingZeros_76 (by decide) ?_
            refine lv_iushr (v := (((((((a0 ^^^ (-1)) &&& (a0 - 1)) : Int32).toUInt32 >>> ((2 : Int32).toUInt32 &&& Int32.toUInt32 31)).toInt32) : Int32).toUInt32 >>> ((1 : Int32).toUInt32 &&& Int32.toUInt32 31)).toInt32) hx hb dJ4_numberOfTrailingZeros_77 rfl ?_
            refine lv_iadd hx hb dJ4_numberOfTrailingZeros_78 ?_
            subst h
            exact x_iret F hr hlk hW hS dJ4_numberOfTrailingZeros_79
        · rw [if_neg c4] at h
          refine lv_iinc (k := 0) (v := (1 + 4)) (lv' := [(1, .int (1 + 4)), (0, .int ((a0 ^^^ (-1)) &&& (a0 - 1)))]) hx hb dJ4_numberOfTrailingZeros_55 hl rfl rfl (by decide) rfl (fun ls hl => ?_)
          refine lv_iload_n hx hb dJ4_numberOfTrailingZeros_58 rfl (lv_at hl 1 rfl) ?_
          refine lv_iconst (v := 4) hx hb dJ4_numberOfTrailingZeros_59 (by decide) ?_
          refine lv_iushr (v := ((((a0 ^^^ (-1)) &&& (a0 - 1)) : Int32).toUInt32 >>> ((4 : Int32).toUInt32 &&& Int32.toUInt32 31)).toInt32) hx hb dJ4_numberOfTrailingZeros_60 rfl ?_
          refine lv_istore_n (lv' := [(0, .int (((((a0 ^^^ (-1)) &&& (a0 - 1)) : Int32).toUInt32 >>> ((4 : Int32).toUInt32 &&& Int32.toUInt32 31)).toInt32)), (1, .int (1 + 4))]) hx hb dJ4_numberOfTrailingZeros_61 rfl hl (by decide) rfl (fun ls hl => ?_)
          refine lv_iload_n hx hb dJ4_numberOfTrailingZeros_62 rfl (lv_at hl 0 rfl) ?_
          refine lv_iconst (v := 4) hx hb dJ4_numberOfTrailingZeros_63 (by decide) ?_
          refine lv_icmp_le (tgt := 74) hx hb dJ4_numberOfTrailingZeros_64 (by decide) (fun c6 => ?_) (fun c6 => ?_)
          · rw [if_pos c6] at h
            refine lv_iload_n hx hb dJ4_numberOfTrailingZeros_74 rfl (lv_at hl 1 rfl) ?_
            refine lv_iload_n hx hb dJ4_numberOfTrailingZeros_75 rfl (lv_at hl 0 rfl) ?_
            refine lv_iconst (v := 1) hx hb dJ4_numberOfTrailingZeros_76 (by decide) ?_
            refine lv_iushr (v := (((((((a0 ^^^ (-1)) &&& (a0 - 1)) : Int32).toUInt32 >>> ((4 : Int32).toUInt32 &&& Int32.toUInt32 31)).toInt32) : Int32).toUInt32 >>> ((1 : Int32).toUInt32 &&& Int32.toUInt32 31)).toInt32) hx hb dJ4_numberOfTrailingZeros_77 rfl ?_
            refine lv_iadd hx hb dJ4_numberOfTrailingZeros_78 ?_
            subst h
            exact x_iret F hr hlk hW hS dJ4_numberOfTrailingZeros_79
          · rw [if_neg c6] at h
            refine lv_iinc (k := 1) (v := ((1 + 4) + 2)) (lv' := [(1, .int ((1 + 4) + 2)), (0, .int (((((a0 ^^^ (-1)) &&& (a0 - 1)) : Int32).toUInt32 >>> ((4 : Int32).toUInt32 &&& Int32.toUInt32 31)).toInt32))]) hx hb dJ4_numberOfTrailingZeros_67 hl rfl rfl (by decide) rfl (fun ls hl => ?_)
            refine lv_iload_n hx hb dJ4_numberOfTrailingZeros_70 rfl (lv_at hl 1 rfl) ?_
            refine lv_iconst (v := 2) hx hb dJ4_numberOfTrailingZeros_71 (by decide) ?_
            refine lv_iushr (v := (((((((a0 ^^^ (-1)) &&& (a0 - 1)) : Int32).toUInt32 >>> ((4 : Int32).toUInt32 &&& Int32.toUInt32 31)).toInt32) : Int32).toUInt32 >>> ((2 : Int32).toUInt32 &&& Int32.toUInt32 31)).toInt32) hx hb dJ4_numberOfTrailingZeros_72 rfl ?_
            refine lv_istore_n (lv' := [(0, .int ((((((((a0 ^^^ (-1)) &&& (a0 - 1)) : Int32).toUInt32 >>> ((4 : Int32).toUInt32 &&& Int32.toUInt32 31)).toInt32) : Int32).toUInt32 >>> ((2 : Int32).toUInt32 &&& Int32.toUInt32 31)).toInt32)), (1, .int ((1 + 4) + 2))]) hx hb dJ4_numberOfTrailingZeros_73 rfl hl (by decide) rfl (fun ls hl => ?_)
            refine lv_iload_n hx hb dJ4_numberOfTrailingZeros_74 rfl (lv_at hl 1 rfl) ?_
            refine lv_iload_n hx hb dJ4_numberOfTrailingZeros_75 rfl (lv_at hl 0 rfl) ?_
            refine lv_iconst (v := 1) hx hb dJ4_numberOfTrailingZeros_76 (by decide) ?_
            refine lv_iushr (v := ((((((((((a0 ^^^ (-1)) &&& (a0 - 1)) : Int32).toUInt32 >>> ((4 : Int32).toUInt32 &&& Int32.toUInt32 31)).toInt32) : Int32).toUInt32 >>> ((2 : Int32).toUInt32 &&& Int32.toUInt32 31)).toInt32) : Int32).toUInt32 >>> ((1 : Int32).toUInt32 &&& Int32.toUInt32 31)).toInt32) hx hb dJ4_numberOfTrailingZeros_77 rfl ?_
            refine lv_iadd hx hb dJ4_numberOfTrailingZeros_78 ?_
            subst h
            exact x_iret F hr hlk hW hS dJ4_numberOfTrailingZeros_79
      · rw [if_neg c3] at h
        refine lv_iinc (k := 0) (v := (1 + 8)) (lv' := [(1, .int (1 + 8)), (0, .int ((a0 ^^^ (-1)) &&& (a0 - 1)))]) hx hb dJ4_numberOfTrailingZeros_41 hl rfl rfl (by decide) rfl (fun ls hl => ?_)
        refine lv_iload_n hx hb dJ4_numberOfTrailingZeros_44 rfl (lv_at hl 1 rfl) ?_
        refine lv_bipush (v := 8) hx hb dJ4_numberOfTrailingZeros_45 (by decide) ?_
        refine lv_iushr (v := ((((a0 ^^^ (-1)) &&& (a0 - 1)) : Int32).toUInt32 >>> ((8 : Int32).toUInt32 &&& Int32.toUInt32 31)).toInt32) hx hb dJ4_numberOfTrailingZeros_47 rfl ?_
        refine lv_istore_n (lv' := [(0, .int (((((a0 ^^^ (-1)) &&& (a0 - 1)) : Int32).toUInt32 >>> ((8 : Int32).toUInt32 &&& Int32.toUInt32 31)).toInt32)), (1, .int (1 + 8))]) hx hb dJ4_numberOfTrailingZeros_48 rfl hl (by decide) rfl (fun ls hl => ?_)
        refine lv_iload_n hx hb dJ4_numberOfTrailingZeros_49 rfl (lv_at hl 0 rfl) ?_
        refine lv_bipush (v := 16) hx hb dJ4_numberOfTrailingZeros_50 (by decide) ?_
        refine lv_icmp_le (tgt := 62) hx hb dJ4_numberOfTrailingZeros_52 (by decide) (fun c7 => ?_) (fun c7 => ?_)
        · rw [if_pos c7] at h
          refine lv_iload_n hx hb dJ4_numberOfTrailingZeros_62 rfl (lv_at hl 0 rfl) ?_
          refine lv_iconst (v := 4) hx hb dJ4_numberOfTrailingZeros_63 (by decide) ?_
          refine lv_icmp_le (tgt := 74) hx hb dJ4_numberOfTrailingZeros_64 (by decide) (fun c8 => ?_) (fun c8 => ?_)
          · rw [if_pos c8] at h
            refine lv_iload_n hx hb dJ4_numberOfTrailingZeros_74 rfl (lv_at hl 1 rfl) ?_
            refine lv_iload_n hx hb dJ4_numberOfTrailingZeros_75 rfl (lv_at hl 0 rfl) ?_
            refine lv_iconst (v := 1) hx hb dJ4_numberOfTrailingZeros_76 (by decide) ?_
            refine lv_iushr (v := (((((((a0 ^^^ (-1)) &&& (a0 - 1)) : Int32).toUInt32 >>> ((8 : Int32).toUInt32 &&& Int32.toUInt32 31)).toInt32) : Int32).toUInt32 >>> ((1 : Int32).toUInt32 &&& Int32.toUInt32 31)).toInt32) hx hb dJ4_numberOfTrailingZeros_77 rfl ?_
            refine lv_iadd hx hb dJ4_numberOfTrailingZeros_78 ?_
            subst h
            exact x_iret F hr hlk hW hS dJ4_numberOfTrailingZeros_79
          · rw [if_neg c8] at h
            refine lv_iinc (k := 1) (v := ((1 + 8) + 2)) (lv' := [(1, .int ((1 + 8) + 2)), (0, .int (((((a0 ^^^ (-1)) &&& (a0 - 1)) : Int32).toUInt32 >>> ((8 : Int32).toUInt32 &&& Int32.toUInt32 31)).toInt32))]) hx hb dJ4_numberOfTrailingZeros_67 hl rfl rfl (by decide) rfl (fun ls hl => ?_)
            refine lv_iload_n hx hb dJ4_numberOfTrailingZeros_70 rfl (lv_at hl 1 rfl) ?_
            refine lv_iconst (v := 2) hx hb dJ4_numberOfTrailingZeros_71 (by decide) ?_
            refine lv_iushr (v := (((((((a0 ^^^ (-1)) &&& (a0 - 1)) : Int32).toUInt32 >>> ((8 : Int32).toUInt32 &&& Int32.toUInt32 31)).toInt32) : Int32).toUInt32 >>> ((2 : Int32).toUInt32 &&& Int32.toUInt32 31)).toInt32) hx hb dJ4_numberOfTrailingZeros_72 rfl ?_
            refine lv_istore_n (lv' := [(0, .int ((((((((a0 ^^^ (-1)) &&& (a0 - 1)) : Int32).toUInt32 >>> ((8 : Int32).toUInt32 &&& Int32.toUInt32 31)).toInt32) : Int32).toUInt32 >>> ((2 : Int32).toUInt32 &&& Int32.toUInt32 31)).toInt32)), (1, .int ((1 + 8) + 2))]) hx hb dJ4_numberOfTrailingZeros_73 rfl hl (by decide) rfl (fun ls hl => ?_)
            refine lv_iload_n hx hb dJ4_numberOfTrailingZeros_74 rfl (lv_at hl 1 rfl) ?_
            refine lv_iload_n hx hb dJ4_numberOfTrailingZeros_75 rfl (lv_at hl 0 rfl) ?_
            refine lv_iconst (v := 1) hx hb dJ4_numberOfTrailingZeros_76 (by decide) ?_
            refine lv_iushr (v := ((((((((((a0 ^^^ (-1)) &&& (a0 - 1)) : Int32).toUInt32 >>> ((8 : Int32).toUInt32 &&& Int32.toUInt32 31)).toInt32) : Int32).toUInt32 >>> ((2 : Int32).toUInt32 &&& Int32.toUInt32 31)).toInt32) : Int32).toUInt32 >>> ((1 : Int32).toUInt32 &&& Int32.toUInt32 31)).toInt32) hx hb dJ4_numberOfTrailingZeros_77 rfl ?_
            refine lv_iadd hx hb dJ4_numberOfTrailingZeros_78 ?_
            subst h
            exact x_iret F hr hlk hW hS dJ4_numberOfTrailingZeros_79
        · rw [if_neg c7] at h
          refine lv_iinc (k := 1) (v := ((1 + 8) + 4)) (lv' := [(1, .int ((1 + 8) + 4)), (0, .int (((((a0 ^^^ (-1)) &&& (a0 - 1)) : Int32).toUInt32 >>> ((8 : Int32).toUInt32 &&& Int32.toUInt32 31)).toInt32))]) hx hb dJ4_numberOfTrailingZeros_55 hl rfl rfl (by decide) rfl (fun ls hl => ?_)
          refine lv_iload_n hx hb dJ4_numberOfTrailingZeros_58 rfl (lv_at hl 1 rfl) ?_
          refine lv_iconst (v := 4) hx hb dJ4_numberOfTrailingZeros_59 (by decide) ?_
          refine lv_iushr (v := (((((((a0 ^^^ (-1)) &&& (a0 - 1)) : Int32).toUInt32 >>> ((8 : Int32).toUInt32 &&& Int32.toUInt32 31)).toInt32) : Int32).toUInt32 >>> ((4 : Int32).toUInt32 &&& Int32.toUInt32 31)).toInt32) hx hb dJ4_numberOfTrailingZeros_60 rfl ?_
          refine lv_istore_n (lv' := [(0, .int ((((((((a0 ^^^ (-1)) &&& (a0 - 1)) : Int32).toUInt32 >>> ((8 : Int32).toUInt32 &&& Int32.toUInt32 31)).toInt32) : Int32).toUInt32 >>> ((4 : Int32).toUInt32 &&& Int32.toUInt32 31)).toInt32)), (1, .int ((1 + 8) + 4))]) hx hb dJ4_numberOfTrailingZeros_61 rfl hl (by decide) rfl (fun ls hl => ?_)
          refine lv_iload_n hx hb dJ4_numberOfTrailingZeros_62 rfl (lv_at hl 0 rfl) ?_
          refine lv_iconst (v := 4) hx hb dJ4_numberOfTrailingZeros_63 (by decide) ?_
          refine lv_icmp_le (tgt := 74) hx hb dJ4_numberOfTrailingZeros_64 (by decide) (fun c9 => ?_) (fun c9 => ?_)
          · rw [if_pos c9] at h
            refine lv_iload_n hx hb dJ4_numberOfTrailingZeros_74 rfl (lv_at hl 1 rfl) ?_
            refine lv_iload_n hx hb dJ4_numberOfTrailingZeros_75 rfl (lv_at hl 0 rfl) ?_
            refine lv_iconst (v := 1) hx hb dJ4_numberOfTrailingZeros_76 (by decide) ?_
            refine lv_iushr (v := ((((((((((a0 ^^^ (-1)) &&& (a0 - 1)) : Int32).toUInt32 >>> ((8 : Int32).toUInt32 &&& Int32.toUInt32 31)).toInt32) : Int32).toUInt32 >>> ((4 : Int32).toUInt32 &&& Int32.toUInt32 31)).toInt32) : Int32).toUInt32 >>> ((1 : Int32).toUInt32 &&& Int32.toUInt32 31)).toInt32) hx hb dJ4_numberOfTrailingZeros_77 rfl ?_
            refine lv_iadd hx hb dJ4_numberOfTrailingZeros_78 ?_
            subst h
            exact x_iret F hr hlk hW hS dJ4_numberOfTrailingZeros_79
          · rw [if_neg c9] at h
            refine lv_iinc (k := 1) (v := (((1 + 8) + 4) + 2)) (lv' := [(1, .int (((1 + 8) + 4) + 2)), (0, .int ((((((((a0 ^^^ (-1)) &&& (a0 - 1)) : Int32).toUInt32 >>> ((8 : Int32).toUInt32 &&& Int32.toUInt32 31)).toInt32) : Int32).toUInt32 >>> ((4 : Int32).toUInt32 &&& Int32.toUInt32 31)).toInt32))]) hx hb dJ4_numberOfTrailingZeros_67 hl rfl rfl (by decide) rfl (fun ls hl => ?_)
            refine lv_iload_n hx hb dJ4_numberOfTrailingZeros_70 rfl (lv_at hl 1 rfl) ?_
            refine lv_iconst (v := 2) hx hb dJ4_numberOfTrailingZeros_71 (by decide) ?_
            refine lv_iushr (v := ((((((((((a0 ^^^ (-1)) &&& (a0 - 1)) : Int32).toUInt32 >>> ((8 : Int32).toUInt32 &&& Int32.toUInt32 31)).toInt32) : Int32).toUInt32 >>> ((4 : Int32).toUInt32 &&& Int32.toUInt32 31)).toInt32) : Int32).toUInt32 >>> ((2 : Int32).toUInt32 &&& Int32.toUInt32 31)).toInt32) hx hb dJ4_numberOfTrailingZeros_72 rfl ?_
            refine lv_istore_n (lv' := [(0, .int (((((((((((a0 ^^^ (-1)) &&& (a0 - 1)) : Int32).toUInt32 >>> ((8 : Int32).toUInt32 &&& Int32.toUInt32 31)).toInt32) : Int32).toUInt32 >>> ((4 : Int32).toUInt32 &&& Int32.toUInt32 31)).toInt32) : Int32).toUInt32 >>> ((2 : Int32).toUInt32 &&& Int32.toUInt32 31)).toInt32)), (1, .int (((1 + 8) + 4) + 2))]) hx hb dJ4_numberOfTrailingZeros_73 rfl hl (by decide) rfl (fun ls hl => ?_)
            refine lv_iload_n hx hb dJ4_numberOfTrailingZeros_74 rfl (lv_at hl 1 rfl) ?_
            refine lv_iload_n hx hb dJ4_numberOfTrailingZeros_75 rfl (lv_at hl 0 rfl) ?_
            refine lv_iconst (v := 1) hx hb dJ4_numberOfTrailingZeros_76 (by decide) ?_
            refine lv_iushr (v := (((((((((((((a0 ^^^ (-1)) &&& (a0 - 1)) : Int32).toUInt32 >>> ((8 : Int32).toUInt32 &&& Int32.toUInt32 31)).toInt32) : Int32).toUInt32 >>> ((4 : Int32).toUInt32 &&& Int32.toUInt32 31)).toInt32) : Int32).toUInt32 >>> ((2 : Int32).toUInt32 &&& Int32.toUInt32 31)).toInt32) : Int32).toUInt32 >>> ((1 : Int32).toUInt32 &&& Int32.toUInt32 31)).toInt32) hx hb dJ4_numberOfTrailingZeros_77 rfl ?_
            refine lv_iadd hx hb dJ4_numberOfTrailingZeros_78 ?_
            subst h
            exact x_iret F hr hlk hW hS dJ4_numberOfTrailingZeros_79
    · rw [if_neg c2] at h
      refine lv_iinc (k := 0) (v := (1 + 16)) (lv' := [(1, .int (1 + 16)), (0, .int ((a0 ^^^ (-1)) &&& (a0 - 1)))]) hx hb dJ4_numberOfTrailingZeros_26 hl rfl rfl (by decide) rfl (fun ls hl => ?_)
      refine lv_iload_n hx hb dJ4_numberOfTrailingZeros_29 rfl (lv_at hl 1 rfl) ?_
      refine lv_bipush (v := 16) hx hb dJ4_numberOfTrailingZeros_30 (by decide) ?_
      refine lv_iushr (v := ((((a0 ^^^ (-1)) &&& (a0 - 1)) : Int32).toUInt32 >>> ((16 : Int32).toUInt32 &&& Int32.toUInt32 31)).toInt32) hx hb dJ4_numberOfTrailingZeros_32 rfl ?_
      refine lv_istore_n (lv' := [(0, .int (((((a0 ^^^ (-1)) &&& (a0 - 1)) : Int32).toUInt32 >>> ((16 : Int32).toUInt32 &&& Int32.toUInt32 31)).toInt32)), (1, .int (1 + 16))]) hx hb dJ4_numberOfTrailingZeros_33 rfl hl (by decide) rfl (fun ls hl => ?_)
      refine lv_iload_n hx hb dJ4_numberOfTrailingZeros_34 rfl (lv_at hl 0 rfl) ?_
      refine lv_sipush (v := 256) hx hb dJ4_numberOfTrailingZeros_35 (by decide) ?_
      refine lv_icmp_le (tgt := 49) hx hb dJ4_numberOfTrailingZeros_38 (by decide) (fun c10 => ?_) (fun c10 => ?_)
      · rw [if_pos c10] at h
        refine lv_iload_n hx hb dJ4_numberOfTrailingZeros_49 rfl (lv_at hl 0 rfl) ?_
        refine lv_bipush (v := 16) hx hb dJ4_numberOfTrailingZeros_50 (by decide) ?_
        refine lv_icmp_le (tgt := 62) hx hb dJ4_numberOfTrailingZeros_52 (by decide) (fun c11 => ?_) (fun c11 => ?_)
        · rw [if_pos c11] at h
          refine lv_iload_n hx hb dJ4_numberOfTrailingZeros_62 rfl (lv_at hl 0 rfl) ?_
          refine lv_iconst (v := 4) hx hb dJ4_numberOfTrailingZeros_63 (by decide) ?_
          refine lv_icmp_le (tgt := 74) hx hb dJ4_numberOfTrailingZeros_64 (by decide) (fun c12 => ?_) (fun c12 => ?_)
          · rw [if_pos c12] at h
            refine lv_iload_n hx hb dJ4_numberOfTrailingZeros_74 rfl (lv_at hl 1 rfl) ?_
            refine lv_iload_n hx hb dJ4_numberOfTrailingZeros_75 rfl (lv_at hl 0 rfl) ?_
            refine lv_iconst (v := 1) hx hb dJ4_numberOfTrailingZeros_76 (by decide) ?_
            refine lv_iushr (v := (((((((a0 ^^^ (-1)) &&& (a0 - 1)) : Int32).toUInt32 >>> ((16 : Int32).toUInt32 &&& Int32.toUInt32 31)).toInt32) : Int32).toUInt32 >>> ((1 : Int32).toUInt32 &&& Int32.toUInt32 31)).toInt32) hx hb dJ4_numberOfTrailingZeros_77 rfl ?_
            refine lv_iadd hx hb dJ4_numberOfTrailingZeros_78 ?_
            subst h
            exact x_iret F hr hlk hW hS dJ4_numberOfTrailingZeros_79
          · rw [if_neg c12] at h
            refine lv_iinc (k := 1) (v := ((1 + 16) + 2)) (lv' := [(1, .int ((1 + 16) + 2)), (0, .int (((((a0 ^^^ (-1)) &&& (a0 - 1)) : Int32).toUInt32 >>> ((16 : Int32).toUInt32 &&& Int32.toUInt32 31)).toInt32))]) hx hb dJ4_numberOfTrailingZeros_67 hl rfl rfl (by decide) rfl (fun ls hl => ?_)
            refine lv_iload_n hx hb dJ4_numberOfTrailingZeros_70 rfl (lv_at hl 1 rfl) ?_
            refine lv_iconst (v := 2) hx hb dJ4_numberOfTrailingZeros_71 (by decide) ?_
            refine lv_iushr (v := (((((((a0 ^^^ (-1)) &&& (a0 - 1)) : Int32).toUInt32 >>> ((16 : Int32).toUInt32 &&& Int32.toUInt32 31)).toInt32) : Int32).toUInt32 >>> ((2 : Int32).toUInt32 &&& Int32.toUInt32 31)).toInt32) hx hb dJ4_numberOfTrailingZeros_72 rfl ?_
            refine lv_istore_n (lv' := [(0, .int ((((((((a0 ^^^ (-1)) &&& (a0 - 1)) : Int32).toUInt32 >>> ((16 : Int32).toUInt32 &&& Int32.toUInt32 31)).toInt32) : Int32).toUInt32 >>> ((2 : Int32).toUInt32 &&& Int32.toUInt32 31)).toInt32)), (1, .int ((1 + 16) + 2))]) hx hb dJ4_numberOfTrailingZeros_73 rfl hl (by decide) rfl (fun ls hl => ?_)
            refine lv_iload_n hx hb dJ4_numberOfTrailingZeros_74 rfl (lv_at hl 1 rfl) ?_
            refine lv_iload_n hx hb dJ4_numberOfTrailingZeros_75 rfl (lv_at hl 0 rfl) ?_
            refine lv_iconst (v := 1) hx hb dJ4_numberOfTrailingZeros_76 (by decide) ?_
            refine lv_iushr (v := ((((((((((a0 ^^^ (-1)) &&& (a0 - 1)) : Int32).toUInt32 >>> ((16 : Int32).toUInt32 &&& Int32.toUInt32 31)).toInt32) : Int32).toUInt32 >>> ((2 : Int32).toUInt32 &&& Int32.toUInt32 31)).toInt32) : Int32).toUInt32 >>> ((1 : Int32).toUInt32 &&& Int32.toUInt32 31)).toInt32) hx hb dJ4_numberOfTrailingZeros_77 rfl ?_
            refine lv_iadd hx hb dJ4_numberOfTrailingZeros_78 ?_
            subst h
            exact x_iret F hr hlk hW hS dJ4_numberOfTrailingZeros_79
        · rw [if_neg c11] at h
          refine lv_iinc (k := 1) (v := ((1 + 16) + 4)) (lv' := [(1, .int ((1 + 16) + 4)), (0, .int (((((a0 ^^^ (-1)) &&& (a0 - 1)) : Int32).toUInt32 >>> ((16 : Int32).toUInt32 &&& Int32.toUInt32 31)).toInt32))]) hx hb dJ4_numberOfTrailingZeros_55 hl rfl rfl (by decide) rfl (fun ls hl => ?_)
          refine lv_iload_n hx hb dJ4_numberOfTrailingZeros_58 rfl (lv_at hl 1 rfl) ?_
          refine lv_iconst (v := 4) hx hb dJ4_numberOfTrailingZeros_59 (by decide) ?_
          refine lv_iushr (v := (((((((a0 ^^^ (-1)) &&& (a0 - 1)) : Int32).toUInt32 >>> ((16 : Int32).toUInt32 &&& Int32.toUInt32 31)).toInt32) : Int32).toUInt32 >>> ((4 : Int32).toUInt32 &&& Int32.toUInt32 31)).toInt32) hx hb dJ4_numberOfTrailingZeros_60 rfl ?_
          refine lv_istore_n (lv' := [(0, .int ((((((((a0 ^^^ (-1)) &&& (a0 - 1)) : Int32).toUInt32 >>> ((16 : Int32).toUInt32 &&& Int32.toUInt32 31)).toInt32) : Int32).toUInt32 >>> ((4 : Int32).toUInt32 &&& Int32.toUInt32 31)).toInt32)), (1, .int ((1 + 16) + 4))]) hx hb dJ4_numberOfTrailingZeros_61 rfl hl (by decide) rfl (fun ls hl => ?_)
          refine lv_iload_n hx hb dJ4_numberOfTrailingZeros_62 rfl (lv_at hl 0 rfl) ?_
          refine lv_iconst (v := 4) hx hb dJ4_numberOfTrailingZeros_63 (by decide) ?_
          refine lv_icmp_le (tgt := 74) hx hb dJ4_numberOfTrailingZeros_64 (by decide) (fun c13 => ?_) (fun c13 => ?_)
          · rw [if_pos c13] at h
            refine lv_iload_n hx hb dJ4_numberOfTrailingZeros_74 rfl (lv_at hl 1 rfl) ?_
            refine lv_iload_n hx hb dJ4_numberOfTrailingZeros_75 rfl (lv_at hl 0 rfl) ?_
            refine lv_iconst (v := 1) hx hb dJ4_numberOfTrailingZeros_76 (by decide) ?_
            refine lv_iushr (v := ((((((((((a0 ^^^ (-1)) &&& (a0 - 1)) : Int32).toUInt32 >>> ((16 : Int32).toUInt32 &&& Int32.toUInt32 31)).toInt32) : Int32).toUInt32 >>> ((4 : Int32).toUInt32 &&& Int32.toUInt32 31)).toInt32) : Int32).toUInt32 >>> ((1 : Int32).toUInt32 &&& Int32.toUInt32 31)).toInt32) hx hb dJ4_numberOfTrailingZeros_77 rfl ?_
            refine lv_iadd hx hb dJ4_numberOfTrailingZeros_78 ?_
            subst h
            exact x_iret F hr hlk hW hS dJ4_numberOfTrailingZeros_79
          · rw [if_neg c13] at h
            refine lv_iinc (k := 1) (v := (((1 + 16) + 4) + 2)) (lv' := [(1, .int (((1 + 16) + 4) + 2)), (0, .int ((((((((a0 ^^^ (-1)) &&& (a0 - 1)) : Int32).toUInt32 >>> ((16 : Int32).toUInt32 &&& Int32.toUInt32 31)).toInt32) : Int32).toUInt32 >>> ((4 : Int32).toUInt32 &&& Int32.toUInt32 31)).toInt32))]) hx hb dJ4_numberOfTrailingZeros_67 hl rfl rfl (by decide) rfl (fun ls hl => ?_)
            refine lv_iload_n hx hb dJ4_numberOfTrailingZeros_70 rfl (lv_at hl 1 rfl) ?_
            refine lv_iconst (v := 2) hx hb dJ4_numberOfTrailingZeros_71 (by decide) ?_
            refine lv_iushr (v := ((((((((((a0 ^^^ (-1)) &&& (a0 - 1)) : Int32).toUInt32 >>> ((16 : Int32).toUInt32 &&& Int32.toUInt32 31)).toInt32) : Int32).toUInt32 >>> ((4 : Int32).toUInt32 &&& Int32.toUInt32 31)).toInt32) : Int32).toUInt32 >>> ((2 : Int32).toUInt32 &&& Int32.toUInt32 31)).toInt32) hx hb dJ4_numberOfTrailingZeros_72 rfl ?_
            refine lv_istore_n (lv' := [(0, .int (((((((((((a0 ^^^ (-1)) &&& (a0 - 1)) : Int32).toUInt32 >>> ((16 : Int32).toUInt32 &&& Int32.toUInt32 31)).toInt32) : Int32).toUInt32 >>> ((4 : Int32).toUInt32 &&& Int32.toUInt32 31)).toInt32) : Int32).toUInt32 >>> ((2 : Int32).toUInt32 &&& Int32.toUInt32 31)).toInt32)), (1, .int (((1 + 16) + 4) + 2))]) hx hb dJ4_numberOfTrailingZeros_73 rfl hl (by decide) rfl (fun ls hl => ?_)
            refine lv_iload_n hx hb dJ4_numberOfTrailingZeros_74 rfl (lv_at hl 1 rfl) ?_
            refine lv_iload_n hx hb dJ4_numberOfTrailingZeros_75 rfl (lv_at hl 0 rfl) ?_
            refine lv_iconst (v := 1) hx hb dJ4_numberOfTrailingZeros_76 (by decide) ?_
            refine lv_iushr (v := (((((((((((((a0 ^^^ (-1)) &&& (a0 - 1)) : Int32).toUInt32 >>> ((16 : Int32).toUInt32 &&& Int32.toUInt32 31)).toInt32) : Int32).toUInt32 >>> ((4 : Int32).toUInt32 &&& Int32.toUInt32 31)).toInt32) : Int32).toUInt32 >>> ((2 : Int32).toUInt32 &&& Int32.toUInt32 31)).toInt32) : Int32).toUInt32 >>> ((1 : Int32).toUInt32 &&& Int32.toUInt32 31)).toInt32) hx hb dJ4_numberOfTrailingZeros_77 rfl ?_
            refine lv_iadd hx hb dJ4_numberOfTrailingZeros_78 ?_
            subst h
            exact x_iret F hr hlk hW hS dJ4_numberOfTrailingZeros_79
      · rw [if_neg c10] at h
        refine lv_iinc (k := 1) (v := ((1 + 16) + 8)) (lv' := [(1, .int ((1 + 16) + 8)), (0, .int (((((a0 ^^^ (-1)) &&& (a0 - 1)) : Int32).toUInt32 >>> ((16 : Int32).toUInt32 &&& Int32.toUInt32 31)).toInt32))]) hx hb dJ4_numberOfTrailingZeros_41 hl rfl rfl (by decide) rfl (fun ls hl => ?_)
        refine lv_iload_n hx hb dJ4_numberOfTrailingZeros_44 rfl (lv_at hl 1 rfl) ?_
        refine lv_bipush (v := 8) hx hb dJ4_numberOfTrailingZeros_45 (by decide) ?_
        refine lv_iushr (v := (((((((a0 ^^^ (-1)) &&& (a0 - 1)) : Int32).toUInt32 >>> ((16 : Int32).toUInt32 &&& Int32.toUInt32 31)).toInt32) : Int32).toUInt32 >>> ((8 : Int32).toUInt32 &&& Int32.toUInt32 31)).toInt32) hx hb dJ4_numberOfTrailingZeros_47 rfl ?_
        refine lv_istore_n (lv' := [(0, .int ((((((((a0 ^^^ (-1)) &&& (a0 - 1)) : Int32).toUInt32 >>> ((16 : Int32).toUInt32 &&& Int32.toUInt32 31)).toInt32) : Int32).toUInt32 >>> ((8 : Int32).toUInt32 &&& Int32.toUInt32 31)).toInt32)), (1, .int ((1 + 16) + 8))]) hx hb dJ4_numberOfTrailingZeros_48 rfl hl (by decide) rfl (fun ls hl => ?_)
        refine lv_iload_n hx hb dJ4_numberOfTrailingZeros_49 rfl (lv_at hl 0 rfl) ?_
        refine lv_bipush (v := 16) hx hb dJ4_numberOfTrailingZeros_50 (by decide) ?_
        refine lv_icmp_le (tgt := 62) hx hb dJ4_numberOfTrailingZeros_52 (by decide) (fun c14 => ?_) (fun c14 => ?_)
        · rw [if_pos c14] at h
          refine lv_iload_n hx hb dJ4_numberOfTrailingZeros_62 rfl (lv_at hl 0 rfl) ?_
          refine lv_iconst (v := 4) hx hb dJ4_numberOfTrailingZeros_63 (by decide) ?_
          refine lv_icmp_le (tgt := 74) hx hb dJ4_numberOfTrailingZeros_64 (by decide) (fun c15 => ?_) (fun c15 => ?_)
          · rw [if_pos c15] at h
            refine lv_iload_n hx hb dJ4_numberOfTrailingZeros_74 rfl (lv_at hl 1 rfl) ?_
            refine lv_iload_n hx hb dJ4_numberOfTrailingZeros_75 rfl (lv_at hl 0 rfl) ?_
            refine lv_iconst (v := 1) hx hb dJ4_numberOfTrailingZeros_76 (by decide) ?_
            refine lv_iushr (v := ((((((((((a0 ^^^ (-1)) &&& (a0 - 1)) : Int32).toUInt32 >>> ((16 : Int32).toUInt32 &&& Int32.toUInt32 31)).toInt32) : Int32).toUInt32 >>> ((8 : Int32).toUInt32 &&& Int32.toUInt32 31)).toInt32) : Int32).toUInt32 >>> ((1 : Int32).toUInt32 &&& Int32.toUInt32 31)).toInt32) hx hb dJ4_numberOfTrailingZeros_77 rfl ?_
            refine lv_iadd hx hb dJ4_numberOfTrailingZeros_78 ?_
            subst h
            exact x_iret F hr hlk hW hS dJ4_numberOfTrailingZeros_79
          · rw [if_neg c15] at h
            refine lv_iinc (k := 1) (v := (((1 + 16) + 8) + 2)) (lv' := [(1, .int (((1 + 16) + 8) + 2)), (0, .int ((((((((a0 ^^^ (-1)) &&& (a0 - 1)) : Int32).toUInt32 >>> ((16 : Int32).toUInt32 &&& Int32.toUInt32 31)).toInt32) : Int32).toUInt32 >>> ((8 : Int32).toUInt32 &&& Int32.toUInt32 31)).toInt32))]) hx hb dJ4_numberOfTrailingZeros_67 hl rfl rfl (by decide) rfl (fun ls hl => ?_)
            refine lv_iload_n hx hb dJ4_numberOfTrailingZeros_70 rfl (lv_at hl 1 rfl) ?_
            refine lv_iconst (v := 2) hx hb dJ4_numberOfTrailingZeros_71 (by decide) ?_
            refine lv_iushr (v := ((((((((((a0 ^^^ (-1)) &&& (a0 - 1)) : Int32).toUInt32 >>> ((16 : Int32).toUInt32 &&& Int32.toUInt32 31)).toInt32) : Int32).toUInt32 >>> ((8 : Int32).toUInt32 &&& Int32.toUInt32 31)).toInt32) : Int32).toUInt32 >>> ((2 : Int32).toUInt32 &&& Int32.toUInt32 31)).toInt32) hx hb dJ4_numberOfTrailingZeros_72 rfl ?_
            refine lv_istore_n (lv' := [(0, .int (((((((((((a0 ^^^ (-1)) &&& (a0 - 1)) : Int32).toUInt32 >>> ((16 : Int32).toUInt32 &&& Int32.toUInt32 31)).toInt32) : Int32).toUInt32 >>> ((8 : Int32).toUInt32 &&& Int32.toUInt32 31)).toInt32) : Int32).toUInt32 >>> ((2 : Int32).toUInt32 &&& Int32.toUInt32 31)).toInt32)), (1, .int (((1 + 16) + 8) + 2))]) hx hb dJ4_numberOfTrailingZeros_73 rfl hl (by decide) rfl (fun ls hl => ?_)
            refine lv_iload_n hx hb dJ4_numberOfTrailingZeros_74 rfl (lv_at hl 1 rfl) ?_
            refine lv_iload_n hx hb dJ4_numberOfTrailingZeros_75 rfl (lv_at hl 0 rfl) ?_
            refine lv_iconst (v := 1) hx hb dJ4_numberOfTrailingZeros_76 (by decide) ?_
            refine lv_iushr (v := (((((((((((((a0 ^^^ (-1)) &&& (a0 - 1)) : Int32).toUInt32 >>> ((16 : Int32).toUInt32 &&& Int32.toUInt32 31)).toInt32) : Int32).toUInt32 >>> ((8 : Int32).toUInt32 &&& Int32.toUInt32 31)).toInt32) : Int32).toUInt32 >>> ((2 : Int32).toUInt32 &&& Int32.toUInt32 31)).toInt32) : Int32).toUInt32 >>> ((1 : Int32).toUInt32 &&& Int32.toUInt32 31)).toInt32) hx hb dJ4_numberOfTrailingZeros_77 rfl ?_
            refine lv_iadd hx hb dJ4_numberOfTrailingZeros_78 ?_
            subst h
            exact x_iret F hr hlk hW hS dJ4_numberOfTrailingZeros_79
        · rw [if_neg c14] at h
          refine lv_iinc (k := 1) (v := (((1 + 16) + 8) + 4)) (lv' := [(1, .int (((1 + 16) + 8) + 4)), (0, .int ((((((((a0 ^^^ (-1)) &&& (a0 - 1)) : Int32).toUInt32 >>> ((16 : Int32).toUInt32 &&& Int32.toUInt32 31)).toInt32) : Int32).toUInt32 >>> ((8 : Int32).toUInt32 &&& Int32.toUInt32 31)).toInt32))]) hx hb dJ4_numberOfTrailingZeros_55 hl rfl rfl (by decide) rfl (fun ls hl => ?_)
          refine lv_iload_n hx hb dJ4_numberOfTrailingZeros_58 rfl (lv_at hl 1 rfl) ?_
          refine lv_iconst (v := 4) hx hb dJ4_numberOfTrailingZeros_59 (by decide) ?_
          refine lv_iushr (v := ((((((((((a0 ^^^ (-1)) &&& (a0 - 1)) : Int32).toUInt32 >>> ((16 : Int32).toUInt32 &&& Int32.toUInt32 31)).toInt32) : Int32).toUInt32 >>> ((8 : Int32).toUInt32 &&& Int32.toUInt32 31)).toInt32) : Int32).toUInt32 >>> ((4 : Int32).toUInt32 &&& Int32.toUInt32 31)).toInt32) hx hb dJ4_numberOfTrailingZeros_60 rfl ?_
          refine lv_istore_n (lv' := [(0, .int (((((((((((a0 ^^^ (-1)) &&& (a0 - 1)) : Int32).toUInt32 >>> ((16 : Int32).toUInt32 &&& Int32.toUInt32 31)).toInt32) : Int32).toUInt32 >>> ((8 : Int32).toUInt32 &&& Int32.toUInt32 31)).toInt32) : Int32).toUInt32 >>> ((4 : Int32).toUInt32 &&& Int32.toUInt32 31)).toInt32)), (1, .int (((1 + 16) + 8) + 4))]) hx hb dJ4_numberOfTrailingZeros_61 rfl hl (by decide) rfl (fun ls hl => ?_)
          refine lv_iload_n hx hb dJ4_numberOfTrailingZeros_62 rfl (lv_at hl 0 rfl) ?_
          refine lv_iconst (v := 4) hx hb dJ4_numberOfTrailingZeros_63 (by decide) ?_
          refine lv_icmp_le (tgt := 74) hx hb dJ4_numberOfTrailingZeros_64 (by decide) (fun c16 => ?_) (fun c16 => ?_)
          · rw [if_pos c16] at h
            refine lv_iload_n hx hb dJ4_numberOfTrailingZeros_74 rfl (lv_at hl 1 rfl) ?_
            refine lv_iload_n hx hb dJ4_numberOfTrailingZeros_75 rfl (lv_at hl 0 rfl) ?_
            refine lv_iconst (v := 1) hx hb dJ4_numberOfTrailingZeros_76 (by decide) ?_
            refine lv_iushr (v := (((((((((((((a0 ^^^ (-1)) &&& (a0 - 1)) : Int32).toUInt32 >>> ((16 : Int32).toUInt32 &&& Int32.toUInt32 31)).toInt32) : Int32).toUInt32 >>> ((8 : Int32).toUInt32 &&& Int32.toUInt32 31)).toInt32) : Int32).toUInt32 >>> ((4 : Int32).toUInt32 &&& Int32.toUInt32 31)).toInt32) : Int32).toUInt32 >>> ((1 : Int32).toUInt32 &&& Int32.toUInt32 31)).toInt32) hx hb dJ4_numberOfTrailingZeros_77 rfl ?_
            refine lv_iadd hx hb dJ4_numberOfTrailingZeros_78 ?_
            subst h
            exact x_iret F hr hlk hW hS dJ4_numberOfTrailingZeros_79
          · rw [if_neg c16] at h
            refine lv_iinc (k := 1) (v := ((((1 + 16) + 8) + 4) + 2)) (lv' := [(1, .int ((((1 + 16) + 8) + 4) + 2)), (0, .int (((((((((((a0 ^^^ (-1)) &&& (a0 - 1)) : Int32).toUInt32 >>> ((16 : Int32).toUInt32 &&& Int32.toUInt32 31)).toInt32) : Int32).toUInt32 >>> ((8 : Int32).toUInt32 &&& Int32.toUInt32 31)).toInt32) : Int32).toUInt32 >>> ((4 : Int32).toUInt32 &&& Int32.toUInt32 31)).toInt32))]) hx hb dJ4_numberOfTrailingZeros_67 hl rfl rfl (by decide) rfl (fun ls hl => ?_)
            refine lv_iload_n hx hb dJ4_numberOfTrailingZeros_70 rfl (lv_at hl 1 rfl) ?_
            refine lv_iconst (v := 2) hx hb dJ4_numberOfTrailingZeros_71 (by decide) ?_
            refine lv_iushr (v := (((((((((((((a0 ^^^ (-1)) &&& (a0 - 1)) : Int32).toUInt32 >>> ((16 : Int32).toUInt32 &&& Int32.toUInt32 31)).toInt32) : Int32).toUInt32 >>> ((8 : Int32).toUInt32 &&& Int32.toUInt32 31)).toInt32) : Int32).toUInt32 >>> ((4 : Int32).toUInt32 &&& Int32.toUInt32 31)).toInt32) : Int32).toUInt32 >>> ((2 : Int32).toUInt32 &&& Int32.toUInt32 31)).toInt32) hx hb dJ4_numberOfTrailingZeros_72 rfl ?_
            refine lv_istore_n (lv' := [(0, .int ((((((((((((((a0 ^^^ (-1)) &&& (a0 - 1)) : Int32).toUInt32 >>> ((16 : Int32).toUInt32 &&& Int32.toUInt32 31)).toInt32) : Int32).toUInt32 >>> ((8 : Int32).toUInt32 &&& Int32.toUInt32 31)).toInt32) : Int32).toUInt32 >>> ((4 : Int32).toUInt32 &&& Int32.toUInt32 31)).toInt32) : Int32).toUInt32 >>> ((2 : Int32).toUInt32 &&& Int32.toUInt32 31)).toInt32)), (1, .int ((((1 + 16) + 8) + 4) + 2))]) hx hb dJ4_numberOfTrailingZeros_73 rfl hl (by decide) rfl (fun ls hl => ?_)
            refine lv_iload_n hx hb dJ4_numberOfTrailingZeros_74 rfl (lv_at hl 1 rfl) ?_
            refine lv_iload_n hx hb dJ4_numberOfTrailingZeros_75 rfl (lv_at hl 0 rfl) ?_
            refine lv_iconst (v := 1) hx hb dJ4_numberOfTrailingZeros_76 (by decide) ?_
            refine lv_iushr (v := ((((((((((((((((a0 ^^^ (-1)) &&& (a0 - 1)) : Int32).toUInt32 >>> ((16 : Int32).toUInt32 &&& Int32.toUInt32 31)).toInt32) : Int32).toUInt32 >>> ((8 : Int32).toUInt32 &&& Int32.toUInt32 31)).toInt32) : Int32).toUInt32 >>> ((4 : Int32).toUInt32 &&& Int32.toUInt32 31)).toInt32) : Int32).toUInt32 >>> ((2 : Int32).toUInt32 &&& Int32.toUInt32 31)).toInt32) : Int32).toUInt32 >>> ((1 : Int32).toUInt32 &&& Int32.toUInt32 31)).toInt32) hx hb dJ4_numberOfTrailingZeros_77 rfl ?_
            refine lv_iadd hx hb dJ4_numberOfTrailingZeros_78 ?_
            subst h
            exact x_iret F hr hlk hW hS dJ4_numberOfTrailingZeros_79
  · rw [if_neg c1] at h
    refine lv_iload_n hx hb dJ4_numberOfTrailingZeros_12 rfl (lv_at hl 0 rfl) ?_
    refine lv_bipush (v := 32) hx hb dJ4_numberOfTrailingZeros_13 (by decide) ?_
    refine lv_iand hx hb dJ4_numberOfTrailingZeros_15 ?_
    subst h
    exact x_iret F hr hlk hW hS dJ4_numberOfTrailingZeros_16
/-! WildBells.in(III)Z -/
def fX0_in (a0 : Int32) (a1 : Int32) (a2 : Int32) : Int32 :=
  if a0 < a1 then 0 else (if a2 < a0 then 0 else 1)
theorem bX0_in (a0 a1 a2 : Int32) : narrow .boolean (.int (fX0_in a0 a1 a2)) = .int (fX0_in a0 a1 a2) := by
  unfold fX0_in
  first
    | (repeat' split) <;> rfl
    | exact bX0_in _ _ _
    | exact bX13_within _ _ _
    | ((repeat' split) <;> first | rfl | exact bX0_in _ _ _ | exact bX0_isKind _ | exact bX0_isCell _ | exact bX0_isWeight _)
    | ((repeat' split) <;> first | rfl | exact bX13_within _ _ _ | exact bX13_isKind _ | exact bX13_isCell _)
set_option maxHeartbeats 4000000 in
theorem mX0_in (l : Launch) (E : xE) (σ : xM) (a0 : Int32) (a1 : Int32) (a2 : Int32) : Met l yX0_in (ws_ yX0_in cX0_in 3 (some .boolean)) ({ frames := 0, cells := 0, slots := 0, locals := 0 } : Room) (xPc E σ [.int a0, .int a1, .int a2]) (xQc E (.returned (some (.int (fX0_in a0 a1 a2)))) σ) 0 0 (xA E) := by
  refine x_of (C := RX0) (n := "in") (d := "(III)Z") (r := (some .boolean)) (by decide) rfl (by first | decide | exact Nat.le_of_ble_eq_true rfl) ?_
  intro p e s m below meth c ls F hr hlk hW hS hl
  have hl : lv_has ls 3 [(0, .int a0), (1, .int a1), (2, .int a2)] := hl
  obtain ⟨hx, hb, hml, hown, hts⟩ := id F.1
  have hK := F.2.1.1
  obtain ⟨r, h⟩ : ∃ r, fX0_in a0 a1 a2 = r := ⟨_, rfl⟩
  rw [h]
  unfold fX0_in at h
  refine lv_iload_n hx hb dX0_in_0 rfl (lv_at hl 0 rfl) ?_
  refine lv_iload_n hx hb dX0_in_1 rfl (lv_at hl 1 rfl) ?_
  refine lv_icmp_lt (tgt := 14) hx hb dX0_in_2 (by decide) (fun c1 => ?_) (fun c1 => ?_)
  · rw [if_pos c1] at h
    refine lv_iconst (v := 0) hx hb dX0_in_14 (by decide) ?_
    subst h
    exact x_zret F hr hlk hW hS rfl dX0_in_15
  · rw [if_neg c1] at h
    refine lv_iload_n hx hb dX0_in_5 rfl (lv_at hl 0 rfl) ?_
    refine lv_iload_n hx hb dX0_in_6 rfl (lv_at hl 2 rfl) ?_
    refine lv_icmp_gt (tgt := 14) hx hb dX0_in_7 (by decide) (fun c2 => ?_) (fun c2 => ?_)
    · rw [if_pos c2] at h
      refine lv_iconst (v := 0) hx hb dX0_in_14 (by decide) ?_
      subst h
      exact x_zret F hr hlk hW hS rfl dX0_in_15
    · rw [if_neg c2] at h
      refine lv_iconst (v := 1) hx hb dX0_in_10 (by decide) ?_
      refine lv_goto (tgt := 15) hx hb dX0_in_11 (by decide) ?_
      subst h
      exact x_zret F hr hlk hW hS rfl dX0_in_15
/-! WildBells.has(II)Z -/
def fX0_has (a0 : Int32) (a1 : Int32) : Int32 :=
  if ((a0 >>> (a1 &&& 31)) &&& 1) = 1 then 1 else 0
theorem bX0_has (a0 a1 : Int32) : narrow .boolean (.int (fX0_has a0 a1)) = .int (fX0_has a0 a1) := by
  unfold fX0_has
  first
    | (repeat' split) <;> rfl
    | exact bX0_in _ _ _
    | exact bX13_within _ _ _
    | ((repeat' split) <;> first | rfl | exact bX0_in _ _ _ | exact bX0_isKind _ | exact bX0_isCell _ | exact bX0_isWeight _)
    | ((repeat' split) <;> first | rfl | exact bX13_within _ _ _ | exact bX13_isKind _ | exact bX13_isCell _)
set_option maxHeartbeats 4000000 in
theorem mX0_has (l : Launch) (E : xE) (σ : xM) (a0 : Int32) (a1 : Int32) : Met l yX0_has (ws_ yX0_has cX0_has 2 (some .boolean)) ({ frames := 0, cells := 0, slots := 0, locals := 0 } : Room) (xPc E σ [.int a0, .int a1]) (xQc E (.returned (some (.int (fX0_has a0 a1)))) σ) 0 0 (xA E) := by
  refine x_of (C := RX0) (n := "has") (d := "(II)Z") (r := (some .boolean)) (by decide) rfl (by first | decide | exact Nat.le_of_ble_eq_true rfl) ?_
  intro p e s m below meth c ls F hr hlk hW hS hl
  have hl : lv_has ls 2 [(0, .int a0), (1, .int a1)] := hl
  obtain ⟨hx, hb, hml, hown, hts⟩ := id F.1
  have hK := F.2.1.1
  obtain ⟨r, h⟩ : ∃ r, fX0_has a0 a1 = r := ⟨_, rfl⟩
  rw [h]
  unfold fX0_has at h
  refine lv_iload_n hx hb dX0_has_0 rfl (lv_at hl 0 rfl) ?_
  refine lv_iload_n hx hb dX0_has_1 rfl (lv_at hl 1 rfl) ?_
  refine lv_ishr hx hb dX0_has_2 ?_
  refine lv_iconst (v := 1) hx hb dX0_has_3 (by decide) ?_
  refine lv_iand hx hb dX0_has_4 ?_
  refine lv_iconst (v := 1) hx hb dX0_has_5 (by decide) ?_
  refine lv_icmp_ne (tgt := 13) hx hb dX0_has_6 (by decide) (fun c1 => ?_) (fun c1 => ?_)
  · rw [if_neg c1] at h
    refine lv_iconst (v := 0) hx hb dX0_has_13 (by decide) ?_
    subst h
    exact x_zret F hr hlk hW hS rfl dX0_has_14
  · rw [if_pos c1] at h
    refine lv_iconst (v := 1) hx hb dX0_has_9 (by decide) ?_
    refine lv_goto (tgt := 14) hx hb dX0_has_10 (by decide) ?_
    subst h
    exact x_zret F hr hlk hW hS rfl dX0_has_14
/-! WildBells.ones(I)I -/
def fX0_ones (a0 : Int32) : Int32 :=
  (fJ4_bitCount a0)
set_option maxHeartbeats 4000000 in
theorem mX0_ones (l : Launch) (E : xE) (σ : xM) (a0 : Int32) : Met l yX0_ones (ws_ yX0_ones cX0_ones 1 (some .int)) ({ frames := 1, cells := 0, slots := 0, locals := 20 } : Room) (xPc E σ [.int a0]) (xQc E (.returned (some (.int (fX0_ones a0)))) σ) 0 0 (xA E) := by
  refine x_of (C := RX0) (n := "ones") (d := "(I)I") (r := (some .int)) (by decide) rfl (by first | decide | exact Nat.le_of_ble_eq_true rfl) ?_
  intro p e s m below meth c ls F hr hlk hW hS hl
  have hl : lv_has ls 1 [(0, .int a0)] := hl
  obtain ⟨hx, hb, hml, hown, hts⟩ := id F.1
  have hK := F.2.1.1
  obtain ⟨r, h⟩ : ∃ r, fX0_ones a0 = r := ⟨_, rfl⟩
  rw [h]
  unfold fX0_ones at h
  refine lv_iload_n hx hb dX0_ones_0 rfl (lv_at hl 0 rfl) ?_
  refine x_backi (va_runS (As := [.int a0]) (rest := []) F.1 (mJ4_bitCount l E σ a0) (va_cwS 1 hts (lw_S q724 q725 q117 q726) rfl rfl rfl (by decide +kernel) ⟨Nat.le_of_ble_eq_true rfl, Nat.le_of_ble_eq_true rfl⟩) ⟨xPc.blind, F.pre hW hS [.int a0]⟩ rfl rfl hl.1 rfl (lv_room (Nat.le_of_ble_eq_true rfl)) dX0_ones_1 ⟨Nat.le_refl _, Nat.le_refl _⟩) hS (fun H locs hW hS => ?_)
  subst h
  exact x_iret F hr hlk hW hS dX0_ones_4
/-! WildBells.isSheet(I)Z -/
def fX0_isSheet (a0 : Int32) : Int32 :=
  (fX0_in a0 0 3)
theorem bX0_isSheet (a0 : Int32) : narrow .boolean (.int (fX0_isSheet a0)) = .int (fX0_isSheet a0) := by
  unfold fX0_isSheet
  first
    | (repeat' split) <;> rfl
    | exact bX0_in _ _ _
    | exact bX13_within _ _ _
    | ((repeat' split) <;> first | rfl | exact bX0_in _ _ _ | exact bX0_isKind _ | exact bX0_isCell _ | exact bX0_isWeight _)
    | ((repeat' split) <;> first | rfl | exact bX13_within _ _ _ | exact bX13_isKind _ | exact bX13_isCell _)
set_option maxHeartbeats 4000000 in
theorem mX0_isSheet (l : Launch) (E : xE) (σ : xM) (a0 : Int32) : Met l yX0_isSheet (ws_ yX0_isSheet cX0_isSheet 1 (some .boolean)) ({ frames := 1, cells := 0, slots := 0, locals := 22 } : Room) (xPc E σ [.int a0]) (xQc E (.returned (some (.int (fX0_isSheet a0)))) σ) 0 0 (xA E) := by
  refine x_of (C := RX0) (n := "isSheet") (d := "(I)Z") (r := (some .boolean)) (by decide) rfl (by first | decide | exact Nat.le_of_ble_eq_true rfl) ?_
  intro p e s m below meth c ls F hr hlk hW hS hl
  have hl : lv_has ls 1 [(0, .int a0)] := hl
  obtain ⟨hx, hb, hml, hown, hts⟩ := id F.1
  have hK := F.2.1.1
  obtain ⟨r, h⟩ : ∃ r, fX0_isSheet a0 = r := ⟨_, rfl⟩
  rw [h]
  unfold fX0_isSheet at h
  refine lv_iload_n hx hb dX0_isSheet_0 rfl (lv_at hl 0 rfl) ?_
  refine lv_iconst (v := 0) hx hb dX0_isSheet_1 (by decide) ?_
  refine lv_iconst (v := 3) hx hb dX0_isSheet_2 (by decide) ?_
  refine x_backi (va_runS (As := [.int a0, .int 0, .int 3]) (rest := []) F.1 (mX0_in l E σ a0 0 3) (va_cwS 3 hts (lw_S q466 q467 q99 q468) rfl rfl rfl (by decide +kernel) ⟨Nat.le_of_ble_eq_true rfl, Nat.le_of_ble_eq_true rfl⟩) ⟨xPc.blind, F.pre hW hS [.int a0, .int 0, .int 3]⟩ rfl rfl hl.1 rfl (lv_room (Nat.le_of_ble_eq_true rfl)) dX0_isSheet_3 ⟨Nat.le_refl _, Nat.le_refl _⟩) hS (fun H locs hW hS => ?_)
  subst h
  exact x_zret F hr hlk hW hS (by first | exact bX0_in _ _ _ | rfl) dX0_isSheet_6
/-! WildBells.isSpot(I)Z -/
def fX0_isSpot (a0 : Int32) : Int32 :=
  (fX0_in a0 0 9)
theorem bX0_isSpot (a0 : Int32) : narrow .boolean (.int (fX0_isSpot a0)) = .int (fX0_isSpot a0) := by
  unfold fX0_isSpot
  first
    | (repeat' split) <;> rfl
    | exact bX0_in _ _ _
    | exact bX13_within _ _ _
    | ((repeat' split) <;> first | rfl | exact bX0_in _ _ _ | exact bX0_isKind _ | exact bX0_isCell _ | exact bX0_isWeight _)
    | ((repeat' split) <;> first | rfl | exact bX13_within _ _ _ | exact bX13_isKind _ | exact bX13_isCell _)
set_option maxHeartbeats 4000000 in
theorem mX0_isSpot (l : Launch) (E : xE) (σ : xM) (a0 : Int32) : Met l yX0_isSpot (ws_ yX0_isSpot cX0_isSpot 1 (some .boolean)) ({ frames := 1, cells := 0, slots := 0, locals := 22 } : Room) (xPc E σ [.int a0]) (xQc E (.returned (some (.int (fX0_isSpot a0)))) σ) 0 0 (xA E) := by
  refine x_of (C := RX0) (n := "isSpot") (d := "(I)Z") (r := (some .boolean)) (by decide) rfl (by first | decide | exact Nat.le_of_ble_eq_true rfl) ?_
  intro p e s m below meth c ls F hr hlk hW hS hl
  have hl : lv_has ls 1 [(0, .int a0)] := hl
  obtain ⟨hx, hb, hml, hown, hts⟩ := id F.1
  have hK := F.2.1.1
  obtain ⟨r, h⟩ : ∃ r, fX0_isSpot a0 = r := ⟨_, rfl⟩
  rw [h]
  unfold fX0_isSpot at h
  refine lv_iload_n hx hb dX0_isSpot_0 rfl (lv_at hl 0 rfl) ?_
  refine lv_iconst (v := 0) hx hb dX0_isSpot_1 (by decide) ?_
  refine lv_bipush (v := 9) hx hb dX0_isSpot_2 (by decide) ?_
  refine x_backi (va_runS (As := [.int a0, .int 0, .int 9]) (rest := []) F.1 (mX0_in l E σ a0 0 9) (va_cwS 3 hts (lw_S q466 q467 q99 q468) rfl rfl rfl (by decide +kernel) ⟨Nat.le_of_ble_eq_true rfl, Nat.le_of_ble_eq_true rfl⟩) ⟨xPc.blind, F.pre hW hS [.int a0, .int 0, .int 9]⟩ rfl rfl hl.1 rfl (lv_room (Nat.le_of_ble_eq_true rfl)) dX0_isSpot_4 ⟨Nat.le_refl _, Nat.le_refl _⟩) hS (fun H locs hW hS => ?_)
  subst h
  exact x_zret F hr hlk hW hS (by first | exact bX0_in _ _ _ | rfl) dX0_isSpot_7
/-! WildBells.isKind(I)Z -/
def fX0_isKind (a0 : Int32) : Int32 :=
  (fX0_in a0 0 6)
theorem bX0_isKind (a0 : Int32) : narrow .boolean (.int (fX0_isKind a0)) = .int (fX0_isKind a0) := by
  unfold fX0_isKind
  first
    | (repeat' split) <;> rfl
    | exact bX0_in _ _ _
    | exact bX13_within _ _ _
    | ((repeat' split) <;> first | rfl | exact bX0_in _ _ _ | exact bX0_isKind _ | exact bX0_isCell _ | exact bX0_isWeight _)
    | ((repeat' split) <;> first | rfl | exact bX13_within _ _ _ | exact bX13_isKind _ | exact bX13_isCell _)
set_option maxHeartbeats 4000000 in
theorem mX0_isKind (l : Launch) (E : xE) (σ : xM) (a0 : Int32) : Met l yX0_isKind (ws_ yX0_isKind cX0_isKind 1 (some .boolean)) ({ frames := 1, cells := 0, slots := 0, locals := 22 } : Room) (xPc E σ [.int a0]) (xQc E (.returned (some (.int (fX0_isKind a0)))) σ) 0 0 (xA E) := by
  refine x_of (C := RX0) (n := "isKind") (d := "(I)Z") (r := (some .boolean)) (by decide) rfl (by first | decide | exact Nat.le_of_ble_eq_true rfl) ?_
  intro p e s m below meth c ls F hr hlk hW hS hl
  have hl : lv_has ls 1 [(0, .int a0)] := hl
  obtain ⟨hx, hb, hml, hown, hts⟩ := id F.1
  have hK := F.2.1.1
  obtain ⟨r, h⟩ : ∃ r, fX0_isKind a0 = r := ⟨_, rfl⟩
  rw [h]
  unfold fX0_isKind at h
  refine lv_iload_n hx hb dX0_isKind_0 rfl (lv_at hl 0 rfl) ?_
  refine lv_iconst (v := 0) hx hb dX0_isKind_1 (by decide) ?_
  refine lv_bipush (v := 6) hx hb dX0_isKind_2 (by decide) ?_
  refine x_backi (va_runS (As := [.int a0, .int 0, .int 6]) (rest := []) F.1 (mX0_in l E σ a0 0 6) (va_cwS 3 hts (lw_S q466 q467 q99 q468) rfl rfl rfl (by decide +kernel) ⟨Nat.le_of_ble_eq_true rfl, Nat.le_of_ble_eq_true rfl⟩) ⟨xPc.blind, F.pre hW hS [.int a0, .int 0, .int 6]⟩ rfl rfl hl.1 rfl (lv_room (Nat.le_of_ble_eq_true rfl)) dX0_isKind_4 ⟨Nat.le_refl _, Nat.le_refl _⟩) hS (fun H locs hW hS => ?_)
  subst h
  exact x_zret F hr hlk hW hS (by first | exact bX0_in _ _ _ | rfl) dX0_isKind_7
/-! WildBells.isCell(I)Z -/
def fX0_isCell (a0 : Int32) : Int32 :=
  (fX0_in a0 0 63)
theorem bX0_isCell (a0 : Int32) : narrow .boolean (.int (fX0_isCell a0)) = .int (fX0_isCell a0) := by
  unfold fX0_isCell
  first
    | (repeat' split) <;> rfl
    | exact bX0_in _ _ _
    | exact bX13_within _ _ _
    | ((repeat' split) <;> first | rfl | exact bX0_in _ _ _ | exact bX0_isKind _ | exact bX0_isCell _ | exact bX0_isWeight _)
    | ((repeat' split) <;> first | rfl | exact bX13_within _ _ _ | exact bX13_isKind _ | exact bX13_isCell _)
set_option maxHeartbeats 4000000 in
theorem mX0_isCell (l : Launch) (E : xE) (σ : xM) (a0 : Int32) : Met l yX0_isCell (ws_ yX0_isCell cX0_isCell 1 (some .boolean)) ({ frames := 1, cells := 0, slots := 0, locals := 22 } : Room) (xPc E σ [.int a0]) (xQc E (.returned (some (.int (fX0_isCell a0)))) σ) 0 0 (xA E) := by
  refine x_of (C := RX0) (n := "isCell") (d := "(I)Z") (r := (some .boolean)) (by decide) rfl (by first | decide | exact Nat.le_of_ble_eq_true rfl) ?_
  intro p e s m below meth c ls F hr hlk hW hS hl
  have hl : lv_has ls 1 [(0, .int a0)] := hl
  obtain ⟨hx, hb, hml, hown, hts⟩ := id F.1
  have hK := F.2.1.1
  obtain ⟨r, h⟩ : ∃ r, fX0_isCell a0 = r := ⟨_, rfl⟩
  rw [h]
  unfold fX0_isCell at h
  refine lv_iload_n hx hb dX0_isCell_0 rfl (lv_at hl 0 rfl) ?_
  refine lv_iconst (v := 0) hx hb dX0_isCell_1 (by decide) ?_
  refine lv_bipush (v := 63) hx hb dX0_isCell_2 (by decide) ?_
  refine x_backi (va_runS (As := [.int a0, .int 0, .int 63]) (rest := []) F.1 (mX0_in l E σ a0 0 63) (va_cwS 3 hts (lw_S q466 q467 q99 q468) rfl rfl rfl (by decide +kernel) ⟨Nat.le_of_ble_eq_true rfl, Nat.le_of_ble_eq_true rfl⟩) ⟨xPc.blind, F.pre hW hS [.int a0, .int 0, .int 63]⟩ rfl rfl hl.1 rfl (lv_room (Nat.le_of_ble_eq_true rfl)) dX0_isCell_4 ⟨Nat.le_refl _, Nat.le_refl _⟩) hS (fun H locs hW hS => ?_)
  subst h
  exact x_zret F hr hlk hW hS (by first | exact bX0_in _ _ _ | rfl) dX0_isCell_7
/-! WildBells.isHunter(I)Z -/
def fX0_isHunter (a0 : Int32) : Int32 :=
  (fX0_in a0 0 3)
theorem bX0_isHunter (a0 : Int32) : narrow .boolean (.int (fX0_isHunter a0)) = .int (fX0_isHunter a0) := by
  unfold fX0_isHunter
  first
    | (repeat' split) <;> rfl
    | exact bX0_in _ _ _
    | exact bX13_within _ _ _
    | ((repeat' split) <;> first | rfl | exact bX0_in _ _ _ | exact bX0_isKind _ | exact bX0_isCell _ | exact bX0_isWeight _)
    | ((repeat' split) <;> first | rfl | exact bX13_within _ _ _ | exact bX13_isKind _ | exact bX13_isCell _)
set_option maxHeartbeats 4000000 in
theorem mX0_isHunter (l : Launch) (E : xE) (σ : xM) (a0 : Int32) : Met l yX0_isHunter (ws_ yX0_isHunter cX0_isHunter 1 (some .boolean)) ({ frames := 1, cells := 0, slots := 0, locals := 22 } : Room) (xPc E σ [.int a0]) (xQc E (.returned (some (.int (fX0_isHunter a0)))) σ) 0 0 (xA E) := by
  refine x_of (C := RX0) (n := "isHunter") (d := "(I)Z") (r := (some .boolean)) (by decide) rfl (by first | decide | exact Nat.le_of_ble_eq_true rfl) ?_
  intro p e s m below meth c ls F hr hlk hW hS hl
  have hl : lv_has ls 1 [(0, .int a0)] := hl
  obtain ⟨hx, hb, hml, hown, hts⟩ := id F.1
  have hK := F.2.1.1
  obtain ⟨r, h⟩ : ∃ r, fX0_isHunter a0 = r := ⟨_, rfl⟩
  rw [h]
  unfold fX0_isHunter at h
  refine lv_iload_n hx hb dX0_isHunter_0 rfl (lv_at hl 0 rfl) ?_
  refine lv_iconst (v := 0) hx hb dX0_isHunter_1 (by decide) ?_
  refine lv_iconst (v := 3) hx hb dX0_isHunter_2 (by decide) ?_
  refine x_backi (va_runS (As := [.int a0, .int 0, .int 3]) (rest := []) F.1 (mX0_in l E σ a0 0 3) (va_cwS 3 hts (lw_S q466 q467 q99 q468) rfl rfl rfl (by decide +kernel) ⟨Nat.le_of_ble_eq_true rfl, Nat.le_of_ble_eq_true rfl⟩) ⟨xPc.blind, F.pre hW hS [.int a0, .int 0, .int 3]⟩ rfl rfl hl.1 rfl (lv_room (Nat.le_of_ble_eq_true rfl)) dX0_isHunter_3 ⟨Nat.le_refl _, Nat.le_refl _⟩) hS (fun H locs hW hS => ?_)
  subst h
  exact x_zret F hr hlk hW hS (by first | exact bX0_in _ _ _ | rfl) dX0_isHunter_6
/-! WildBells.isWeight(I)Z -/
def fX0_isWeight (a0 : Int32) : Int32 :=
  (fX0_in a0 1 99)
theorem bX0_isWeight (a0 : Int32) : narrow .boolean (.int (fX0_isWeight a0)) = .int (fX0_isWeight a0) := by
  unfold fX0_isWeight
  first
    | (repeat' split) <;> rfl
    | exact bX0_in _ _ _
    | exact bX13_within _ _ _
    | ((repeat' split) <;> first | rfl | exact bX0_in _ _ _ | exact bX0_isKind _ | exact bX0_isCell _ | exact bX0_isWeight _)
    | ((repeat' split) <;> first | rfl | exact bX13_within _ _ _ | exact bX13_isKind _ | exact bX13_isCell _)
set_option maxHeartbeats 4000000 in
theorem mX0_isWeight (l : Launch) (E : xE) (σ : xM) (a0 : Int32) : Met l yX0_isWeight (ws_ yX0_isWeight cX0_isWeight 1 (some .boolean)) ({ frames := 1, cells := 0, slots := 0, locals := 22 } : Room) (xPc E σ [.int a0]) (xQc E (.returned (some (.int (fX0_isWeight a0)))) σ) 0 0 (xA E) := by
  refine x_of (C := RX0) (n := "isWeight") (d := "(I)Z") (r := (some .boolean)) (by decide) rfl (by first | decide | exact Nat.le_of_ble_eq_true rfl) ?_
  intro p e s m below meth c ls F hr hlk hW hS hl
  have hl : lv_has ls 1 [(0, .int a0)] := hl
  obtain ⟨hx, hb, hml, hown, hts⟩ := id F.1
  have hK := F.2.1.1
  obtain ⟨r, h⟩ : ∃ r, fX0_isWeight a0 = r := ⟨_, rfl⟩
  rw [h]
  unfold fX0_isWeight at h
  refine lv_iload_n hx hb dX0_isWeight_0 rfl (lv_at hl 0 rfl) ?_
  refine lv_iconst (v := 1) hx hb dX0_isWeight_1 (by decide) ?_
  refine lv_bipush (v := 99) hx hb dX0_isWeight_2 (by decide) ?_
  refine x_backi (va_runS (As := [.int a0, .int 1, .int 99]) (rest := []) F.1 (mX0_in l E σ a0 1 99) (va_cwS 3 hts (lw_S q466 q467 q99 q468) rfl rfl rfl (by decide +kernel) ⟨Nat.le_of_ble_eq_true rfl, Nat.le_of_ble_eq_true rfl⟩) ⟨xPc.blind, F.pre hW hS [.int a0, .int 1, .int 99]⟩ rfl rfl hl.1 rfl (lv_room (Nat.le_of_ble_eq_true rfl)) dX0_isWeight_4 ⟨Nat.le_refl _, Nat.le_refl _⟩) hS (fun H locs hW hS => ?_)
  subst h
  exact x_zret F hr hlk hW hS (by first | exact bX0_in _ _ _ | rfl) dX0_isWeight_7
/-! WildBells.isTold(II)Z -/
def fX0_isTold (a0 : Int32) (a1 : Int32) : Int32 :=
  (if a0 = 0 then (fX0_isKind a1) else (if a0 = 1 then (fX0_isCell a1) else (if a0 = 2 then (fX0_in a1 0 11) else (if a0 = 3 then (fX0_isWeight a1) else (if a0 = 4 then (fX0_in a1 0 1) else 0)))))
theorem bX0_isTold (a0 a1 : Int32) : narrow .boolean (.int (fX0_isTold a0 a1)) = .int (fX0_isTold a0 a1) := by
  unfold fX0_isTold
  first
    | (repeat' split) <;> rfl
    | exact bX0_in _ _ _
    | exact bX13_within _ _ _
    | ((repeat' split) <;> first | rfl | exact bX0_in _ _ _ | exact bX0_isKind _ | exact bX0_isCell _ | exact bX0_isWeight _)
    | ((repeat' split) <;> first | rfl | exact bX13_within _ _ _ | exact bX13_isKind _ | exact bX13_isCell _)
set_option maxHeartbeats 4000000 in
theorem mX0_isTold (l : Launch) (E : xE) (σ : xM) (a0 : Int32) (a1 : Int32) : Met l yX0_isTold (ws_ yX0_isTold cX0_isTold 2 (some .boolean)) ({ frames := 2, cells := 0, slots := 0, locals := 42 } : Room) (xPc E σ [.int a0, .int a1]) (xQc E (.returned (some (.int (fX0_isTold a0 a1)))) σ) 0 0 (xA E) := by
  refine x_of (C := RX0) (n := "isTold") (d := "(II)Z") (r := (some .boolean)) (by decide) rfl (by first | decide | exact Nat.le_of_ble_eq_true rfl) ?_
  intro p e s m below meth c ls F hr hlk hW hS hl
  have hl : lv_has ls 2 [(0, .int a0), (1, .int a1)] := hl
  obtain ⟨hx, hb, hml, hown, hts⟩ := id F.1
  have hK := F.2.1.1
  obtain ⟨r, h⟩ : ∃ r, fX0_isTold a0 a1 = r := ⟨_, rfl⟩
  rw [h]
  unfold fX0_isTold at h
  refine lv_iload_n hx hb dX0_isTold_0 rfl (lv_at hl 0 rfl) ?_
  by_cases c1 : a0 = 0
  · rw [if_pos c1] at h
    refine lv_tableIn (tgt := 36) hx hb dX0_isTold_1 (by rw [c1]; decide) (by rw [c1]; decide) (by rw [c1]; rfl) (by decide) ?_
    refine lv_iload_n hx hb dX0_isTold_36 rfl (lv_at hl 1 rfl) ?_
    refine x_backi (va_runS (As := [.int a1]) (rest := []) F.1 (mX0_isKind l E σ a1) (va_cwS 1 hts (lw_S q526 q527 q99 q528) rfl rfl rfl (by decide +kernel) ⟨Nat.le_of_ble_eq_true rfl, Nat.le_of_ble_eq_true rfl⟩) ⟨xPc.blind, F.pre hW hS [.int a1]⟩ rfl rfl hl.1 rfl (lv_room (Nat.le_of_ble_eq_true rfl)) dX0_isTold_37 ⟨Nat.le_refl _, Nat.le_refl _⟩) hS (fun H locs hW hS => ?_)
    subst h
    exact x_zret F hr hlk hW hS (by first | exact bX0_isKind _ | rfl) dX0_isTold_40
  · rw [if_neg c1] at h
    by_cases c2 : a0 = 1
    · rw [if_pos c2] at h
      refine lv_tableIn (tgt := 41) hx hb dX0_isTold_1 (by rw [c2]; decide) (by rw [c2]; decide) (by rw [c2]; rfl) (by decide) ?_
      refine lv_iload_n hx hb dX0_isTold_41 rfl (lv_at hl 1 rfl) ?_
      refine x_backi (va_runS (As := [.int a1]) (rest := []) F.1 (mX0_isCell l E σ a1) (va_cwS 1 hts (lw_S q463 q464 q99 q465) rfl rfl rfl (by decide +kernel) ⟨Nat.le_of_ble_eq_true rfl, Nat.le_of_ble_eq_true rfl⟩) ⟨xPc.blind, F.pre hW hS [.int a1]⟩ rfl rfl hl.1 rfl (lv_room (Nat.le_of_ble_eq_true rfl)) dX0_isTold_42 ⟨Nat.le_refl _, Nat.le_refl _⟩) hS (fun H locs hW hS => ?_)
      subst h
      exact x_zret F hr hlk hW hS (by first | exact bX0_isCell _ | rfl) dX0_isTold_45
    · rw [if_neg c2] at h
      by_cases c3 : a0 = 2
      · rw [if_pos c3] at h
        refine lv_tableIn (tgt := 46) hx hb dX0_isTold_1 (by rw [c3]; decide) (by rw [c3]; decide) (by rw [c3]; rfl) (by decide) ?_
        refine lv_iload_n hx hb dX0_isTold_46 rfl (lv_at hl 1 rfl) ?_
        refine lv_iconst (v := 0) hx hb dX0_isTold_47 (by decide) ?_
        refine lv_bipush (v := 11) hx hb dX0_isTold_48 (by decide) ?_
        refine x_backi (va_runS (As := [.int a1, .int 0, .int 11]) (rest := []) F.1 (mX0_in l E σ a1 0 11) (va_cwS 3 hts (lw_S q466 q467 q99 q468) rfl rfl rfl (by decide +kernel) ⟨Nat.le_of_ble_eq_true rfl, Nat.le_of_ble_eq_true rfl⟩) ⟨xPc.blind, F.pre hW hS [.int a1, .int 0, .int 11]⟩ rfl rfl hl.1 rfl (lv_room (Nat.le_of_ble_eq_true rfl)) dX0_isTold_50 ⟨Nat.le_refl _, Nat.le_refl _⟩) hS (fun H locs hW hS => ?_)
        subst h
        exact x_zret F hr hlk hW hS (by first | exact bX0_in _ _ _ | rfl) dX0_isTold_53
      · rw [if_neg c3] at h
        by_cases c4 : a0 = 3
        · rw [if_pos c4] at h
          refine lv_tableIn (tgt := 54) hx hb dX0_isTold_1 (by rw [c4]; decide) (by rw [c4]; decide) (by rw [c4]; rfl) (by decide) ?_
          refine lv_iload_n hx hb dX0_isTold_54 rfl (lv_at hl 1 rfl) ?_
          refine x_backi (va_runS (As := [.int a1]) (rest := []) F.1 (mX0_isWeight l E σ a1) (va_cwS 1 hts (lw_S q689 q690 q99 q691) rfl rfl rfl (by decide +kernel) ⟨Nat.le_of_ble_eq_true rfl, Nat.le_of_ble_eq_true rfl⟩) ⟨xPc.blind, F.pre hW hS [.int a1]⟩ rfl rfl hl.1 rfl (lv_room (Nat.le_of_ble_eq_true rfl)) dX0_isTold_55 ⟨Nat.le_refl _, Nat.le_refl _⟩) hS (fun H locs hW hS => ?_)
          subst h
          exact x_zret F hr hlk hW hS (by first | exact bX0_isWeight _ | rfl) dX0_isTold_58
        · rw [if_neg c4] at h
          by_cases c5 : a0 = 4
          · rw [if_pos c5] at h
            refine lv_tableIn (tgt := 59) hx hb dX0_isTold_1 (by rw [c5]; decide) (by rw [c5]; decide) (by rw [c5]; rfl) (by decide) ?_
            refine lv_iload_n hx hb dX0_isTold_59 rfl (lv_at hl 1 rfl) ?_
            refine lv_iconst (v := 0) hx hb dX0_isTold_60 (by decide) ?_
            refine lv_iconst (v := 1) hx hb dX0_isTold_61 (by decide) ?_
            refine x_backi (va_runS (As := [.int a1, .int 0, .int 1]) (rest := []) F.1 (mX0_in l E σ a1 0 1) (va_cwS 3 hts (lw_S q466 q467 q99 q468) rfl rfl rfl (by decide +kernel) ⟨Nat.le_of_ble_eq_true rfl, Nat.le_of_ble_eq_true rfl⟩) ⟨xPc.blind, F.pre hW hS [.int a1, .int 0, .int 1]⟩ rfl rfl hl.1 rfl (lv_room (Nat.le_of_ble_eq_true rfl)) dX0_isTold_62 ⟨Nat.le_refl _, Nat.le_refl _⟩) hS (fun H locs hW hS => ?_)
            subst h
            exact x_zret F hr hlk hW hS (by first | exact bX0_in _ _ _ | rfl) dX0_isTold_65
          · rw [if_neg c5] at h
            refine lv_tableOut (tgt := 66) hx hb dX0_isTold_1 (by have := lv_neT (a := 0) c1 rfl; have := lv_neT (a := 1) c2 rfl; have := lv_neT (a := 2) c3 rfl; have := lv_neT (a := 3) c4 rfl; have := lv_neT (a := 4) c5 rfl; omega) (by decide) ?_
            refine lv_iconst (v := 0) hx hb dX0_isTold_66 (by decide) ?_
            subst h
            exact x_zret F hr hlk hW hS rfl dX0_isTold_67
/-! WildBells.apart(II)I -/
def fX0_apart (a0 : Int32) (a1 : Int32) : Int32 :=
  ((fJ3_abs ((a0 / 8) - (a1 / 8))) + (fJ3_abs ((a0 - a0 / 8 * 8) - (a1 - a1 / 8 * 8))))
set_option maxHeartbeats 4000000 in
theorem mX0_apart (l : Launch) (E : xE) (σ : xM) (a0 : Int32) (a1 : Int32) : Met l yX0_apart (ws_ yX0_apart cX0_apart 2 (some .int)) ({ frames := 1, cells := 0, slots := 0, locals := 20 } : Room) (xPc E σ [.int a0, .int a1]) (xQc E (.returned (some (.int (fX0_apart a0 a1)))) σ) 0 0 (xA E) := by
  refine x_of (C := RX0) (n := "apart") (d := "(II)I") (r := (some .int)) (by decide) rfl (by first | decide | exact Nat.le_of_ble_eq_true rfl) ?_
  intro p e s m below meth c ls F hr hlk hW hS hl
  have hl : lv_has ls 2 [(0, .int a0), (1, .int a1)] := hl
  obtain ⟨hx, hb, hml, hown, hts⟩ := id F.1
  have hK := F.2.1.1
  obtain ⟨r, h⟩ : ∃ r, fX0_apart a0 a1 = r := ⟨_, rfl⟩
  rw [h]
  unfold fX0_apart at h
  refine lv_iload_n hx hb dX0_apart_0 rfl (lv_at hl 0 rfl) ?_
  refine lv_bipush (v := 8) hx hb dX0_apart_1 (by decide) ?_
  refine lv_idiv hx hb dX0_apart_3 (by decide) ?_
  refine lv_iload_n hx hb dX0_apart_4 rfl (lv_at hl 1 rfl) ?_
  refine lv_bipush (v := 8) hx hb dX0_apart_5 (by decide) ?_
  refine lv_idiv hx hb dX0_apart_7 (by decide) ?_
  refine lv_isub hx hb dX0_apart_8 ?_
  refine x_backi (va_runS (As := [.int ((a0 / 8) - (a1 / 8))]) (rest := []) F.1 (mJ3_abs l E σ ((a0 / 8) - (a1 / 8))) (va_cwS 1 hts (lw_S q497 q498 q116 q499) rfl rfl rfl (by decide +kernel) ⟨Nat.le_of_ble_eq_true rfl, Nat.le_of_ble_eq_true rfl⟩) ⟨xPc.blind, F.pre hW hS [.int ((a0 / 8) - (a1 / 8))]⟩ rfl rfl hl.1 rfl (lv_room (Nat.le_of_ble_eq_true rfl)) dX0_apart_9 ⟨Nat.le_refl _, Nat.le_refl _⟩) hS (fun H locs hW hS => ?_)
  refine lv_iload_n hx hb dX0_apart_12 rfl (lv_at hl 0 rfl) ?_
  refine lv_bipush (v := 8) hx hb dX0_apart_13 (by decide) ?_
  refine lv_irem hx hb dX0_apart_15 (by decide) ?_
  refine lv_iload_n hx hb dX0_apart_16 rfl (lv_at hl 1 rfl) ?_
  refine lv_bipush (v := 8) hx hb dX0_apart_17 (by decide) ?_
  refine lv_irem hx hb dX0_apart_19 (by decide) ?_
  refine lv_isub hx hb dX0_apart_20 ?_
  refine x_backi (va_runS (As := [.int ((a0 - a0 / 8 * 8) - (a1 - a1 / 8 * 8))]) (rest := [.int (fJ3_abs ((a0 / 8) - (a1 / 8)))]) F.1 (mJ3_abs l E σ ((a0 - a0 / 8 * 8) - (a1 - a1 / 8 * 8))) (va_cwS 1 hts (lw_S q497 q498 q116 q499) rfl rfl rfl (by decide +kernel) ⟨Nat.le_of_ble_eq_true rfl, Nat.le_of_ble_eq_true rfl⟩) ⟨xPc.blind, F.pre hW hS [.int ((a0 - a0 / 8 * 8) - (a1 - a1 / 8 * 8))]⟩ rfl rfl hl.1 rfl (lv_room (Nat.le_of_ble_eq_true rfl)) dX0_apart_21 ⟨Nat.le_refl _, Nat.le_refl _⟩) hS (fun H locs hW hS => ?_)
  refine lv_iadd hx hb dX0_apart_24 ?_
  subst h
  exact x_iret F hr hlk hW hS dX0_apart_25
/-! WildBells.beside(II)I -/
def fX0_beside (a0 : Int32) (a1 : Int32) : Int32 :=
  (if a1 = 0 then (if a0 < 8 then (-1) else (a0 - 8)) else (if a1 = 1 then (if 7 ≤ (a0 - a0 / 8 * 8) then (-1) else (a0 + 1)) else (if a1 = 2 then (if 56 ≤ a0 then (-1) else (a0 + 8)) else (if (a0 - a0 / 8 * 8) ≤ 0 then (-1) else (a0 - 1)))))
set_option maxHeartbeats 4000000 in
theorem mX0_beside (l : Launch) (E : xE) (σ : xM) (a0 : Int32) (a1 : Int32) : Met l yX0_beside (ws_ yX0_beside cX0_beside 2 (some .int)) ({ frames := 0, cells := 0, slots := 0, locals := 0 } : Room) (xPc E σ [.int a0, .int a1]) (xQc E (.returned (some (.int (fX0_beside a0 a1)))) σ) 0 0 (xA E) := by
  refine x_of (C := RX0) (n := "beside") (d := "(II)I") (r := (some .int)) (by decide) rfl (by first | decide | exact Nat.le_of_ble_eq_true rfl) ?_
  intro p e s m below meth c ls F hr hlk hW hS hl
  have hl : lv_has ls 2 [(0, .int a0), (1, .int a1)] := hl
  obtain ⟨hx, hb, hml, hown, hts⟩ := id F.1
  have hK := F.2.1.1
  obtain ⟨r, h⟩ : ∃ r, fX0_beside a0 a1 = r := ⟨_, rfl⟩
  rw [h]
  unfold fX0_beside at h
  refine lv_iload_n hx hb dX0_beside_0 rfl (lv_at hl 1 rfl) ?_
  by_cases c1 : a1 = 0
  · rw [if_pos c1] at h
    refine lv_tableIn (tgt := 28) hx hb dX0_beside_1 (by rw [c1]; decide) (by rw [c1]; decide) (by rw [c1]; rfl) (by decide) ?_
    refine lv_iload_n hx hb dX0_beside_28 rfl (lv_at hl 0 rfl) ?_
    refine lv_bipush (v := 8) hx hb dX0_beside_29 (by decide) ?_
    refine lv_icmp_lt (tgt := 41) hx hb dX0_beside_31 (by decide) (fun c2 => ?_) (fun c2 => ?_)
    · rw [if_pos c2] at h
      refine lv_iconst (v := (-1)) hx hb dX0_beside_41 (by decide) ?_
      subst h
      exact x_iret F hr hlk hW hS dX0_beside_42
    · rw [if_neg c2] at h
      refine lv_iload_n hx hb dX0_beside_34 rfl (lv_at hl 0 rfl) ?_
      refine lv_bipush (v := 8) hx hb dX0_beside_35 (by decide) ?_
      refine lv_isub hx hb dX0_beside_37 ?_
      refine lv_goto (tgt := 42) hx hb dX0_beside_38 (by decide) ?_
      subst h
      exact x_iret F hr hlk hW hS dX0_beside_42
  · rw [if_neg c1] at h
    by_cases c3 : a1 = 1
    · rw [if_pos c3] at h
      refine lv_tableIn (tgt := 43) hx hb dX0_beside_1 (by rw [c3]; decide) (by rw [c3]; decide) (by rw [c3]; rfl) (by decide) ?_
      refine lv_iload_n hx hb dX0_beside_43 rfl (lv_at hl 0 rfl) ?_
      refine lv_bipush (v := 8) hx hb dX0_beside_44 (by decide) ?_
      refine lv_irem hx hb dX0_beside_46 (by decide) ?_
      refine lv_bipush (v := 7) hx hb dX0_beside_47 (by decide) ?_
      refine lv_icmp_ge (tgt := 58) hx hb dX0_beside_49 (by decide) (fun c4 => ?_) (fun c4 => ?_)
      · rw [if_pos c4] at h
        refine lv_iconst (v := (-1)) hx hb dX0_beside_58 (by decide) ?_
        subst h
        exact x_iret F hr hlk hW hS dX0_beside_59
      · rw [if_neg c4] at h
        refine lv_iload_n hx hb dX0_beside_52 rfl (lv_at hl 0 rfl) ?_
        refine lv_iconst (v := 1) hx hb dX0_beside_53 (by decide) ?_
        refine lv_iadd hx hb dX0_beside_54 ?_
        refine lv_goto (tgt := 59) hx hb dX0_beside_55 (by decide) ?_
        subst h
        exact x_iret F hr hlk hW hS dX0_beside_59
    · rw [if_neg c3] at h
      by_cases c5 : a1 = 2
      · rw [if_pos c5] at h
        refine lv_tableIn (tgt := 60) hx hb dX0_beside_1 (by rw [c5]; decide) (by rw [c5]; decide) (by rw [c5]; rfl) (by decide) ?_
        refine lv_iload_n hx hb dX0_beside_60 rfl (lv_at hl 0 rfl) ?_
        refine lv_bipush (v := 56) hx hb dX0_beside_61 (by decide) ?_
        refine lv_icmp_ge (tgt := 73) hx hb dX0_beside_63 (by decide) (fun c6 => ?_) (fun c6 => ?_)
        · rw [if_pos c6] at h
          refine lv_iconst (v := (-1)) hx hb dX0_beside_73 (by decide) ?_
          subst h
          exact x_iret F hr hlk hW hS dX0_beside_74
        · rw [if_neg c6] at h
          refine lv_iload_n hx hb dX0_beside_66 rfl (lv_at hl 0 rfl) ?_
          refine lv_bipush (v := 8) hx hb dX0_beside_67 (by decide) ?_
          refine lv_iadd hx hb dX0_beside_69 ?_
          refine lv_goto (tgt := 74) hx hb dX0_beside_70 (by decide) ?_
          subst h
          exact x_iret F hr hlk hW hS dX0_beside_74
      · rw [if_neg c5] at h
        refine lv_tableOut (tgt := 75) hx hb dX0_beside_1 (by have := lv_neT (a := 0) c1 rfl; have := lv_neT (a := 1) c3 rfl; have := lv_neT (a := 2) c5 rfl; omega) (by decide) ?_
        refine lv_iload_n hx hb dX0_beside_75 rfl (lv_at hl 0 rfl) ?_
        refine lv_bipush (v := 8) hx hb dX0_beside_76 (by decide) ?_
        refine lv_irem hx hb dX0_beside_78 (by decide) ?_
        refine lv_if_le (tgt := 88) hx hb dX0_beside_79 (by decide) (fun c7 => ?_) (fun c7 => ?_)
        · rw [if_pos c7] at h
          refine lv_iconst (v := (-1)) hx hb dX0_beside_88 (by decide) ?_
          subst h
          exact x_iret F hr hlk hW hS dX0_beside_89
        · rw [if_neg c7] at h
          refine lv_iload_n hx hb dX0_beside_82 rfl (lv_at hl 0 rfl) ?_
          refine lv_iconst (v := 1) hx hb dX0_beside_83 (by decide) ?_
          refine lv_isub hx hb dX0_beside_84 ?_
          refine lv_goto (tgt := 89) hx hb dX0_beside_85 (by decide) ?_
          subst h
          exact x_iret F hr hlk hW hS dX0_beside_89
/-! WildBells.loudBy(II)I -/
def fX0_loudBy (a0 : Int32) (a1 : Int32) : Int32 :=
  (fJ3_max 0 (a0 - (3 * a1)))
set_option maxHeartbeats 4000000 in
theorem mX0_loudBy (l : Launch) (E : xE) (σ : xM) (a0 : Int32) (a1 : Int32) : Met l yX0_loudBy (ws_ yX0_loudBy cX0_loudBy 2 (some .int)) ({ frames := 1, cells := 0, slots := 0, locals := 21 } : Room) (xPc E σ [.int a0, .int a1]) (xQc E (.returned (some (.int (fX0_loudBy a0 a1)))) σ) 0 0 (xA E) := by
  refine x_of (C := RX0) (n := "loudBy") (d := "(II)I") (r := (some .int)) (by decide) rfl (by first | decide | exact Nat.le_of_ble_eq_true rfl) ?_
  intro p e s m below meth c ls F hr hlk hW hS hl
  have hl : lv_has ls 2 [(0, .int a0), (1, .int a1)] := hl
  obtain ⟨hx, hb, hml, hown, hts⟩ := id F.1
  have hK := F.2.1.1
  obtain ⟨r, h⟩ : ∃ r, fX0_loudBy a0 a1 = r := ⟨_, rfl⟩
  rw [h]
  unfold fX0_loudBy at h
  refine lv_iconst (v := 0) hx hb dX0_loudBy_0 (by decide) ?_
  refine lv_iload_n hx hb dX0_loudBy_1 rfl (lv_at hl 0 rfl) ?_
  refine lv_iconst (v := 3) hx hb dX0_loudBy_2 (by decide) ?_
  refine lv_iload_n hx hb dX0_loudBy_3 rfl (lv_at hl 1 rfl) ?_
  refine lv_imul hx hb dX0_loudBy_4 ?_
  refine lv_isub hx hb dX0_loudBy_5 ?_
  refine x_backi (va_runS (As := [.int 0, .int (a0 - (3 * a1))]) (rest := []) F.1 (mJ3_max l E σ 0 (a0 - (3 * a1))) (va_cwS 2 hts (lw_S q503 q504 q116 q505) rfl rfl rfl (by decide +kernel) ⟨Nat.le_of_ble_eq_true rfl, Nat.le_of_ble_eq_true rfl⟩) ⟨xPc.blind, F.pre hW hS [.int 0, .int (a0 - (3 * a1))]⟩ rfl rfl hl.1 rfl (lv_room (Nat.le_of_ble_eq_true rfl)) dX0_loudBy_6 ⟨Nat.le_refl _, Nat.le_refl _⟩) hS (fun H locs hW hS => ?_)
  subst h
  exact x_iret F hr hlk hW hS dX0_loudBy_9
/-! WildBells$World.isCaught(I)Z -/
def fX4_isCaught (σ : xM) (w : Nat) (a1 : Int32) : Option Int32 :=
  if xin a1 8 then (if (σ w (146 + 5 * a1.toNatClampNeg + 4)) = 1 then (some 1) else (some 0)) else none
set_option maxHeartbeats 4000000 in
theorem mX4_isCaught (l : Launch) (E : xE) (σ : xM) (w : Nat) (hw : w < 4) (a1 : Int32) (r : Int32) (h : fX4_isCaught σ w a1 = some r) : Met l yX4_isCaught (ws_ yX4_isCaught cX4_isCaught 2 (some .boolean)) ({ frames := 0, cells := 0, slots := 0, locals := 0 } : Room) (xPc E σ [.ref (xa E (xwc w 0)), .int a1]) (xQc E (.returned (some (.int r))) σ) 0 0 (xA E) := by
  refine x_of (C := RX4) (n := "isCaught") (d := "(I)Z") (r := (some .boolean)) (by decide) rfl (by first | decide | exact Nat.le_of_ble_eq_true rfl) ?_
  intro p e s m below meth c ls F hr hlk hW hS hl
  have hl : lv_has ls 2 [(0, .ref (xa E (xwc w 0))), (1, .int a1)] := hl
  obtain ⟨hx, hb, hml, hown, hts⟩ := id F.1
  have hK := F.2.1.1
  unfold fX4_isCaught at h
  refine lv_aload_n hx hb dX4_isCaught_0 rfl (lv_at hl 0 rfl) ?_
  refine va_get (D := xD E) (ci := 4) (v := .ref (xa E (xwc w 5))) (C := RX4) (T := TX4) (N := 8) hx hb hts in_X4 hown hK (xO_W hW w hw) 0 rfl rfl 4 (by decide) (hts _ q242) (fun _ h9 => h9) rfl dX4_isCaught_1 ?_
  refine lv_iconst (v := 4) hx hb dX4_isCaught_4 (by decide) ?_
  refine x_aald (g := fun j => xa E (xwc w (6 + j))) (j := 4) F 4 4 5 (xR_5 hW w hw) rfl rfl (x_lit (by decide)) (by decide) dX4_isCaught_5 ?_
  refine lv_iload_n hx hb dX4_isCaught_6 rfl (lv_at hl 1 rfl) ?_
  by_cases hi1 : xin a1 8
  · rw [if_pos hi1] at h
    refine va_iald hx hb hK (xV_6 hW w 4 hw (by decide)) 0 0 rfl rfl hi1 dX4_isCaught_7 ?_
    refine lv_iconst (v := 1) hx hb dX4_isCaught_8 (by decide) ?_
    refine lv_icmp_ne (tgt := 16) hx hb dX4_isCaught_9 (by decide) (fun c2 => ?_) (fun c2 => ?_)
    · rw [if_neg c2] at h
      refine lv_iconst (v := 0) hx hb dX4_isCaught_16 (by decide) ?_
      cases h
      exact x_zret F hr hlk hW hS rfl dX4_isCaught_17
    · rw [if_pos c2] at h
      refine lv_iconst (v := 1) hx hb dX4_isCaught_12 (by decide) ?_
      refine lv_goto (tgt := 17) hx hb dX4_isCaught_13 (by decide) ?_
      cases h
      exact x_zret F hr hlk hW hS rfl dX4_isCaught_17
  · rw [if_neg hi1] at h; cases h
/-! WildBells$World.whoIsCaught()I -/
def gX4_whoIsCaught_4 (σ : xM) (w : Nat) : Nat → Int32 → Int32 → Option (Int32 × Int32)
  | 0, _, _ => none
  | n + 1, x1, x2 => if (σ w 2) ≤ x2 then (some (x1, x2)) else ((fX4_isCaught σ w x2).bind (fun r3 => if r3 = 0 then (gX4_whoIsCaught_4 σ w n (x1 ||| 0) (x2 + 1)) else (gX4_whoIsCaught_4 σ w n (x1 ||| (1 <<< (x2 &&& 31))) (x2 + 1))))
def fX4_whoIsCaught (σ : xM) (w : Nat) : Option Int32 :=
  (gX4_whoIsCaught_4 σ w xfu 0 0).bind (fun q6 => some q6.1)
set_option maxHeartbeats 4000000 in
theorem lX4_whoIsCaught_4 {p : Program} {l : Launch} {e : Env} {s : State} {m : MethodId} {av : Array Value} {below : List Frame} {meth : Method} {c : Code} {Q : State → Prop} {E : xE} {σ : xM} {w : Nat} (hw : w < 4) (F : xFx p m c cX4_whoIsCaught 3 s av RX4 E) : ∀ (n : Nat) (x1 : Int32) (x2 : Int32) (q : (Int32 × Int32)), gX4_whoIsCaught_4 σ w n x1 x2 = some q → ∀ (H : Heap) (locs : List Loc) (ls : Array Slot), xW E σ H → va_S (xA E) s.heap H locs → lv_has ls 3 [(2, .int x2), (1, .int x1), (0, .ref (xa E (xwc w 0)))] → (∀ (H : Heap) (locs : List Loc) (ls : Array Slot), xW E σ H → va_S (xA E) s.heap H locs → lv_has ls 3 [(2, .int q.2), (1, .int q.1), (0, .ref (xa E (xwc w 0)))] → W p l e ({ frames := 1, cells := 0, slots := 0, locals := 21 } : Room) s m av below meth c H locs 0 0 Q (F0 m 36 ls [])) → W p l e ({ frames := 1, cells := 0, slots := 0, locals := 21 } : Room) s m av below meth c H locs 0 0 Q (F0 m 4 ls []) := by
  obtain ⟨hx, hb, hml, hown, hts⟩ := id F.1
  have hK := F.2.1.1
  intro n
  induction n with
  | zero =>
    intro x1 x2 q h
    cases h
  | succ n ih =>
    intro x1 x2 q h H locs ls hW hS hl kk
    rw [gX4_whoIsCaught_4] at h
    refine lv_iload_n hx hb dX4_whoIsCaught_4 rfl (lv_at hl 0 rfl) ?_
    refine lv_aload_n hx hb dX4_whoIsCaught_5 rfl (lv_at hl 2 rfl) ?_
    refine va_get (D := xD E) (ci := 4) (v := .int (σ w 2)) (C := RX4) (T := TX4) (N := 8) hx hb hts in_X4 hown hK (xO_W hW w hw) 0 rfl rfl 3 (by decide) (hts _ q239) (fun _ h9 => h9) rfl dX4_whoIsCaught_6 ?_
    refine lv_icmp_ge (tgt := 36) hx hb dX4_whoIsCaught_9 (by decide) (fun c1 => ?_) (fun c1 => ?_)
    · rw [if_pos c1] at h
      cases h
      exact kk _ _ _ hW hS (lv_sub hl [0, 1, 2] rfl)
    · rw [if_neg c1] at h
      refine lv_iload_n hx hb dX4_whoIsCaught_12 rfl (lv_at hl 1 rfl) ?_
      refine lv_aload_n hx hb dX4_whoIsCaught_13 rfl (lv_at hl 2 rfl) ?_
      refine lv_iload_n hx hb dX4_whoIsCaught_14 rfl (lv_at hl 0 rfl) ?_
      cases g2 : fX4_isCaught σ w x2 with
      | none => rw [g2] at h; cases h
      | some r3 =>
        rw [g2, Option.bind_some] at h
        refine x_backi (va_runV (C := RX4) (b := (xa E (xwc w 0))) (As := [.int x2]) (rest := [.int x1]) F.1 (mX4_isCaught l E σ w hw x2 r3 g2) (cwV 1 hts (lw_V q486 q487 q488 q106 q489) rfl rfl rfl (by decide +kernel) ⟨Nat.le_of_ble_eq_true rfl, Nat.le_of_ble_eq_true rfl⟩) ⟨xPc.blind, va_recv hK (xO_W hW w hw) (ci := 4) (q0 := 0) rfl rfl, F.pre hW hS (.ref (xa E (xwc w 0)) :: [.int x2])⟩ rfl rfl hl.1 rfl (lv_room (Nat.le_of_ble_eq_true rfl)) dX4_whoIsCaught_15 ⟨Nat.le_refl _, Nat.le_refl _⟩) hS (fun H locs hW hS => ?_)
        refine lv_if_eq (tgt := 27) hx hb dX4_whoIsCaught_18 (by decide) (fun c4 => ?_) (fun c4 => ?_)
        · rw [if_pos c4] at h
          refine lv_iconst (v := 0) hx hb dX4_whoIsCaught_27 (by decide) ?_
          refine lv_ior hx hb dX4_whoIsCaught_28 ?_
          refine lv_istore_n (lv' := [(1, .int (x1 ||| 0)), (2, .int x2), (0, .ref (xa E (xwc w 0)))]) hx hb dX4_whoIsCaught_29 rfl hl (by decide) rfl (fun ls hl => ?_)
          refine lv_iinc (k := 1) (v := (x2 + 1)) (lv' := [(2, .int (x2 + 1)), (1, .int (x1 ||| 0)), (0, .ref (xa E (xwc w 0)))]) hx hb dX4_whoIsCaught_30 hl rfl rfl (by decide) rfl (fun ls hl => ?_)
          refine lv_goto (tgt := 4) hx hb dX4_whoIsCaught_33 (by decide) ?_
          exact ih (x1 ||| 0) (x2 + 1) _ h _ _ _ hW hS (lv_sub hl [0, 1, 2] rfl) kk
        · rw [if_neg c4] at h
          refine lv_iconst (v := 1) hx hb dX4_whoIsCaught_21 (by decide) ?_
          refine lv_iload_n hx hb dX4_whoIsCaught_22 rfl (lv_at hl 0 rfl) ?_
          refine lv_ishl hx hb dX4_whoIsCaught_23 ?_
          refine lv_goto (tgt := 28) hx hb dX4_whoIsCaught_24 (by decide) ?_
          refine lv_ior hx hb dX4_whoIsCaught_28 ?_
          refine lv_istore_n (lv' := [(1, .int (x1 ||| (1 <<< (x2 &&& 31)))), (2, .int x2), (0, .ref (xa E (xwc w 0)))]) hx hb dX4_whoIsCaught_29 rfl hl (by decide) rfl (fun ls hl => ?_)
          refine lv_iinc (k := 1) (v := (x2 + 1)) (lv' := [(2, .int (x2 + 1)), (1, .int (x1 ||| (1 <<< (x2 &&& 31)))), (0, .ref (xa E (xwc w 0)))]) hx hb dX4_whoIsCaught_30 hl rfl rfl (by decide) rfl (fun ls hl => ?_)
          refine lv_goto (tgt := 4) hx hb dX4_whoIsCaught_33 (by decide) ?_
          exact ih (x1 ||| (1 <<< (x2 &&& 31))) (x2 + 1) _ h _ _ _ hW hS (lv_sub hl [0, 1, 2] rfl) kk
set_option maxHeartbeats 4000000 in
theorem mX4_whoIsCaught (l : Launch) (E : xE) (σ : xM) (w : Nat) (hw : w < 4) (r : Int32) (h : fX4_whoIsCaught σ w = some r) : Met l yX4_whoIsCaught (ws_ yX4_whoIsCaught cX4_whoIsCaught 3 (some .int)) ({ frames := 1, cells := 0, slots := 0, locals := 21 } : Room) (xPc E σ [.ref (xa E (xwc w 0))]) (xQc E (.returned (some (.int r))) σ) 0 0 (xA E) := by
  refine x_of (C := RX4) (n := "whoIsCaught") (d := "()I") (r := (some .int)) (by decide) rfl (by first | decide | exact Nat.le_of_ble_eq_true rfl) ?_
  intro p e s m below meth c ls F hr hlk hW hS hl
  have hl : lv_has ls 3 [(0, .ref (xa E (xwc w 0)))] := hl
  obtain ⟨hx, hb, hml, hown, hts⟩ := id F.1
  have hK := F.2.1.1
  unfold fX4_whoIsCaught at h
  refine lv_iconst (v := 0) hx hb dX4_whoIsCaught_0 (by decide) ?_
  refine lv_istore_n (lv' := [(1, .int 0), (0, .ref (xa E (xwc w 0)))]) hx hb dX4_whoIsCaught_1 rfl hl (by decide) rfl (fun ls hl => ?_)
  refine lv_iconst (v := 0) hx hb dX4_whoIsCaught_2 (by decide) ?_
  refine lv_istore_n (lv' := [(2, .int 0), (1, .int 0), (0, .ref (xa E (xwc w 0)))]) hx hb dX4_whoIsCaught_3 rfl hl (by decide) rfl (fun ls hl => ?_)
  cases g5 : gX4_whoIsCaught_4 σ w xfu 0 0 with
  | none => rw [g5] at h; cases h
  | some q6 =>
    rw [g5, Option.bind_some] at h
    refine lX4_whoIsCaught_4 hw F xfu 0 0 q6 g5 _ _ _ hW hS (lv_sub hl [0, 1, 2] rfl) (fun H locs ls hW hS hl => ?_)
    refine lv_iload_n hx hb dX4_whoIsCaught_36 rfl (lv_at hl 1 rfl) ?_
    cases h
    exact x_iret F hr hlk hW hS dX4_whoIsCaught_37
/-! WildBells$World.draw()I -/
def fX4_draw (σ : xM) (w : Nat) : Option (Int32 × xM) :=
  some ((((((xup σ w 3 (((σ w 3) * 1103515245) + 12345)) w 3) : Int32).toUInt32 >>> ((8 : Int32).toUInt32 &&& Int32.toUInt32 31)).toInt32), (xup σ w 3 (((σ w 3) * 1103515245) + 12345)))
set_option maxHeartbeats 4000000 in
theorem mX4_draw (l : Launch) (E : xE) (σ : xM) (w : Nat) (hw : w < 4) (r : Int32) (σ' : xM) (h : fX4_draw σ w = some (r, σ')) : Met l yX4_draw (ws_ yX4_draw cX4_draw 1 (some .int)) ({ frames := 0, cells := 0, slots := 0, locals := 0 } : Room) (xPc E σ [.ref (xa E (xwc w 0))]) (xQc E (.returned (some (.int r))) σ') 0 0 (xA E) := by
  refine x_of (C := RX4) (n := "draw") (d := "()I") (r := (some .int)) (by decide) rfl (by first | decide | exact Nat.le_of_ble_eq_true rfl) ?_
  intro p e s m below meth c ls F hr hlk hW hS hl
  have hl : lv_has ls 1 [(0, .ref (xa E (xwc w 0)))] := hl
  obtain ⟨hx, hb, hml, hown, hts⟩ := id F.1
  have hK := F.2.1.1
  unfold fX4_draw at h
  refine lv_aload_n hx hb dX4_draw_0 rfl (lv_at hl 0 rfl) ?_
  refine lv_aload_n hx hb dX4_draw_1 rfl (lv_at hl 0 rfl) ?_
  refine va_get (D := xD E) (ci := 4) (v := .int (σ w 3)) (C := RX4) (T := TX4) (N := 8) hx hb hts in_X4 hown hK (xO_W hW w hw) 0 rfl rfl 6 (by decide) (hts _ q247) (fun _ h9 => h9) rfl dX4_draw_2 ?_
  refine lv_ldc (v := 1103515245) hx hb hown (hts _ q973) dX4_draw_5 ?_
  refine lv_imul hx hb dX4_draw_7 ?_
  refine lv_sipush (v := 12345) hx hb dX4_draw_8 (by decide) ?_
  refine lv_iadd hx hb dX4_draw_11 ?_
  refine x_put (C := RX4) (T := TX4) (N := 8) (ci := 4) (ty := .int) F hW hS in_X4 tyX4 tyX4_ok nmX4 rfl (xwc w 0) 6 w 3 (xw_lt w hw 0 (by decide)) (xw_0 w hw).1 (by decide) (xw_0 w hw).2.2.2.2.2.2.2.1 (Or.inl (by omega)) (hts _ q247) (fun _ h9 => h9) rfl (by decide +kernel) rfl rfl dX4_draw_12 (fun H locs hW hS => ?_)
  refine lv_aload_n hx hb dX4_draw_15 rfl (lv_at hl 0 rfl) ?_
  refine va_get (D := xD E) (ci := 4) (v := .int ((xup σ w 3 (((σ w 3) * 1103515245) + 12345)) w 3)) (C := RX4) (T := TX4) (N := 8) hx hb hts in_X4 hown hK (xO_W hW w hw) 0 rfl rfl 6 (by decide) (hts _ q247) (fun _ h9 => h9) rfl dX4_draw_16 ?_
  refine lv_bipush (v := 8) hx hb dX4_draw_19 (by decide) ?_
  refine lv_iushr (v := ((((xup σ w 3 (((σ w 3) * 1103515245) + 12345)) w 3) : Int32).toUInt32 >>> ((8 : Int32).toUInt32 &&& Int32.toUInt32 31)).toInt32) hx hb dX4_draw_21 rfl ?_
  cases h
  exact x_iret F hr hlk hW hS dX4_draw_22
/-! WildBells$World.add(II)V -/
def fX4_add (σ : xM) (w : Nat) (a1 : Int32) (a2 : Int32) : Option xM :=
  if xin (σ w 2) 8 then (if xin ((xup σ w (146 + 5 * (σ w 2).toNatClampNeg + 0) a1) w 2) 8 then (if xin ((xup (xup σ w (146 + 5 * (σ w 2).toNatClampNeg + 0) a1) w (146 + 5 * ((xup σ w (146 + 5 * (σ w 2).toNatClampNeg + 0) a1) w 2).toNatClampNeg + 1) a2) w 2) 8 then (if xin ((xup (xup (xup σ w (146 + 5 * (σ w 2).toNatClampNeg + 0) a1) w (146 + 5 * ((xup σ w (146 + 5 * (σ w 2).toNatClampNeg + 0) a1) w 2).toNatClampNeg + 1) a2) w (146 + 5 * ((xup (xup σ w (146 + 5 * (σ w 2).toNatClampNeg + 0) a1) w (146 + 5 * ((xup σ w (146 + 5 * (σ w 2).toNatClampNeg + 0) a1) w 2).toNatClampNeg + 1) a2) w 2).toNatClampNeg + 2) 0) w 2) 8 then (if xin ((xup (xup (xup (xup σ w (146 + 5 * (σ w 2).toNatClampNeg + 0) a1) w (146 + 5 * ((xup σ w (146 + 5 * (σ w 2).toNatClampNeg + 0) a1) w 2).toNatClampNeg + 1) a2) w (146 + 5 * ((xup (xup σ w (146 + 5 * (σ w 2).toNatClampNeg + 0) a1) w (146 + 5 * ((xup σ w (146 + 5 * (σ w 2).toNatClampNeg + 0) a1) w 2).toNatClampNeg + 1) a2) w 2).toNatClampNeg + 2) 0) w (146 + 5 * ((xup (xup (xup σ w (146 + 5 * (σ w 2).toNatClampNeg + 0) a1) w (146 + 5 * ((xup σ w (146 + 5 * (σ w 2).toNatClampNeg + 0) a1) w 2).toNatClampNeg + 1) a2) w (146 + 5 * ((xup (xup σ w (146 + 5 * (σ w 2).toNatClampNeg + 0) a1) w (146 + 5 * ((xup σ w (146 + 5 * (σ w 2).toNatClampNeg + 0) a1) w 2).toNatClampNeg + 1) a2) w 2).toNatClampNeg + 2) 0) w 2).toNatClampNeg + 3) 10) w 2) 8 then (some (xup (xup (xup (xup (xup (xup σ w (146 + 5 * (σ w 2).toNatClampNeg + 0) a1) w (146 + 5 * ((xup σ w (146 + 5 * (σ w 2).toNatClampNeg + 0) a1) w 2).toNatClampNeg + 1) a2) w (146 + 5 * ((xup (xup σ w (146 + 5 * (σ w 2).toNatClampNeg + 0) a1) w (146 + 5 * ((xup σ w (146 + 5 * (σ w 2).toNatClampNeg + 0) a1) w 2).toNatClampNeg + 1) a2) w 2).toNatClampNeg + 2) 0) w (146 + 5 * ((xup (xup (xup σ w (146 + 5 * (σ w 2).toNatClampNeg + 0) a1) w (146 + 5 * ((xup σ w (146 + 5 * (σ w 2).toNatClampNeg + 0) a1) w 2).toNatClampNeg + 1) a2) w (146 + 5 * ((xup (xup σ w (146 + 5 * (σ w 2).toNatClampNeg + 0) a1) w (146 + 5 * ((xup σ w (146 + 5 * (σ w 2).toNatClampNeg + 0) a1) w 2).toNatClampNeg + 1) a2) w 2).toNatClampNeg + 2) 0) w 2).toNatClampNeg + 3) 10) w (146 + 5 * ((xup (xup (xup (xup σ w (146 + 5 * (σ w 2).toNatClampNeg + 0) a1) w (146 + 5 * ((xup σ w (146 + 5 * (σ w 2).toNatClampNeg + 0) a1) w 2).toNatClampNeg + 1) a2) w (146 + 5 * ((xup (xup σ w (146 + 5 * (σ w 2).toNatClampNeg + 0) a1) w (146 + 5 * ((xup σ w (146 + 5 * (σ w 2).toNatClampNeg + 0) a1) w 2).toNatClampNeg + 1) a2) w 2).toNatClampNeg + 2) 0) w (146 + 5 * ((xup (xup (xup σ w (146 + 5 * (σ w 2).toNatClampNeg + 0) a1) w (146 + 5 * ((xup σ w (146 + 5 * (σ w 2).toNatClampNeg + 0) a1) w 2).toNatClampNeg + 1) a2) w (146 + 5 * ((xup (xup σ w (146 + 5 * (σ w 2).toNatClampNeg + 0) a1) w (146 + 5 * ((xup σ w (146 + 5 * (σ w 2).toNatClampNeg + 0) a1) w 2).toNatClampNeg + 1) a2) w 2).toNatClampNeg + 2) 0) w 2).toNatClampNeg + 3) 10) w 2).toNatClampNeg + 4) 0) w 2 (((xup (xup (xup (xup (xup σ w (146 + 5 * (σ w 2).toNatClampNeg + 0) a1) w (146 + 5 * ((xup σ w (146 + 5 * (σ w 2).toNatClampNeg + 0) a1) w 2).toNatClampNeg + 1) a2) w (146 + 5 * ((xup (xup σ w (146 + 5 * (σ w 2).toNatClampNeg + 0) a1) w (146 + 5 * ((xup σ w (146 + 5 * (σ w 2).toNatClampNeg + 0) a1) w 2).toNatClampNeg + 1) a2) w 2).toNatClampNeg + 2) 0) w (146 + 5 * ((xup (xup (xup σ w (146 + 5 * (σ w 2).toNatClampNeg + 0) a1) w (146 + 5 * ((xup σ w (146 + 5 * (σ w 2).toNatClampNeg + 0) a1) w 2).toNatClampNeg + 1) a2) w (146 + 5 * ((xup (xup σ w (146 + 5 * (σ w 2).toNatClampNeg + 0) a1) w (146 + 5 * ((xup σ w (146 + 5 * (σ w 2).toNatClampNeg + 0) a1) w 2).toNatClampNeg + 1) a2) w 2).toNatClampNeg + 2) 0) w 2).toNatClampNeg + 3) 10) w (146 + 5 * ((xup (xup (xup (xup σ w (146 + 5 * (σ w 2).toNatClampNeg + 0) a1) w (146 + 5 * ((xup σ w (146 + 5 * (σ w 2).toNatClampNeg + 0) a1) w 2).toNatClampNeg + 1) a2) w (146 + 5 * ((xup (xup σ w (146 + 5 * (σ w 2).toNatClampNeg + 0) a1) w (146 + 5 * ((xup σ w (146 + 5 * (σ w 2).toNatClampNeg + 0) a1) w 2).toNatClampNeg + 1) a2) w 2).toNatClampNeg + 2) 0) w (146 + 5 * ((xup (xup (xup σ w (146 + 5 * (σ w 2).toNatClampNeg + 0) a1) w (146 + 5 * ((xup σ w (146 + 5 * (σ w 2).toNatClampNeg + 0) a1) w 2).toNatClampNeg + 1) a2) w (146 + 5 * ((xup (xup σ w (146 + 5 * (σ w 2).toNatClampNeg + 0) a1) w (146 + 5 * ((xup σ w (146 + 5 * (σ w 2).toNatClampNeg + 0) a1) w 2).toNatClampNeg + 1) a2) w 2).toNatClampNeg + 2) 0) w 2).toNatClampNeg + 3) 10) w 2).toNatClampNeg + 4) 0) w 2) + 1))) else none) else none) else none) else none) else none
set_option maxHeartbeats 4000000 in
theorem mX4_add (l : Launch) (E : xE) (σ : xM) (w : Nat) (hw : w < 4) (a1 : Int32) (a2 : Int32) (σ' : xM) (h : fX4_add σ w a1 a2 = some σ') : Met l yX4_add (ws_ yX4_add cX4_add 3 none) ({ frames := 0, cells := 0, slots := 0, locals := 0 } : Room) (xPc E σ [.ref (xa E (xwc w 0)), .int a1, .int a2]) (xQc E (.returned none) σ') 0 0 (xA E) := by
  refine x_of (C := RX4) (n := "add") (d := "(II)V") (r := none) (by decide) rfl (by first | decide | exact Nat.le_of_ble_eq_true rfl) ?_
  intro p e s m below meth c ls F hr hlk hW hS hl
  have hl : lv_has ls 3 [(0, .ref (xa E (xwc w 0))), (1, .int a1), (2, .int a2)] := hl
  obtain ⟨hx, hb, hml, hown, hts⟩ := id F.1
  have hK := F.2.1.1
  unfold fX4_add at h
  refine lv_aload_n hx hb dX4_add_0 rfl (lv_at hl 0 rfl) ?_
  refine va_get (D := xD E) (ci := 4) (v := .ref (xa E (xwc w 5))) (C := RX4) (T := TX4) (N := 8) hx hb hts in_X4 hown hK (xO_W hW w hw) 0 rfl rfl 4 (by decide) (hts _ q242) (fun _ h9 => h9) rfl dX4_add_1 ?_
  refine lv_iconst (v := 0) hx hb dX4_add_4 (by decide) ?_
  refine x_aald (g := fun j => xa E (xwc w (6 + j))) (j := 0) F 4 4 5 (xR_5 hW w hw) rfl rfl (x_lit (by decide)) (by decide) dX4_add_5 ?_
  refine lv_aload_n hx hb dX4_add_6 rfl (lv_at hl 0 rfl) ?_
  refine va_get (D := xD E) (ci := 4) (v := .int (σ w 2)) (C := RX4) (T := TX4) (N := 8) hx hb hts in_X4 hown hK (xO_W hW w hw) 0 rfl rfl 3 (by decide) (hts _ q239) (fun _ h9 => h9) rfl dX4_add_7 ?_
  refine lv_iload_n hx hb dX4_add_10 rfl (lv_at hl 1 rfl) ?_
  by_cases hi1 : xin (σ w 2) 8
  · rw [if_pos hi1] at h
    refine x_iast F hW hS (xwc w (6 + 0)) 8 w (fun j => 146 + 5 * j + 0) (xw_lt w hw _ (Nat.lt_of_lt_of_le (Nat.add_lt_add_left (by decide) 6 : 6 + 0 < 6 + 5) (by decide))) (xw_6 w hw 0 (by decide)).1 (xw_6 w hw 0 (by decide)).2 (Or.inl (by omega)) hi1 dX4_add_11 (fun H locs hW hS => ?_)
    refine lv_aload_n hx hb dX4_add_12 rfl (lv_at hl 0 rfl) ?_
    refine va_get (D := xD E) (ci := 4) (v := .ref (xa E (xwc w 5))) (C := RX4) (T := TX4) (N := 8) hx hb hts in_X4 hown hK (xO_W hW w hw) 0 rfl rfl 4 (by decide) (hts _ q242) (fun _ h9 => h9) rfl dX4_add_13 ?_
    refine lv_iconst (v := 1) hx hb dX4_add_16 (by decide) ?_
    refine x_aald (g := fun j => xa E (xwc w (6 + j))) (j := 1) F 4 4 5 (xR_5 hW w hw) rfl rfl (x_lit (by decide)) (by decide) dX4_add_17 ?_
    refine lv_aload_n hx hb dX4_add_18 rfl (lv_at hl 0 rfl) ?_
    refine va_get (D := xD E) (ci := 4) (v := .int ((xup σ w (146 + 5 * (σ w 2).toNatClampNeg + 0) a1) w 2)) (C := RX4) (T := TX4) (N := 8) hx hb hts in_X4 hown hK (xO_W hW w hw) 0 rfl rfl 3 (by decide) (hts _ q239) (fun _ h9 => h9) rfl dX4_add_19 ?_
    refine lv_iload_n hx hb dX4_add_22 rfl (lv_at hl 2 rfl) ?_
    by_cases hi2 : xin ((xup σ w (146 + 5 * (σ w 2).toNatClampNeg + 0) a1) w 2) 8
    · rw [if_pos hi2] at h
      refine x_iast F hW hS (xwc w (6 + 1)) 8 w (fun j => 146 + 5 * j + 1) (xw_lt w hw _ (Nat.lt_of_lt_of_le (Nat.add_lt_add_left (by decide) 6 : 6 + 1 < 6 + 5) (by decide))) (xw_6 w hw 1 (by decide)).1 (xw_6 w hw 1 (by decide)).2 (Or.inl (by omega)) hi2 dX4_add_23 (fun H locs hW hS => ?_)
      refine lv_aload_n hx hb dX4_add_24 rfl (lv_at hl 0 rfl) ?_
      refine va_get (D := xD E) (ci := 4) (v := .ref (xa E (xwc w 5))) (C := RX4) (T := TX4) (N := 8) hx hb hts in_X4 hown hK (xO_W hW w hw) 0 rfl rfl 4 (by decide) (hts _ q242) (fun _ h9 => h9) rfl dX4_add_25 ?_
      refine lv_iconst (v := 2) hx hb dX4_add_28 (by decide) ?_
      refine x_aald (g := fun j => xa E (xwc w (6 + j))) (j := 2) F 4 4 5 (xR_5 hW w hw) rfl rfl (x_lit (by decide)) (by decide) dX4_add_29 ?_
      refine lv_aload_n hx hb dX4_add_30 rfl (lv_at hl 0 rfl) ?_
      refine va_get (D := xD E) (ci := 4) (v := .int ((xup (xup σ w (146 + 5 * (σ w 2).toNatClampNeg + 0) a1) w (146 + 5 * ((xup σ w (146 + 5 * (σ w 2).toNatClampNeg + 0) a1) w 2).toNatClampNeg + 1) a2) w 2)) (C := RX4) (T := TX4) (N := 8) hx hb hts in_X4 hown hK (xO_W hW w hw) 0 rfl rfl 3 (by decide) (hts _ q239) (fun _ h9 => h9) rfl dX4_add_31 ?_
      refine lv_iconst (v := 0) hx hb dX4_add_34 (by decide) ?_
      by_cases hi3 : xin ((xup (xup σ w (146 + 5 * (σ w 2).toNatClampNeg + 0) a1) w (146 + 5 * ((xup σ w (146 + 5 * (σ w 2).toNatClampNeg + 0) a1) w 2).toNatClampNeg + 1) a2) w 2) 8
      · rw [if_pos hi3] at h
        refine x_iast F hW hS (xwc w (6 + 2)) 8 w (fun j => 146 + 5 * j + 2) (xw_lt w hw _ (Nat.lt_of_lt_of_le (Nat.add_lt_add_left (by decide) 6 : 6 + 2 < 6 + 5) (by decide))) (xw_6 w hw 2 (by decide)).1 (xw_6 w hw 2 (by decide)).2 (Or.inl (by omega)) hi3 dX4_add_35 (fun H locs hW hS => ?_)
        refine lv_aload_n hx hb dX4_add_36 rfl (lv_at hl 0 rfl) ?_
        refine va_get (D := xD E) (ci := 4) (v := .ref (xa E (xwc w 5))) (C := RX4) (T := TX4) (N := 8) hx hb hts in_X4 hown hK (xO_W hW w hw) 0 rfl rfl 4 (by decide) (hts _ q242) (fun _ h9 => h9) rfl dX4_add_37 ?_
        refine lv_iconst (v := 3) hx hb dX4_add_40 (by decide) ?_
        refine x_aald (g := fun j => xa E (xwc w (6 + j))) (j := 3) F 4 4 5 (xR_5 hW w hw) rfl rfl (x_lit (by decide)) (by decide) dX4_add_41 ?_
        refine lv_aload_n hx hb dX4_add_42 rfl (lv_at hl 0 rfl) ?_
        refine va_get (D := xD E) (ci := 4) (v := .int ((xup (xup (xup σ w (146 + 5 * (σ w 2).toNatClampNeg + 0) a1) w (146 + 5 * ((xup σ w (146 + 5 * (σ w 2).toNatClampNeg + 0) a1) w 2).toNatClampNeg + 1) a2) w (146 + 5 * ((xup (xup σ w (146 + 5 * (σ w 2).toNatClampNeg + 0) a1) w (146 + 5 * ((xup σ w (146 + 5 * (σ w 2).toNatClampNeg + 0) a1) w 2).toNatClampNeg + 1) a2) w 2).toNatClampNeg + 2) 0) w 2)) (C := RX4) (T := TX4) (N := 8) hx hb hts in_X4 hown hK (xO_W hW w hw) 0 rfl rfl 3 (by decide) (hts _ q239) (fun _ h9 => h9) rfl dX4_add_43 ?_
        refine lv_bipush (v := 10) hx hb dX4_add_46 (by decide) ?_
        by_cases hi4 : xin ((xup (xup (xup σ w (146 + 5 * (σ w 2).toNatClampNeg + 0) a1) w (146 + 5 * ((xup σ w (146 + 5 * (σ w 2).toNatClampNeg + 0) a1) w 2).toNatClampNeg + 1) a2) w (146 + 5 * ((xup (xup σ w (146 + 5 * (σ w 2).toNatClampNeg + 0) a1) w (146 + 5 * ((xup σ w (146 + 5 * (σ w 2).toNatClampNeg + 0) a1) w 2).toNatClampNeg + 1) a2) w 2).toNatClampNeg + 2) 0) w 2) 8
        · rw [if_pos hi4] at h
          refine x_iast F hW hS (xwc w (6 + 3)) 8 w (fun j => 146 + 5 * j + 3) (xw_lt w hw _ (Nat.lt_of_lt_of_le (Nat.add_lt_add_left (by decide) 6 : 6 + 3 < 6 + 5) (by decide))) (xw_6 w hw 3 (by decide)).1 (xw_6 w hw 3 (by decide)).2 (Or.inl (by omega)) hi4 dX4_add_48 (fun H locs hW hS => ?_)
          refine lv_aload_n hx hb dX4_add_49 rfl (lv_at hl 0 rfl) ?_
          refine va_get (D := xD E) (ci := 4) (v := .ref (xa E (xwc w 5))) (C := RX4) (T := TX4) (N := 8) hx hb hts in_X4 hown hK (xO_W hW w hw) 0 rfl rfl 4 (by decide) (hts _ q242) (fun _ h9 => h9) rfl dX4_add_50 ?_
          refine lv_iconst (v := 4) hx hb dX4_add_53 (by decide) ?_
          refine x_aald (g := fun j => xa E (xwc w (6 + j))) (j := 4) F 4 4 5 (xR_5 hW w hw) rfl rfl (x_lit (by decide)) (by decide) dX4_add_54 ?_
          refine lv_aload_n hx hb dX4_add_55 rfl (lv_at hl 0 rfl) ?_
          refine va_get (D := xD E) (ci := 4) (v := .int ((xup (xup (xup (xup σ w (146 + 5 * (σ w 2).toNatClampNeg + 0) a1) w (146 + 5 * ((xup σ w (146 + 5 * (σ w 2).toNatClampNeg + 0) a1) w 2).toNatClampNeg + 1) a2) w (146 + 5 * ((xup (xup σ w (146 + 5 * (σ w 2).toNatClampNeg + 0) a1) w (146 + 5 * ((xup σ w (146 + 5 * (σ w 2).toNatClampNeg + 0) a1) w 2).toNatClampNeg + 1) a2) w 2).toNatClampNeg + 2) 0) w (146 + 5 * ((xup (xup (xup σ w (146 + 5 * (σ w 2).toNatClampNeg + 0) a1) w (146 + 5 * ((xup σ w (146 + 5 * (σ w 2).toNatClampNeg + 0) a1) w 2).toNatClampNeg + 1) a2) w (146 + 5 * ((xup (xup σ w (146 + 5 * (σ w 2).toNatClampNeg + 0) a1) w (146 + 5 * ((xup σ w (146 + 5 * (σ w 2).toNatClampNeg + 0) a1) w 2).toNatClampNeg + 1) a2) w 2).toNatClampNeg + 2) 0) w 2).toNatClampNeg + 3) 10) w 2)) (C := RX4) (T := TX4) (N := 8) hx hb hts in_X4 hown hK (xO_W hW w hw) 0 rfl rfl 3 (by decide) (hts _ q239) (fun _ h9 => h9) rfl dX4_add_56 ?_
          refine lv_iconst (v := 0) hx hb dX4_add_59 (by decide) ?_
          by_cases hi5 : xin ((xup (xup (xup (xup σ w (146 + 5 * (σ w 2).toNatClampNeg + 0) a1) w (146 + 5 * ((xup σ w (146 + 5 * (σ w 2).toNatClampNeg + 0) a1) w 2).toNatClampNeg + 1) a2) w (146 + 5 * ((xup (xup σ w (146 + 5 * (σ w 2).toNatClampNeg + 0) a1) w (146 + 5 * ((xup σ w (146 + 5 * (σ w 2).toNatClampNeg + 0) a1) w 2).toNatClampNeg + 1) a2) w 2).toNatClampNeg + 2) 0) w (146 + 5 * ((xup (xup (xup σ w (146 + 5 * (σ w 2).toNatClampNeg + 0) a1) w (146 + 5 * ((xup σ w (146 + 5 * (σ w 2).toNatClampNeg + 0) a1) w 2).toNatClampNeg + 1) a2) w (146 + 5 * ((xup (xup σ w (146 + 5 * (σ w 2).toNatClampNeg + 0) a1) w (146 + 5 * ((xup σ w (146 + 5 * (σ w 2).toNatClampNeg + 0) a1) w 2).toNatClampNeg + 1) a2) w 2).toNatClampNeg + 2) 0) w 2).toNatClampNeg + 3) 10) w 2) 8
          · rw [if_pos hi5] at h
            refine x_iast F hW hS (xwc w (6 + 4)) 8 w (fun j => 146 + 5 * j + 4) (xw_lt w hw _ (Nat.lt_of_lt_of_le (Nat.add_lt_add_left (by decide) 6 : 6 + 4 < 6 + 5) (by decide))) (xw_6 w hw 4 (by decide)).1 (xw_6 w hw 4 (by decide)).2 (Or.inl (by omega)) hi5 dX4_add_60 (fun H locs hW hS => ?_)
            refine lv_aload_n hx hb dX4_add_61 rfl (lv_at hl 0 rfl) ?_
            refine lv_dup hx hb dX4_add_62 rfl ?_
            refine va_get (D := xD E) (ci := 4) (v := .int ((xup (xup (xup (xup (xup σ w (146 + 5 * (σ w 2).toNatClampNeg + 0) a1) w (146 + 5 * ((xup σ w (146 + 5 * (σ w 2).toNatClampNeg + 0) a1) w 2).toNatClampNeg + 1) a2) w (146 + 5 * ((xup (xup σ w (146 + 5 * (σ w 2).toNatClampNeg + 0) a1) w (146 + 5 * ((xup σ w (146 + 5 * (σ w 2).toNatClampNeg + 0) a1) w 2).toNatClampNeg + 1) a2) w 2).toNatClampNeg + 2) 0) w (146 + 5 * ((xup (xup (xup σ w (146 + 5 * (σ w 2).toNatClampNeg + 0) a1) w (146 + 5 * ((xup σ w (146 + 5 * (σ w 2).toNatClampNeg + 0) a1) w 2).toNatClampNeg + 1) a2) w (146 + 5 * ((xup (xup σ w (146 + 5 * (σ w 2).toNatClampNeg + 0) a1) w (146 + 5 * ((xup σ w (146 + 5 * (σ w 2).toNatClampNeg + 0) a1) w 2).toNatClampNeg + 1) a2) w 2).toNatClampNeg + 2) 0) w 2).toNatClampNeg + 3) 10) w (146 + 5 * ((xup (xup (xup (xup σ w (146 + 5 * (σ w 2).toNatClampNeg + 0) a1) w (146 + 5 * ((xup σ w (146 + 5 * (σ w 2).toNatClampNeg + 0) a1) w 2).toNatClampNeg + 1) a2) w (146 + 5 * ((xup (xup σ w (146 + 5 * (σ w 2).toNatClampNeg + 0) a1) w (146 + 5 * ((xup σ w (146 + 5 * (σ w 2).toNatClampNeg + 0) a1) w 2).toNatClampNeg + 1) a2) w 2).toNatClampNeg + 2) 0) w (146 + 5 * ((xup (xup (xup σ w (146 + 5 * (σ w 2).toNatClampNeg + 0) a1) w (146 + 5 * ((xup σ w (146 + 5 * (σ w 2).toNatClampNeg + 0) a1) w 2).toNatClampNeg + 1) a2) w (146 + 5 * ((xup (xup σ w (146 + 5 * (σ w 2).toNatClampNeg + 0) a1) w (146 + 5 * ((xup σ w (146 + 5 * (σ w 2).toNatClampNeg + 0) a1) w 2).toNatClampNeg + 1) a2) w 2).toNatClampNeg + 2) 0) w 2).toNatClampNeg + 3) 10) w 2).toNatClampNeg + 4) 0) w 2)) (C := RX4) (T := TX4) (N := 8) hx hb hts in_X4 hown hK (xO_W hW w hw) 0 rfl rfl 3 (by decide) (hts _ q239) (fun _ h9 => h9) rfl dX4_add_63 ?_
            refine lv_iconst (v := 1) hx hb dX4_add_66 (by decide) ?_
            refine lv_iadd hx hb dX4_add_67 ?_
            refine x_put (C := RX4) (T := TX4) (N := 8) (ci := 4) (ty := .int) F hW hS in_X4 tyX4 tyX4_ok nmX4 rfl (xwc w 0) 3 w 2 (xw_lt w hw 0 (by decide)) (xw_0 w hw).1 (by decide) (xw_0 w hw).2.2.2.2.1 (Or.inl (by omega)) (hts _ q239) (fun _ h9 => h9) rfl (by decide +kernel) rfl rfl dX4_add_68 (fun H locs hW hS => ?_)
            cases h
            exact x_vret F hr hlk hW hS dX4_add_71
          · rw [if_neg hi5] at h; cases h
        · rw [if_neg hi4] at h; cases h
      · rw [if_neg hi3] at h; cases h
    · rw [if_neg hi2] at h; cases h
  · rw [if_neg hi1] at h; cases h
/-! WildBells$World.fearAt(I)I -/
def gX4_fearAt_17 (σ : xM) (w : Nat) (b1 : Int32) (b4 : Int32) : Nat → Int32 → Int32 → Option (Int32 × Int32)
  | 0, _, _ => none
  | n + 1, x2, x5 => if b4 ≤ x5 then (some (x2, x5)) else (if xin x5 4 then (if (σ w (14 + x5.toNatClampNeg)) = (-1) then (gX4_fearAt_17 σ w b1 b4 n x2 (x5 + 1)) else (gX4_fearAt_17 σ w b1 b4 n (fJ3_min x2 (fX0_apart (σ w (14 + x5.toNatClampNeg)) b1)) (x5 + 1))) else none)
def fX4_fearAt (σ : xM) (w : Nat) (a1 : Int32) : Option Int32 :=
  (gX4_fearAt_17 σ w a1 4 xfu (σ w 1) 0).bind (fun q5 => some q5.1)
set_option maxHeartbeats 4000000 in
theorem lX4_fearAt_17 {p : Program} {l : Launch} {e : Env} {s : State} {m : MethodId} {av : Array Value} {below : List Frame} {meth : Method} {c : Code} {Q : State → Prop} {E : xE} {σ : xM} {w : Nat} (hw : w < 4) {b1 : Int32} {b4 : Int32} (F : xFx p m c cX4_fearAt 7 s av RX4 E) : ∀ (n : Nat) (x2 : Int32) (x5 : Int32) (q : (Int32 × Int32)), gX4_fearAt_17 σ w b1 b4 n x2 x5 = some q → ∀ (H : Heap) (locs : List Loc) (ls : Array Slot), xW E σ H → va_S (xA E) s.heap H locs → lv_has ls 7 [(5, .int x5), (4, .int b4), (3, .ref (xa E (xwc w 4))), (2, .int x2), (0, .ref (xa E (xwc w 0))), (1, .int b1)] → (∀ (H : Heap) (locs : List Loc) (ls : Array Slot), xW E σ H → va_S (xA E) s.heap H locs → lv_has ls 7 [(5, .int q.2), (4, .int b4), (3, .ref (xa E (xwc w 4))), (2, .int q.1), (0, .ref (xa E (xwc w 0))), (1, .int b1)] → W p l e ({ frames := 2, cells := 0, slots := 0, locals := 41 } : Room) s m av below meth c H locs 0 0 Q (F0 m 57 ls [])) → W p l e ({ frames := 2, cells := 0, slots := 0, locals := 41 } : Room) s m av below meth c H locs 0 0 Q (F0 m 17 ls []) := by
  obtain ⟨hx, hb, hml, hown, hts⟩ := id F.1
  have hK := F.2.1.1
  intro n
  induction n with
  | zero =>
    intro x2 x5 q h
    cases h
  | succ n ih =>
    intro x2 x5 q h H locs ls hW hS hl kk
    rw [gX4_fearAt_17] at h
    refine lv_iload hx hb dX4_fearAt_17 (lv_at hl 0 rfl) ?_
    refine lv_iload hx hb dX4_fearAt_19 (lv_at hl 1 rfl) ?_
    refine lv_icmp_ge (tgt := 57) hx hb dX4_fearAt_21 (by decide) (fun c1 => ?_) (fun c1 => ?_)
    · rw [if_pos c1] at h
      cases h
      exact kk _ _ _ hW hS (lv_sub hl [0, 1, 2, 3, 4, 5] rfl)
    · rw [if_neg c1] at h
      refine lv_aload_n hx hb dX4_fearAt_24 rfl (lv_at hl 2 rfl) ?_
      refine lv_iload hx hb dX4_fearAt_25 (lv_at hl 0 rfl) ?_
      by_cases hi2 : xin x5 4
      · rw [if_pos hi2] at h
        refine va_iald hx hb hK (xV_4 hW w hw) 0 0 rfl rfl hi2 dX4_fearAt_27 ?_
        refine lv_istore (lv' := [(6, .int (σ w (14 + x5.toNatClampNeg))), (5, .int x5), (4, .int b4), (3, .ref (xa E (xwc w 4))), (2, .int x2), (0, .ref (xa E (xwc w 0))), (1, .int b1)]) hx hb dX4_fearAt_28 hl (by decide) rfl (fun ls hl => ?_)
        refine lv_iload hx hb dX4_fearAt_30 (lv_at hl 0 rfl) ?_
        refine lv_iconst (v := (-1)) hx hb dX4_fearAt_32 (by decide) ?_
        refine lv_icmp_ne (tgt := 40) hx hb dX4_fearAt_33 (by decide) (fun c3 => ?_) (fun c3 => ?_)
        · rw [if_neg c3] at h
          refine lv_iload_n hx hb dX4_fearAt_40 rfl (lv_at hl 4 rfl) ?_
          refine lv_iload hx hb dX4_fearAt_41 (lv_at hl 0 rfl) ?_
          refine lv_iload_n hx hb dX4_fearAt_43 rfl (lv_at hl 6 rfl) ?_
          refine x_backi (va_runSN (host := "WildBells") (As := [.int (σ w (14 + x5.toNatClampNeg)), .int b1]) (rest := [.int x2]) F.1 (mX0_apart l E σ (σ w (14 + x5.toNatClampNeg)) b1) ⟨va_cnB 2 hts (lw_meth q496) rfl rfl rfl (F.2.1.2.1 _ q494 rfl) (hts _ q99) (by decide +kernel) ⟨Nat.le_of_ble_eq_true rfl, Nat.le_of_ble_eq_true rfl⟩, hts _ q495, trivial⟩ ⟨xPc.blind, F.pre hW hS [.int (σ w (14 + x5.toNatClampNeg)), .int b1]⟩ rfl rfl hl.1 rfl (lv_room (Nat.le_of_ble_eq_true rfl)) dX4_fearAt_44 ⟨Nat.le_refl _, Nat.le_refl _⟩) hS (fun H locs hW hS => ?_)
          refine x_backi (va_runS (As := [.int x2, .int (fX0_apart (σ w (14 + x5.toNatClampNeg)) b1)]) (rest := []) F.1 (mJ3_min l E σ x2 (fX0_apart (σ w (14 + x5.toNatClampNeg)) b1)) (va_cwS 2 hts (lw_S q596 q597 q116 q598) rfl rfl rfl (by decide +kernel) ⟨Nat.le_of_ble_eq_true rfl, Nat.le_of_ble_eq_true rfl⟩) ⟨xPc.blind, F.pre hW hS [.int x2, .int (fX0_apart (σ w (14 + x5.toNatClampNeg)) b1)]⟩ rfl rfl hl.1 rfl (lv_room (Nat.le_of_ble_eq_true rfl)) dX4_fearAt_47 ⟨Nat.le_refl _, Nat.le_refl _⟩) hS (fun H locs hW hS => ?_)
          refine lv_istore_n (lv' := [(2, .int (fJ3_min x2 (fX0_apart (σ w (14 + x5.toNatClampNeg)) b1))), (6, .int (σ w (14 + x5.toNatClampNeg))), (5, .int x5), (4, .int b4), (3, .ref (xa E (xwc w 4))), (0, .ref (xa E (xwc w 0))), (1, .int b1)]) hx hb dX4_fearAt_50 rfl hl (by decide) rfl (fun ls hl => ?_)
          refine lv_iinc (k := 2) (v := (x5 + 1)) (lv' := [(5, .int (x5 + 1)), (2, .int (fJ3_min x2 (fX0_apart (σ w (14 + x5.toNatClampNeg)) b1))), (6, .int (σ w (14 + x5.toNatClampNeg))), (4, .int b4), (3, .ref (xa E (xwc w 4))), (0, .ref (xa E (xwc w 0))), (1, .int b1)]) hx hb dX4_fearAt_51 hl rfl rfl (by decide) rfl (fun ls hl => ?_)
          refine lv_goto (tgt := 17) hx hb dX4_fearAt_54 (by decide) ?_
          exact ih (fJ3_min x2 (fX0_apart (σ w (14 + x5.toNatClampNeg)) b1)) (x5 + 1) _ h _ _ _ hW hS (lv_sub hl [0, 3, 4, 1, 5, 6] rfl) kk
        · rw [if_pos c3] at h
          refine lv_iload_n hx hb dX4_fearAt_36 rfl (lv_at hl 4 rfl) ?_
          refine lv_goto (tgt := 50) hx hb dX4_fearAt_37 (by decide) ?_
          refine lv_istore_n (lv' := [(2, .int x2), (6, .int (σ w (14 + x5.toNatClampNeg))), (5, .int x5), (4, .int b4), (3, .ref (xa E (xwc w 4))), (0, .ref (xa E (xwc w 0))), (1, .int b1)]) hx hb dX4_fearAt_50 rfl hl (by decide) rfl (fun ls hl => ?_)
          refine lv_iinc (k := 2) (v := (x5 + 1)) (lv' := [(5, .int (x5 + 1)), (2, .int x2), (6, .int (σ w (14 + x5.toNatClampNeg))), (4, .int b4), (3, .ref (xa E (xwc w 4))), (0, .ref (xa E (xwc w 0))), (1, .int b1)]) hx hb dX4_fearAt_51 hl rfl rfl (by decide) rfl (fun ls hl => ?_)
          refine lv_goto (tgt := 17) hx hb dX4_fearAt_54 (by decide) ?_
          exact ih x2 (x5 + 1) _ h _ _ _ hW hS (lv_sub hl [0, 3, 4, 1, 5, 6] rfl) kk
      · rw [if_neg hi2] at h; cases h
set_option maxHeartbeats 4000000 in
theorem mX4_fearAt (l : Launch) (E : xE) (σ : xM) (w : Nat) (hw : w < 4) (a1 : Int32) (r : Int32) (h : fX4_fearAt σ w a1 = some r) : Met l yX4_fearAt (ws_ yX4_fearAt cX4_fearAt 7 (some .int)) ({ frames := 2, cells := 0, slots := 0, locals := 41 } : Room) (xPc E σ [.ref (xa E (xwc w 0)), .int a1]) (xQc E (.returned (some (.int r))) σ) 0 0 (xA E) := by
  refine x_of (C := RX4) (n := "fearAt") (d := "(I)I") (r := (some .int)) (by decide) rfl (by first | decide | exact Nat.le_of_ble_eq_true rfl) ?_
  intro p e s m below meth c ls F hr hlk hW hS hl
  have hl : lv_has ls 7 [(0, .ref (xa E (xwc w 0))), (1, .int a1)] := hl
  obtain ⟨hx, hb, hml, hown, hts⟩ := id F.1
  have hK := F.2.1.1
  unfold fX4_fearAt at h
  refine lv_aload_n hx hb dX4_fearAt_0 rfl (lv_at hl 0 rfl) ?_
  refine va_get (D := xD E) (ci := 4) (v := .int (σ w 1)) (C := RX4) (T := TX4) (N := 8) hx hb hts in_X4 hown hK (xO_W hW w hw) 0 rfl rfl 2 (by decide) (hts _ q236) (fun _ h9 => h9) rfl dX4_fearAt_1 ?_
  refine lv_istore_n (lv' := [(2, .int (σ w 1)), (0, .ref (xa E (xwc w 0))), (1, .int a1)]) hx hb dX4_fearAt_4 rfl hl (by decide) rfl (fun ls hl => ?_)
  refine lv_aload_n hx hb dX4_fearAt_5 rfl (lv_at hl 1 rfl) ?_
  refine va_get (D := xD E) (ci := 4) (v := .ref (xa E (xwc w 4))) (C := RX4) (T := TX4) (N := 8) hx hb hts in_X4 hown hK (xO_W hW w hw) 0 rfl rfl 1 (by decide) (hts _ q233) (fun _ h9 => h9) rfl dX4_fearAt_6 ?_
  refine lv_astore_n (lv' := [(3, .ref (xa E (xwc w 4))), (2, .int (σ w 1)), (0, .ref (xa E (xwc w 0))), (1, .int a1)]) hx hb dX4_fearAt_9 rfl hl (by decide) rfl (fun ls hl => ?_)
  refine lv_aload_n hx hb dX4_fearAt_10 rfl (lv_at hl 0 rfl) ?_
  refine va_alen (v := 4) hx hb hK (xV_4 hW w hw) 0 0 rfl rfl rfl dX4_fearAt_11 ?_
  refine lv_istore (lv' := [(4, .int 4), (3, .ref (xa E (xwc w 4))), (2, .int (σ w 1)), (0, .ref (xa E (xwc w 0))), (1, .int a1)]) hx hb dX4_fearAt_12 hl (by decide) rfl (fun ls hl => ?_)
  refine lv_iconst (v := 0) hx hb dX4_fearAt_14 (by decide) ?_
  refine lv_istore (lv' := [(5, .int 0), (4, .int 4), (3, .ref (xa E (xwc w 4))), (2, .int (σ w 1)), (0, .ref (xa E (xwc w 0))), (1, .int a1)]) hx hb dX4_fearAt_15 hl (by decide) rfl (fun ls hl => ?_)
  cases g4 : gX4_fearAt_17 σ w a1 4 xfu (σ w 1) 0 with
  | none => rw [g4] at h; cases h
  | some q5 =>
    rw [g4, Option.bind_some] at h
    refine lX4_fearAt_17 hw F xfu (σ w 1) 0 q5 g4 _ _ _ hW hS (lv_sub hl [0, 1, 2, 3, 4, 5] rfl) (fun H locs ls hW hS hl => ?_)
    refine lv_iload_n hx hb dX4_fearAt_57 rfl (lv_at hl 3 rfl) ?_
    cases h
    exact x_iret F hr hlk hW hS dX4_fearAt_58
/-! WildBells$World.weights(Z)I -/
def gX4_weights_4 (σ : xM) (w : Nat) (b1 : Int32) : Nat → Int32 → Int32 → Option (Int32 × Int32)
  | 0, _, _ => none
  | n + 1, x2, x3 => if (σ w 2) ≤ x3 then (some (x2, x3)) else (if b1 = 0 then ((fX4_isCaught σ w x3).bind (fun r5 => if r5 = 0 then (gX4_weights_4 σ w b1 n (x2 + 0) (x3 + 1)) else (if xin x3 8 then (gX4_weights_4 σ w b1 n (x2 + (σ w (146 + 5 * x3.toNatClampNeg + 3))) (x3 + 1)) else none))) else (if xin x3 8 then (gX4_weights_4 σ w b1 n (x2 + (σ w (146 + 5 * x3.toNatClampNeg + 3))) (x3 + 1)) else none))
def fX4_weights (σ : xM) (w : Nat) (a1 : Int32) : Option Int32 :=
  (gX4_weights_4 σ w a1 xfu 0 0).bind (fun q9 => some q9.1)
set_option maxHeartbeats 4000000 in
theorem lX4_weights_4 {p : Program} {l : Launch} {e : Env} {s : State} {m : MethodId} {av : Array Value} {below : List Frame} {meth : Method} {c : Code} {Q : State → Prop} {E : xE} {σ : xM} {w : Nat} (hw : w < 4) {b1 : Int32} (F : xFx p m c cX4_weights 4 s av RX4 E) : ∀ (n : Nat) (x2 : Int32) (x3 : Int32) (q : (Int32 × Int32)), gX4_weights_4 σ w b1 n x2 x3 = some q → ∀ (H : Heap) (locs : List Loc) (ls : Array Slot), xW E σ H → va_S (xA E) s.heap H locs → lv_has ls 4 [(3, .int x3), (2, .int x2), (0, .ref (xa E (xwc w 0))), (1, .int b1)] → (∀ (H : Heap) (locs : List Loc) (ls : Array Slot), xW E σ H → va_S (xA E) s.heap H locs → lv_has ls 4 [(3, .int q.2), (2, .int q.1), (0, .ref (xa E (xwc w 0))), (1, .int b1)] → W p l e ({ frames := 1, cells := 0, slots := 0, locals := 21 } : Room) s m av below meth c H locs 0 0 Q (F0 m 45 ls [])) → W p l e ({ frames := 1, cells := 0, slots := 0, locals := 21 } : Room) s m av below meth c H locs 0 0 Q (F0 m 4 ls []) := by
  obtain ⟨hx, hb, hml, hown, hts⟩ := id F.1
  have hK := F.2.1.1
  intro n
  induction n with
  | zero =>
    intro x2 x3 q h
    cases h
  | succ n ih =>
    intro x2 x3 q h H locs ls hW hS hl kk
    rw [gX4_weights_4] at h
    refine lv_iload_n hx hb dX4_weights_4 rfl (lv_at hl 0 rfl) ?_
    refine lv_aload_n hx hb dX4_weights_5 rfl (lv_at hl 2 rfl) ?_
    refine va_get (D := xD E) (ci := 4) (v := .int (σ w 2)) (C := RX4) (T := TX4) (N := 8) hx hb hts in_X4 hown hK (xO_W hW w hw) 0 rfl rfl 3 (by decide) (hts _ q239) (fun _ h9 => h9) rfl dX4_weights_6 ?_
    refine lv_icmp_ge (tgt := 45) hx hb dX4_weights_9 (by decide) (fun c1 => ?_) (fun c1 => ?_)
    · rw [if_pos c1] at h
      cases h
      exact kk _ _ _ hW hS (lv_sub hl [0, 1, 2, 3] rfl)
    · rw [if_neg c1] at h
      refine lv_iload_n hx hb dX4_weights_12 rfl (lv_at hl 1 rfl) ?_
      refine lv_iload_n hx hb dX4_weights_13 rfl (lv_at hl 3 rfl) ?_
      refine lv_if_ne (tgt := 25) hx hb dX4_weights_14 (by decide) (fun c2 => ?_) (fun c2 => ?_)
      · rw [if_neg c2] at h
        refine lv_aload_n hx hb dX4_weights_25 rfl (lv_at hl 2 rfl) ?_
        refine va_get (D := xD E) (ci := 4) (v := .ref (xa E (xwc w 5))) (C := RX4) (T := TX4) (N := 8) hx hb hts in_X4 hown hK (xO_W hW w hw) 0 rfl rfl 4 (by decide) (hts _ q242) (fun _ h9 => h9) rfl dX4_weights_26 ?_
        refine lv_iconst (v := 3) hx hb dX4_weights_29 (by decide) ?_
        refine x_aald (g := fun j => xa E (xwc w (6 + j))) (j := 3) F 4 4 5 (xR_5 hW w hw) rfl rfl (x_lit (by decide)) (by decide) dX4_weights_30 ?_
        refine lv_iload_n hx hb dX4_weights_31 rfl (lv_at hl 0 rfl) ?_
        by_cases hi3 : xin x3 8
        · rw [if_pos hi3] at h
          refine va_iald hx hb hK (xV_6 hW w 3 hw (by decide)) 0 0 rfl rfl hi3 dX4_weights_32 ?_
          refine lv_goto (tgt := 37) hx hb dX4_weights_33 (by decide) ?_
          refine lv_iadd hx hb dX4_weights_37 ?_
          refine lv_istore_n (lv' := [(2, .int (x2 + (σ w (146 + 5 * x3.toNatClampNeg + 3)))), (3, .int x3), (0, .ref (xa E (xwc w 0))), (1, .int b1)]) hx hb dX4_weights_38 rfl hl (by decide) rfl (fun ls hl => ?_)
          refine lv_iinc (k := 1) (v := (x3 + 1)) (lv' := [(3, .int (x3 + 1)), (2, .int (x2 + (σ w (146 + 5 * x3.toNatClampNeg + 3)))), (0, .ref (xa E (xwc w 0))), (1, .int b1)]) hx hb dX4_weights_39 hl rfl rfl (by decide) rfl (fun ls hl => ?_)
          refine lv_goto (tgt := 4) hx hb dX4_weights_42 (by decide) ?_
          exact ih (x2 + (σ w (146 + 5 * x3.toNatClampNeg + 3))) (x3 + 1) _ h _ _ _ hW hS (lv_sub hl [0, 1, 2, 3] rfl) kk
        · rw [if_neg hi3] at h; cases h
      · rw [if_pos c2] at h
        refine lv_aload_n hx hb dX4_weights_17 rfl (lv_at hl 2 rfl) ?_
        refine lv_iload_n hx hb dX4_weights_18 rfl (lv_at hl 0 rfl) ?_
        cases g4 : fX4_isCaught σ w x3 with
        | none => rw [g4] at h; cases h
        | some r5 =>
          rw [g4, Option.bind_some] at h
          refine x_backi (va_runV (C := RX4) (b := (xa E (xwc w 0))) (As := [.int x3]) (rest := [.int x2]) F.1 (mX4_isCaught l E σ w hw x3 r5 g4) (cwV 1 hts (lw_V q486 q487 q488 q106 q489) rfl rfl rfl (by decide +kernel) ⟨Nat.le_of_ble_eq_true rfl, Nat.le_of_ble_eq_true rfl⟩) ⟨xPc.blind, va_recv hK (xO_W hW w hw) (ci := 4) (q0 := 0) rfl rfl, F.pre hW hS (.ref (xa E (xwc w 0)) :: [.int x3])⟩ rfl rfl hl.1 rfl (lv_room (Nat.le_of_ble_eq_true rfl)) dX4_weights_19 ⟨Nat.le_refl _, Nat.le_refl _⟩) hS (fun H locs hW hS => ?_)
          refine lv_if_eq (tgt := 36) hx hb dX4_weights_22 (by decide) (fun c6 => ?_) (fun c6 => ?_)
          · rw [if_pos c6] at h
            refine lv_iconst (v := 0) hx hb dX4_weights_36 (by decide) ?_
            refine lv_iadd hx hb dX4_weights_37 ?_
            refine lv_istore_n (lv' := [(2, .int (x2 + 0)), (3, .int x3), (0, .ref (xa E (xwc w 0))), (1, .int b1)]) hx hb dX4_weights_38 rfl hl (by decide) rfl (fun ls hl => ?_)
            refine lv_iinc (k := 1) (v := (x3 + 1)) (lv' := [(3, .int (x3 + 1)), (2, .int (x2 + 0)), (0, .ref (xa E (xwc w 0))), (1, .int b1)]) hx hb dX4_weights_39 hl rfl rfl (by decide) rfl (fun ls hl => ?_)
            refine lv_goto (tgt := 4) hx hb dX4_weights_42 (by decide) ?_
            exact ih (x2 + 0) (x3 + 1) _ h _ _ _ hW hS (lv_sub hl [0, 1, 2, 3] rfl) kk
          · rw [if_neg c6] at h
            refine lv_aload_n hx hb dX4_weights_25 rfl (lv_at hl 2 rfl) ?_
            refine va_get (D := xD E) (ci := 4) (v := .ref (xa E (xwc w 5))) (C := RX4) (T := TX4) (N := 8) hx hb hts in_X4 hown hK (xO_W hW w hw) 0 rfl rfl 4 (by decide) (hts _ q242) (fun _ h9 => h9) rfl dX4_weights_26 ?_
            refine lv_iconst (v := 3) hx hb dX4_weights_29 (by decide) ?_
            refine x_aald (g := fun j => xa E (xwc w (6 + j))) (j := 3) F 4 4 5 (xR_5 hW w hw) rfl rfl (x_lit (by decide)) (by decide) dX4_weights_30 ?_
            refine lv_iload_n hx hb dX4_weights_31 rfl (lv_at hl 0 rfl) ?_
            by_cases hi7 : xin x3 8
            · rw [if_pos hi7] at h
              refine va_iald hx hb hK (xV_6 hW w 3 hw (by decide)) 0 0 rfl rfl hi7 dX4_weights_32 ?_
              refine lv_goto (tgt := 37) hx hb dX4_weights_33 (by decide) ?_
              refine lv_iadd hx hb dX4_weights_37 ?_
              refine lv_istore_n (lv' := [(2, .int (x2 + (σ w (146 + 5 * x3.toNatClampNeg + 3)))), (3, .int x3), (0, .ref (xa E (xwc w 0))), (1, .int b1)]) hx hb dX4_weights_38 rfl hl (by decide) rfl (fun ls hl => ?_)
              refine lv_iinc (k := 1) (v := (x3 + 1)) (lv' := [(3, .int (x3 + 1)), (2, .int (x2 + (σ w (146 + 5 * x3.toNatClampNeg + 3)))), (0, .ref (xa E (xwc w 0))), (1, .int b1)]) hx hb dX4_weights_39 hl rfl rfl (by decide) rfl (fun ls hl => ?_)
              refine lv_goto (tgt := 4) hx hb dX4_weights_42 (by decide) ?_
              exact ih (x2 + (σ w (146 + 5 * x3.toNatClampNeg + 3))) (x3 + 1) _ h _ _ _ hW hS (lv_sub hl [0, 1, 2, 3] rfl) kk
            · rw [if_neg hi7] at h; cases h
set_option maxHeartbeats 4000000 in
theorem mX4_weights (l : Launch) (E : xE) (σ : xM) (w : Nat) (hw : w < 4) (a1 : Int32) (r : Int32) (h : fX4_weights σ w a1 = some r) : Met l yX4_weights (ws_ yX4_weights cX4_weights 4 (some .int)) ({ frames := 1, cells := 0, slots := 0, locals := 21 } : Room) (xPc E σ [.ref (xa E (xwc w 0)), .int a1]) (xQc E (.returned (some (.int r))) σ) 0 0 (xA E) := by
  refine x_of (C := RX4) (n := "weights") (d := "(Z)I") (r := (some .int)) (by decide) rfl (by first | decide | exact Nat.le_of_ble_eq_true rfl) ?_
  intro p e s m below meth c ls F hr hlk hW hS hl
  have hl : lv_has ls 4 [(0, .ref (xa E (xwc w 0))), (1, .int a1)] := hl
  obtain ⟨hx, hb, hml, hown, hts⟩ := id F.1
  have hK := F.2.1.1
  unfold fX4_weights at h
  refine lv_iconst (v := 0) hx hb dX4_weights_0 (by decide) ?_
  refine lv_istore_n (lv' := [(2, .int 0), (0, .ref (xa E (xwc w 0))), (1, .int a1)]) hx hb dX4_weights_1 rfl hl (by decide) rfl (fun ls hl => ?_)
  refine lv_iconst (v := 0) hx hb dX4_weights_2 (by decide) ?_
  refine lv_istore_n (lv' := [(3, .int 0), (2, .int 0), (0, .ref (xa E (xwc w 0))), (1, .int a1)]) hx hb dX4_weights_3 rfl hl (by decide) rfl (fun ls hl => ?_)
  cases g8 : gX4_weights_4 σ w a1 xfu 0 0 with
  | none => rw [g8] at h; cases h
  | some q9 =>
    rw [g8, Option.bind_some] at h
    refine lX4_weights_4 hw F xfu 0 0 q9 g8 _ _ _ hW hS (lv_sub hl [0, 1, 2, 3] rfl) (fun H locs ls hW hS hl => ?_)
    refine lv_iload_n hx hb dX4_weights_45 rfl (lv_at hl 1 rfl) ?_
    cases h
    exact x_iret F hr hlk hW hS dX4_weights_46
/-! WildBells$World.loud(II)I -/
def fX4_loud (σ : xM) (w : Nat) (a1 : Int32) (a2 : Int32) : Option Int32 :=
  if xin a1 8 then (if xin a1 8 then (some (fX0_loudBy (σ w (146 + 5 * a1.toNatClampNeg + 3)) (fX0_apart (σ w (146 + 5 * a1.toNatClampNeg + 1)) a2))) else none) else none
set_option maxHeartbeats 4000000 in
theorem mX4_loud (l : Launch) (E : xE) (σ : xM) (w : Nat) (hw : w < 4) (a1 : Int32) (a2 : Int32) (r : Int32) (h : fX4_loud σ w a1 a2 = some r) : Met l yX4_loud (ws_ yX4_loud cX4_loud 3 (some .int)) ({ frames := 2, cells := 0, slots := 0, locals := 42 } : Room) (xPc E σ [.ref (xa E (xwc w 0)), .int a1, .int a2]) (xQc E (.returned (some (.int r))) σ) 0 0 (xA E) := by
  refine x_of (C := RX4) (n := "loud") (d := "(II)I") (r := (some .int)) (by decide) rfl (by first | decide | exact Nat.le_of_ble_eq_true rfl) ?_
  intro p e s m below meth c ls F hr hlk hW hS hl
  have hl : lv_has ls 3 [(0, .ref (xa E (xwc w 0))), (1, .int a1), (2, .int a2)] := hl
  obtain ⟨hx, hb, hml, hown, hts⟩ := id F.1
  have hK := F.2.1.1
  unfold fX4_loud at h
  refine lv_aload_n hx hb dX4_loud_0 rfl (lv_at hl 0 rfl) ?_
  refine va_get (D := xD E) (ci := 4) (v := .ref (xa E (xwc w 5))) (C := RX4) (T := TX4) (N := 8) hx hb hts in_X4 hown hK (xO_W hW w hw) 0 rfl rfl 4 (by decide) (hts _ q242) (fun _ h9 => h9) rfl dX4_loud_1 ?_
  refine lv_iconst (v := 3) hx hb dX4_loud_4 (by decide) ?_
  refine x_aald (g := fun j => xa E (xwc w (6 + j))) (j := 3) F 4 4 5 (xR_5 hW w hw) rfl rfl (x_lit (by decide)) (by decide) dX4_loud_5 ?_
  refine lv_iload_n hx hb dX4_loud_6 rfl (lv_at hl 1 rfl) ?_
  by_cases hi1 : xin a1 8
  · rw [if_pos hi1] at h
    refine va_iald hx hb hK (xV_6 hW w 3 hw (by decide)) 0 0 rfl rfl hi1 dX4_loud_7 ?_
    refine lv_aload_n hx hb dX4_loud_8 rfl (lv_at hl 0 rfl) ?_
    refine va_get (D := xD E) (ci := 4) (v := .ref (xa E (xwc w 5))) (C := RX4) (T := TX4) (N := 8) hx hb hts in_X4 hown hK (xO_W hW w hw) 0 rfl rfl 4 (by decide) (hts _ q242) (fun _ h9 => h9) rfl dX4_loud_9 ?_
    refine lv_iconst (v := 1) hx hb dX4_loud_12 (by decide) ?_
    refine x_aald (g := fun j => xa E (xwc w (6 + j))) (j := 1) F 4 4 5 (xR_5 hW w hw) rfl rfl (x_lit (by decide)) (by decide) dX4_loud_13 ?_
    refine lv_iload_n hx hb dX4_loud_14 rfl (lv_at hl 1 rfl) ?_
    by_cases hi2 : xin a1 8
    · rw [if_pos hi2] at h
      refine va_iald hx hb hK (xV_6 hW w 1 hw (by decide)) 0 0 rfl rfl hi2 dX4_loud_15 ?_
      refine lv_iload_n hx hb dX4_loud_16 rfl (lv_at hl 2 rfl) ?_
      refine x_backi (va_runSN (host := "WildBells") (As := [.int (σ w (146 + 5 * a1.toNatClampNeg + 1)), .int a2]) (rest := [.int (σ w (146 + 5 * a1.toNatClampNeg + 3))]) F.1 (mX0_apart l E σ (σ w (146 + 5 * a1.toNatClampNeg + 1)) a2) ⟨va_cnB 2 hts (lw_meth q496) rfl rfl rfl (F.2.1.2.1 _ q494 rfl) (hts _ q99) (by decide +kernel) ⟨Nat.le_of_ble_eq_true rfl, Nat.le_of_ble_eq_true rfl⟩, hts _ q495, trivial⟩ ⟨xPc.blind, F.pre hW hS [.int (σ w (146 + 5 * a1.toNatClampNeg + 1)), .int a2]⟩ rfl rfl hl.1 rfl (lv_room (Nat.le_of_ble_eq_true rfl)) dX4_loud_17 ⟨Nat.le_refl _, Nat.le_refl _⟩) hS (fun H locs hW hS => ?_)
      refine x_backi (va_runSN (host := "WildBells") (As := [.int (σ w (146 + 5 * a1.toNatClampNeg + 3)), .int (fX0_apart (σ w (146 + 5 * a1.toNatClampNeg + 1)) a2)]) (rest := []) F.1 (mX0_loudBy l E σ (σ w (146 + 5 * a1.toNatClampNeg + 3)) (fX0_apart (σ w (146 + 5 * a1.toNatClampNeg + 1)) a2)) ⟨va_cnB 2 hts (lw_meth q502) rfl rfl rfl (F.2.1.2.1 _ q500 rfl) (hts _ q99) (by decide +kernel) ⟨Nat.le_of_ble_eq_true rfl, Nat.le_of_ble_eq_true rfl⟩, hts _ q501, trivial⟩ ⟨xPc.blind, F.pre hW hS [.int (σ w (146 + 5 * a1.toNatClampNeg + 3)), .int (fX0_apart (σ w (146 + 5 * a1.toNatClampNeg + 1)) a2)]⟩ rfl rfl hl.1 rfl (lv_room (Nat.le_of_ble_eq_true rfl)) dX4_loud_20 ⟨Nat.le_refl _, Nat.le_refl _⟩) hS (fun H locs hW hS => ?_)
      cases h
      exact x_iret F hr hlk hW hS dX4_loud_23
    · rw [if_neg hi2] at h; cases h
  · rw [if_neg hi1] at h; cases h
/-! WildBells$World.heard(I)I -/
def gX4_heard_4 (σ : xM) (w : Nat) (b1 : Int32) : Nat → Int32 → Int32 → Option (Int32 × Int32)
  | 0, _, _ => none
  | n + 1, x2, x3 => if (σ w 2) ≤ x3 then (some (x2, x3)) else ((fX4_isCaught σ w x3).bind (fun r3 => if r3 = 0 then ((fX4_loud σ w x3 b1).bind (fun r6 => gX4_heard_4 σ w b1 n (fJ3_max x2 r6) (x3 + 1))) else (gX4_heard_4 σ w b1 n x2 (x3 + 1))))
def fX4_heard (σ : xM) (w : Nat) (a1 : Int32) : Option Int32 :=
  (gX4_heard_4 σ w a1 xfu 0 0).bind (fun q8 => some q8.1)
set_option maxHeartbeats 4000000 in
theorem lX4_heard_4 {p : Program} {l : Launch} {e : Env} {s : State} {m : MethodId} {av : Array Value} {below : List Frame} {meth : Method} {c : Code} {Q : State → Prop} {E : xE} {σ : xM} {w : Nat} (hw : w < 4) {b1 : Int32} (F : xFx p m c cX4_heard 4 s av RX4 E) : ∀ (n : Nat) (x2 : Int32) (x3 : Int32) (q : (Int32 × Int32)), gX4_heard_4 σ w b1 n x2 x3 = some q → ∀ (H : Heap) (locs : List Loc) (ls : Array Slot), xW E σ H → va_S (xA E) s.heap H locs → lv_has ls 4 [(3, .int x3), (2, .int x2), (0, .ref (xa E (xwc w 0))), (1, .int b1)] → (∀ (H : Heap) (locs : List Loc) (ls : Array Slot), xW E σ H → va_S (xA E) s.heap H locs → lv_has ls 4 [(3, .int q.2), (2, .int q.1), (0, .ref (xa E (xwc w 0))), (1, .int b1)] → W p l e ({ frames := 3, cells := 0, slots := 0, locals := 64 } : Room) s m av below meth c H locs 0 0 Q (F0 m 41 ls [])) → W p l e ({ frames := 3, cells := 0, slots := 0, locals := 64 } : Room) s m av below meth c H locs 0 0 Q (F0 m 4 ls []) := by
  obtain ⟨hx, hb, hml, hown, hts⟩ := id F.1
  have hK := F.2.1.1
  intro n
  induction n with
  | zero =>
    intro x2 x3 q h
    cases h
  | succ n ih =>
    intro x2 x3 q h H locs ls hW hS hl kk
    rw [gX4_heard_4] at h
    refine lv_iload_n hx hb dX4_heard_4 rfl (lv_at hl 0 rfl) ?_
    refine lv_aload_n hx hb dX4_heard_5 rfl (lv_at hl 2 rfl) ?_
    refine va_get (D := xD E) (ci := 4) (v := .int (σ w 2)) (C := RX4) (T := TX4) (N := 8) hx hb hts in_X4 hown hK (xO_W hW w hw) 0 rfl rfl 3 (by decide) (hts _ q239) (fun _ h9 => h9) rfl dX4_heard_6 ?_
    refine lv_icmp_ge (tgt := 41) hx hb dX4_heard_9 (by decide) (fun c1 => ?_) (fun c1 => ?_)
    · rw [if_pos c1] at h
      cases h
      exact kk _ _ _ hW hS (lv_sub hl [0, 1, 2, 3] rfl)
    · rw [if_neg c1] at h
      refine lv_aload_n hx hb dX4_heard_12 rfl (lv_at hl 2 rfl) ?_
      refine lv_iload_n hx hb dX4_heard_13 rfl (lv_at hl 0 rfl) ?_
      cases g2 : fX4_isCaught σ w x3 with
      | none => rw [g2] at h; cases h
      | some r3 =>
        rw [g2, Option.bind_some] at h
        refine x_backi (va_runV (C := RX4) (b := (xa E (xwc w 0))) (As := [.int x3]) (rest := []) F.1 (mX4_isCaught l E σ w hw x3 r3 g2) (cwV 1 hts (lw_V q486 q487 q488 q106 q489) rfl rfl rfl (by decide +kernel) ⟨Nat.le_of_ble_eq_true rfl, Nat.le_of_ble_eq_true rfl⟩) ⟨xPc.blind, va_recv hK (xO_W hW w hw) (ci := 4) (q0 := 0) rfl rfl, F.pre hW hS (.ref (xa E (xwc w 0)) :: [.int x3])⟩ rfl rfl hl.1 rfl (lv_room (Nat.le_of_ble_eq_true rfl)) dX4_heard_14 ⟨Nat.le_refl _, Nat.le_refl _⟩) hS (fun H locs hW hS => ?_)
        refine lv_if_eq (tgt := 24) hx hb dX4_heard_17 (by decide) (fun c4 => ?_) (fun c4 => ?_)
        · rw [if_pos c4] at h
          refine lv_iload_n hx hb dX4_heard_24 rfl (lv_at hl 1 rfl) ?_
          refine lv_aload_n hx hb dX4_heard_25 rfl (lv_at hl 2 rfl) ?_
          refine lv_iload_n hx hb dX4_heard_26 rfl (lv_at hl 0 rfl) ?_
          refine lv_iload_n hx hb dX4_heard_27 rfl (lv_at hl 3 rfl) ?_
          cases g5 : fX4_loud σ w x3 b1 with
          | none => rw [g5] at h; cases h
          | some r6 =>
            rw [g5, Option.bind_some] at h
            refine x_backi (va_runV (C := RX4) (b := (xa E (xwc w 0))) (As := [.int x3, .int b1]) (rest := [.int x2]) F.1 (mX4_loud l E σ w hw x3 b1 r6 g5) (cwV 2 hts (lw_V q490 q491 q492 q106 q493) rfl rfl rfl (by decide +kernel) ⟨Nat.le_of_ble_eq_true rfl, Nat.le_of_ble_eq_true rfl⟩) ⟨xPc.blind, va_recv hK (xO_W hW w hw) (ci := 4) (q0 := 0) rfl rfl, F.pre hW hS (.ref (xa E (xwc w 0)) :: [.int x3, .int b1])⟩ rfl rfl hl.1 rfl (lv_room (Nat.le_of_ble_eq_true rfl)) dX4_heard_28 ⟨Nat.le_refl _, Nat.le_refl _⟩) hS (fun H locs hW hS => ?_)
            refine x_backi (va_runS (As := [.int x2, .int r6]) (rest := []) F.1 (mJ3_max l E σ x2 r6) (va_cwS 2 hts (lw_S q506 q504 q116 q505) rfl rfl rfl (by decide +kernel) ⟨Nat.le_of_ble_eq_true rfl, Nat.le_of_ble_eq_true rfl⟩) ⟨xPc.blind, F.pre hW hS [.int x2, .int r6]⟩ rfl rfl hl.1 rfl (lv_room (Nat.le_of_ble_eq_true rfl)) dX4_heard_31 ⟨Nat.le_refl _, Nat.le_refl _⟩) hS (fun H locs hW hS => ?_)
            refine lv_istore_n (lv' := [(2, .int (fJ3_max x2 r6)), (3, .int x3), (0, .ref (xa E (xwc w 0))), (1, .int b1)]) hx hb dX4_heard_34 rfl hl (by decide) rfl (fun ls hl => ?_)
            refine lv_iinc (k := 1) (v := (x3 + 1)) (lv' := [(3, .int (x3 + 1)), (2, .int (fJ3_max x2 r6)), (0, .ref (xa E (xwc w 0))), (1, .int b1)]) hx hb dX4_heard_35 hl rfl rfl (by decide) rfl (fun ls hl => ?_)
            refine lv_goto (tgt := 4) hx hb dX4_heard_38 (by decide) ?_
            exact ih (fJ3_max x2 r6) (x3 + 1) _ h _ _ _ hW hS (lv_sub hl [0, 1, 2, 3] rfl) kk
        · rw [if_neg c4] at h
          refine lv_iload_n hx hb dX4_heard_20 rfl (lv_at hl 1 rfl) ?_
          refine lv_goto (tgt := 34) hx hb dX4_heard_21 (by decide) ?_
          refine lv_istore_n (lv' := [(2, .int x2), (3, .int x3), (0, .ref (xa E (xwc w 0))), (1, .int b1)]) hx hb dX4_heard_34 rfl hl (by decide) rfl (fun ls hl => ?_)
          refine lv_iinc (k := 1) (v := (x3 + 1)) (lv' := [(3, .int (x3 + 1)), (2, .int x2), (0, .ref (xa E (xwc w 0))), (1, .int b1)]) hx hb dX4_heard_35 hl rfl rfl (by decide) rfl (fun ls hl => ?_)
          refine lv_goto (tgt := 4) hx hb dX4_heard_38 (by decide) ?_
          exact ih x2 (x3 + 1) _ h _ _ _ hW hS (lv_sub hl [0, 1, 2, 3] rfl) kk
set_option maxHeartbeats 4000000 in
theorem mX4_heard (l : Launch) (E : xE) (σ : xM) (w : Nat) (hw : w < 4) (a1 : Int32) (r : Int32) (h : fX4_heard σ w a1 = some r) : Met l yX4_heard (ws_ yX4_heard cX4_heard 4 (some .int)) ({ frames := 3, cells := 0, slots := 0, locals := 64 } : Room) (xPc E σ [.ref (xa E (xwc w 0)), .int a1]) (xQc E (.returned (some (.int r))) σ) 0 0 (xA E) := by
  refine x_of (C := RX4) (n := "heard") (d := "(I)I") (r := (some .int)) (by decide) rfl (by first | decide | exact Nat.le_of_ble_eq_true rfl) ?_
  intro p e s m below meth c ls F hr hlk hW hS hl
  have hl : lv_has ls 4 [(0, .ref (xa E (xwc w 0))), (1, .int a1)] := hl
  obtain ⟨hx, hb, hml, hown, hts⟩ := id F.1
  have hK := F.2.1.1
  unfold fX4_heard at h
  refine lv_iconst (v := 0) hx hb dX4_heard_0 (by decide) ?_
  refine lv_istore_n (lv' := [(2, .int 0), (0, .ref (xa E (xwc w 0))), (1, .int a1)]) hx hb dX4_heard_1 rfl hl (by decide) rfl (fun ls hl => ?_)
  refine lv_iconst (v := 0) hx hb dX4_heard_2 (by decide) ?_
  refine lv_istore_n (lv' := [(3, .int 0), (2, .int 0), (0, .ref (xa E (xwc w 0))), (1, .int a1)]) hx hb dX4_heard_3 rfl hl (by decide) rfl (fun ls hl => ?_)
  cases g7 : gX4_heard_4 σ w a1 xfu 0 0 with
  | none => rw [g7] at h; cases h
  | some q8 =>
    rw [g7, Option.bind_some] at h
    refine lX4_heard_4 hw F xfu 0 0 q8 g7 _ _ _ hW hS (lv_sub hl [0, 1, 2, 3] rfl) (fun H locs ls hW hS hl => ?_)
    refine lv_iload_n hx hb dX4_heard_41 rfl (lv_at hl 1 rfl) ?_
    cases h
    exact x_iret F hr hlk hW hS dX4_heard_42
/-! WildBells$World.manyAt(I)I -/
def gX4_manyAt_4 (σ : xM) (w : Nat) (b1 : Int32) : Nat → Int32 → Int32 → Option (Int32 × Int32)
  | 0, _, _ => none
  | n + 1, x2, x3 => if (σ w 2) ≤ x3 then (some (x2, x3)) else (if xin x3 8 then (if (σ w (146 + 5 * x3.toNatClampNeg + 1)) = b1 then (gX4_manyAt_4 σ w b1 n (x2 + 1) (x3 + 1)) else (gX4_manyAt_4 σ w b1 n (x2 + 0) (x3 + 1))) else none)
def fX4_manyAt (σ : xM) (w : Nat) (a1 : Int32) : Option Int32 :=
  (gX4_manyAt_4 σ w a1 xfu 0 0).bind (fun q5 => some q5.1)
set_option maxHeartbeats 4000000 in
theorem lX4_manyAt_4 {p : Program} {l : Launch} {e : Env} {s : State} {m : MethodId} {av : Array Value} {below : List Frame} {meth : Method} {c : Code} {Q : State → Prop} {E : xE} {σ : xM} {w : Nat} (hw : w < 4) {b1 : Int32} (F : xFx p m c cX4_manyAt 4 s av RX4 E) : ∀ (n : Nat) (x2 : Int32) (x3 : Int32) (q : (Int32 × Int32)), gX4_manyAt_4 σ w b1 n x2 x3 = some q → ∀ (H : Heap) (locs : List Loc) (ls : Array Slot), xW E σ H → va_S (xA E) s.heap H locs → lv_has ls 4 [(3, .int x3), (2, .int x2), (0, .ref (xa E (xwc w 0))), (1, .int b1)] → (∀ (H : Heap) (locs : List Loc) (ls : Array Slot), xW E σ H → va_S (xA E) s.heap H locs → lv_has ls 4 [(3, .int q.2), (2, .int q.1), (0, .ref (xa E (xwc w 0))), (1, .int b1)] → W p l e ({ frames := 0, cells := 0, slots := 0, locals := 0 } : Room) s m av below meth c H locs 0 0 Q (F0 m 38 ls [])) → W p l e ({ frames := 0, cells := 0, slots := 0, locals := 0 } : Room) s m av below meth c H locs 0 0 Q (F0 m 4 ls []) := by
  obtain ⟨hx, hb, hml, hown, hts⟩ := id F.1
  have hK := F.2.1.1
  intro n
  induction n with
  | zero =>
    intro x2 x3 q h
    cases h
  | succ n ih =>
    intro x2 x3 q h H locs ls hW hS hl kk
    rw [gX4_manyAt_4] at h
    refine lv_iload_n hx hb dX4_manyAt_4 rfl (lv_at hl 0 rfl) ?_
    refine lv_aload_n hx hb dX4_manyAt_5 rfl (lv_at hl 2 rfl) ?_
    refine va_get (D := xD E) (ci := 4) (v := .int (σ w 2)) (C := RX4) (T := TX4) (N := 8) hx hb hts in_X4 hown hK (xO_W hW w hw) 0 rfl rfl 3 (by decide) (hts _ q239) (fun _ h9 => h9) rfl dX4_manyAt_6 ?_
    refine lv_icmp_ge (tgt := 38) hx hb dX4_manyAt_9 (by decide) (fun c1 => ?_) (fun c1 => ?_)
    · rw [if_pos c1] at h
      cases h
      exact kk _ _ _ hW hS (lv_sub hl [0, 1, 2, 3] rfl)
    · rw [if_neg c1] at h
      refine lv_iload_n hx hb dX4_manyAt_12 rfl (lv_at hl 1 rfl) ?_
      refine lv_aload_n hx hb dX4_manyAt_13 rfl (lv_at hl 2 rfl) ?_
      refine va_get (D := xD E) (ci := 4) (v := .ref (xa E (xwc w 5))) (C := RX4) (T := TX4) (N := 8) hx hb hts in_X4 hown hK (xO_W hW w hw) 0 rfl rfl 4 (by decide) (hts _ q242) (fun _ h9 => h9) rfl dX4_manyAt_14 ?_
      refine lv_iconst (v := 1) hx hb dX4_manyAt_17 (by decide) ?_
      refine x_aald (g := fun j => xa E (xwc w (6 + j))) (j := 1) F 4 4 5 (xR_5 hW w hw) rfl rfl (x_lit (by decide)) (by decide) dX4_manyAt_18 ?_
      refine lv_iload_n hx hb dX4_manyAt_19 rfl (lv_at hl 0 rfl) ?_
      by_cases hi2 : xin x3 8
      · rw [if_pos hi2] at h
        refine va_iald hx hb hK (xV_6 hW w 1 hw (by decide)) 0 0 rfl rfl hi2 dX4_manyAt_20 ?_
        refine lv_iload_n hx hb dX4_manyAt_21 rfl (lv_at hl 3 rfl) ?_
        refine lv_icmp_ne (tgt := 29) hx hb dX4_manyAt_22 (by decide) (fun c3 => ?_) (fun c3 => ?_)
        · rw [if_neg c3] at h
          refine lv_iconst (v := 0) hx hb dX4_manyAt_29 (by decide) ?_
          refine lv_iadd hx hb dX4_manyAt_30 ?_
          refine lv_istore_n (lv' := [(2, .int (x2 + 0)), (3, .int x3), (0, .ref (xa E (xwc w 0))), (1, .int b1)]) hx hb dX4_manyAt_31 rfl hl (by decide) rfl (fun ls hl => ?_)
          refine lv_iinc (k := 1) (v := (x3 + 1)) (lv' := [(3, .int (x3 + 1)), (2, .int (x2 + 0)), (0, .ref (xa E (xwc w 0))), (1, .int b1)]) hx hb dX4_manyAt_32 hl rfl rfl (by decide) rfl (fun ls hl => ?_)
          refine lv_goto (tgt := 4) hx hb dX4_manyAt_35 (by decide) ?_
          exact ih (x2 + 0) (x3 + 1) _ h _ _ _ hW hS (lv_sub hl [0, 1, 2, 3] rfl) kk
        · rw [if_pos c3] at h
          refine lv_iconst (v := 1) hx hb dX4_manyAt_25 (by decide) ?_
          refine lv_goto (tgt := 30) hx hb dX4_manyAt_26 (by decide) ?_
          refine lv_iadd hx hb dX4_manyAt_30 ?_
          refine lv_istore_n (lv' := [(2, .int (x2 + 1)), (3, .int x3), (0, .ref (xa E (xwc w 0))), (1, .int b1)]) hx hb dX4_manyAt_31 rfl hl (by decide) rfl (fun ls hl => ?_)
          refine lv_iinc (k := 1) (v := (x3 + 1)) (lv' := [(3, .int (x3 + 1)), (2, .int (x2 + 1)), (0, .ref (xa E (xwc w 0))), (1, .int b1)]) hx hb dX4_manyAt_32 hl rfl rfl (by decide) rfl (fun ls hl => ?_)
          refine lv_goto (tgt := 4) hx hb dX4_manyAt_35 (by decide) ?_
          exact ih (x2 + 1) (x3 + 1) _ h _ _ _ hW hS (lv_sub hl [0, 1, 2, 3] rfl) kk
      · rw [if_neg hi2] at h; cases h
set_option maxHeartbeats 4000000 in
theorem mX4_manyAt (l : Launch) (E : xE) (σ : xM) (w : Nat) (hw : w < 4) (a1 : Int32) (r : Int32) (h : fX4_manyAt σ w a1 = some r) : Met l yX4_manyAt (ws_ yX4_manyAt cX4_manyAt 4 (some .int)) ({ frames := 0, cells := 0, slots := 0, locals := 0 } : Room) (xPc E σ [.ref (xa E (xwc w 0)), .int a1]) (xQc E (.returned (some (.int r))) σ) 0 0 (xA E) := by
  refine x_of (C := RX4) (n := "manyAt") (d := "(I)I") (r := (some .int)) (by decide) rfl (by first | decide | exact Nat.le_of_ble_eq_true rfl) ?_
  intro p e s m below meth c ls F hr hlk hW hS hl
  have hl : lv_has ls 4 [(0, .ref (xa E (xwc w 0))), (1, .int a1)] := hl
  obtain ⟨hx, hb, hml, hown, hts⟩ := id F.1
  have hK := F.2.1.1
  unfold fX4_manyAt at h
  refine lv_iconst (v := 0) hx hb dX4_manyAt_0 (by decide) ?_
  refine lv_istore_n (lv' := [(2, .int 0), (0, .ref (xa E (xwc w 0))), (1, .int a1)]) hx hb dX4_manyAt_1 rfl hl (by decide) rfl (fun ls hl => ?_)
  refine lv_iconst (v := 0) hx hb dX4_manyAt_2 (by decide) ?_
  refine lv_istore_n (lv' := [(3, .int 0), (2, .int 0), (0, .ref (xa E (xwc w 0))), (1, .int a1)]) hx hb dX4_manyAt_3 rfl hl (by decide) rfl (fun ls hl => ?_)
  cases g4 : gX4_manyAt_4 σ w a1 xfu 0 0 with
  | none => rw [g4] at h; cases h
  | some q5 =>
    rw [g4, Option.bind_some] at h
    refine lX4_manyAt_4 hw F xfu 0 0 q5 g4 _ _ _ hW hS (lv_sub hl [0, 1, 2, 3] rfl) (fun H locs ls hW hS hl => ?_)
    refine lv_iload_n hx hb dX4_manyAt_38 rfl (lv_at hl 1 rfl) ?_
    cases h
    exact x_iret F hr hlk hW hS dX4_manyAt_39
/-! WildBells$World.nets()I -/
def gX4_nets_15 (σ : xM) (w : Nat) (b3 : Int32) : Nat → Int32 → Int32 → Option (Int32 × Int32)
  | 0, _, _ => none
  | n + 1, x1, x4 => if b3 ≤ x4 then (some (x1, x4)) else (if xin x4 64 then (gX4_nets_15 σ w b3 n (x1 + (σ w (18 + 64 * 0 + x4.toNatClampNeg))) (x4 + 1)) else none)
def fX4_nets (σ : xM) (w : Nat) : Option Int32 :=
  (gX4_nets_15 σ w 64 xfu 0 0).bind (fun q4 => some q4.1)
set_option maxHeartbeats 4000000 in
theorem lX4_nets_15 {p : Program} {l : Launch} {e : Env} {s : State} {m : MethodId} {av : Array Value} {below : List Frame} {meth : Method} {c : Code} {Q : State → Prop} {E : xE} {σ : xM} {w : Nat} (hw : w < 4) {b3 : Int32} (F : xFx p m c cX4_nets 6 s av RX4 E) : ∀ (n : Nat) (x1 : Int32) (x4 : Int32) (q : (Int32 × Int32)), gX4_nets_15 σ w b3 n x1 x4 = some q → ∀ (H : Heap) (locs : List Loc) (ls : Array Slot), xW E σ H → va_S (xA E) s.heap H locs → lv_has ls 6 [(4, .int x4), (3, .int b3), (2, .ref (xa E (xwc w (2 + 0)))), (1, .int x1), (0, .ref (xa E (xwc w 0)))] → (∀ (H : Heap) (locs : List Loc) (ls : Array Slot), xW E σ H → va_S (xA E) s.heap H locs → lv_has ls 6 [(4, .int q.2), (3, .int b3), (2, .ref (xa E (xwc w (2 + 0)))), (1, .int q.1), (0, .ref (xa E (xwc w 0)))] → W p l e ({ frames := 0, cells := 0, slots := 0, locals := 0 } : Room) s m av below meth c H locs 0 0 Q (F0 m 38 ls [])) → W p l e ({ frames := 0, cells := 0, slots := 0, locals := 0 } : Room) s m av below meth c H locs 0 0 Q (F0 m 15 ls []) := by
  obtain ⟨hx, hb, hml, hown, hts⟩ := id F.1
  have hK := F.2.1.1
  intro n
  induction n with
  | zero =>
    intro x1 x4 q h
    cases h
  | succ n ih =>
    intro x1 x4 q h H locs ls hW hS hl kk
    rw [gX4_nets_15] at h
    refine lv_iload hx hb dX4_nets_15 (lv_at hl 0 rfl) ?_
    refine lv_iload_n hx hb dX4_nets_17 rfl (lv_at hl 1 rfl) ?_
    refine lv_icmp_ge (tgt := 38) hx hb dX4_nets_18 (by decide) (fun c1 => ?_) (fun c1 => ?_)
    · rw [if_pos c1] at h
      cases h
      exact kk _ _ _ hW hS (lv_sub hl [0, 1, 2, 3, 4] rfl)
    · rw [if_neg c1] at h
      refine lv_aload_n hx hb dX4_nets_21 rfl (lv_at hl 2 rfl) ?_
      refine lv_iload hx hb dX4_nets_22 (lv_at hl 0 rfl) ?_
      by_cases hi2 : xin x4 64
      · rw [if_pos hi2] at h
        refine va_iald hx hb hK (xV_2 hW w 0 hw (by decide)) 0 0 rfl rfl hi2 dX4_nets_24 ?_
        refine lv_istore (lv' := [(5, .int (σ w (18 + 64 * 0 + x4.toNatClampNeg))), (4, .int x4), (3, .int b3), (2, .ref (xa E (xwc w (2 + 0)))), (1, .int x1), (0, .ref (xa E (xwc w 0)))]) hx hb dX4_nets_25 hl (by decide) rfl (fun ls hl => ?_)
        refine lv_iload_n hx hb dX4_nets_27 rfl (lv_at hl 4 rfl) ?_
        refine lv_iload hx hb dX4_nets_28 (lv_at hl 0 rfl) ?_
        refine lv_iadd hx hb dX4_nets_30 ?_
        refine lv_istore_n (lv' := [(1, .int (x1 + (σ w (18 + 64 * 0 + x4.toNatClampNeg)))), (5, .int (σ w (18 + 64 * 0 + x4.toNatClampNeg))), (4, .int x4), (3, .int b3), (2, .ref (xa E (xwc w (2 + 0)))), (0, .ref (xa E (xwc w 0)))]) hx hb dX4_nets_31 rfl hl (by decide) rfl (fun ls hl => ?_)
        refine lv_iinc (k := 2) (v := (x4 + 1)) (lv' := [(4, .int (x4 + 1)), (1, .int (x1 + (σ w (18 + 64 * 0 + x4.toNatClampNeg)))), (5, .int (σ w (18 + 64 * 0 + x4.toNatClampNeg))), (3, .int b3), (2, .ref (xa E (xwc w (2 + 0)))), (0, .ref (xa E (xwc w 0)))]) hx hb dX4_nets_32 hl rfl rfl (by decide) rfl (fun ls hl => ?_)
        refine lv_goto (tgt := 15) hx hb dX4_nets_35 (by decide) ?_
        exact ih (x1 + (σ w (18 + 64 * 0 + x4.toNatClampNeg))) (x4 + 1) _ h _ _ _ hW hS (lv_sub hl [0, 3, 4, 1, 5] rfl) kk
      · rw [if_neg hi2] at h; cases h
set_option maxHeartbeats 4000000 in
theorem mX4_nets (l : Launch) (E : xE) (σ : xM) (w : Nat) (hw : w < 4) (r : Int32) (h : fX4_nets σ w = some r) : Met l yX4_nets (ws_ yX4_nets cX4_nets 6 (some .int)) ({ frames := 0, cells := 0, slots := 0, locals := 0 } : Room) (xPc E σ [.ref (xa E (xwc w 0))]) (xQc E (.returned (some (.int r))) σ) 0 0 (xA E) := by
  refine x_of (C := RX4) (n := "nets") (d := "()I") (r := (some .int)) (by decide) rfl (by first | decide | exact Nat.le_of_ble_eq_true rfl) ?_
  intro p e s m below meth c ls F hr hlk hW hS hl
  have hl : lv_has ls 6 [(0, .ref (xa E (xwc w 0)))] := hl
  obtain ⟨hx, hb, hml, hown, hts⟩ := id F.1
  have hK := F.2.1.1
  unfold fX4_nets at h
  refine lv_iconst (v := 0) hx hb dX4_nets_0 (by decide) ?_
  refine lv_istore_n (lv' := [(1, .int 0), (0, .ref (xa E (xwc w 0)))]) hx hb dX4_nets_1 rfl hl (by decide) rfl (fun ls hl => ?_)
  refine lv_aload_n hx hb dX4_nets_2 rfl (lv_at hl 1 rfl) ?_
  refine va_get (D := xD E) (ci := 4) (v := .ref (xa E (xwc w 1))) (C := RX4) (T := TX4) (N := 8) hx hb hts in_X4 hown hK (xO_W hW w hw) 0 rfl rfl 0 (by decide) (hts _ q228) (fun _ h9 => h9) rfl dX4_nets_3 ?_
  refine lv_iconst (v := 0) hx hb dX4_nets_6 (by decide) ?_
  refine x_aald (g := fun j => xa E (xwc w (2 + j))) (j := 0) F 4 4 2 (xR_1 hW w hw) rfl rfl (x_lit (by decide)) (by decide) dX4_nets_7 ?_
  refine lv_astore_n (lv' := [(2, .ref (xa E (xwc w (2 + 0)))), (1, .int 0), (0, .ref (xa E (xwc w 0)))]) hx hb dX4_nets_8 rfl hl (by decide) rfl (fun ls hl => ?_)
  refine lv_aload_n hx hb dX4_nets_9 rfl (lv_at hl 0 rfl) ?_
  refine va_alen (v := 64) hx hb hK (xV_2 hW w 0 hw (by decide)) 0 0 rfl rfl rfl dX4_nets_10 ?_
  refine lv_istore_n (lv' := [(3, .int 64), (2, .ref (xa E (xwc w (2 + 0)))), (1, .int 0), (0, .ref (xa E (xwc w 0)))]) hx hb dX4_nets_11 rfl hl (by decide) rfl (fun ls hl => ?_)
  refine lv_iconst (v := 0) hx hb dX4_nets_12 (by decide) ?_
  refine lv_istore (lv' := [(4, .int 0), (3, .int 64), (2, .ref (xa E (xwc w (2 + 0)))), (1, .int 0), (0, .ref (xa E (xwc w 0)))]) hx hb dX4_nets_13 hl (by decide) rfl (fun ls hl => ?_)
  cases g3 : gX4_nets_15 σ w 64 xfu 0 0 with
  | none => rw [g3] at h; cases h
  | some q4 =>
    rw [g3, Option.bind_some] at h
    refine lX4_nets_15 hw F xfu 0 0 q4 g3 _ _ _ hW hS (lv_sub hl [0, 1, 2, 3, 4] rfl) (fun H locs ls hW hS hl => ?_)
    refine lv_iload_n hx hb dX4_nets_38 rfl (lv_at hl 3 rfl) ?_
    cases h
    exact x_iret F hr hlk hW hS dX4_nets_39
/-! WildBells$World.isLate(I)Z -/
def fX4_isLate (σ : xM) (w : Nat) (a1 : Int32) : Int32 :=
  if ((σ w 0) + a1) ≤ 99999 then 0 else 1
set_option maxHeartbeats 4000000 in
theorem mX4_isLate (l : Launch) (E : xE) (σ : xM) (w : Nat) (hw : w < 4) (a1 : Int32) : Met l yX4_isLate (ws_ yX4_isLate cX4_isLate 2 (some .boolean)) ({ frames := 0, cells := 0, slots := 0, locals := 0 } : Room) (xPc E σ [.ref (xa E (xwc w 0)), .int a1]) (xQc E (.returned (some (.int (fX4_isLate σ w a1)))) σ) 0 0 (xA E) := by
  refine x_of (C := RX4) (n := "isLate") (d := "(I)Z") (r := (some .boolean)) (by decide) rfl (by first | decide | exact Nat.le_of_ble_eq_true rfl) ?_
  intro p e s m below meth c ls F hr hlk hW hS hl
  have hl : lv_has ls 2 [(0, .ref (xa E (xwc w 0))), (1, .int a1)] := hl
  obtain ⟨hx, hb, hml, hown, hts⟩ := id F.1
  have hK := F.2.1.1
  obtain ⟨r, h⟩ : ∃ r, fX4_isLate σ w a1 = r := ⟨_, rfl⟩
  rw [h]
  unfold fX4_isLate at h
  refine lv_aload_n hx hb dX4_isLate_0 rfl (lv_at hl 0 rfl) ?_
  refine va_get (D := xD E) (ci := 4) (v := .int (σ w 0)) (C := RX4) (T := TX4) (N := 8) hx hb hts in_X4 hown hK (xO_W hW w hw) 0 rfl rfl 5 (by decide) (hts _ q245) (fun _ h9 => h9) rfl dX4_isLate_1 ?_
  refine lv_iload_n hx hb dX4_isLate_4 rfl (lv_at hl 1 rfl) ?_
  refine lv_iadd hx hb dX4_isLate_5 ?_
  refine lv_ldc (v := 99999) hx hb hown (hts _ q704) dX4_isLate_6 ?_
  refine lv_icmp_le (tgt := 15) hx hb dX4_isLate_8 (by decide) (fun c1 => ?_) (fun c1 => ?_)
  · rw [if_pos c1] at h
    refine lv_iconst (v := 0) hx hb dX4_isLate_15 (by decide) ?_
    subst h
    exact x_zret F hr hlk hW hS rfl dX4_isLate_16
  · rw [if_neg c1] at h
    refine lv_iconst (v := 1) hx hb dX4_isLate_11 (by decide) ?_
    refine lv_goto (tgt := 16) hx hb dX4_isLate_12 (by decide) ?_
    subst h
    exact x_zret F hr hlk hW hS rfl dX4_isLate_16
