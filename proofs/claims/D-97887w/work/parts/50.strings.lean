set_option maxRecDepth 100000
/-! java/lang/String.coder()B -/
def fJ5_coder (i : Nat) : Int32 :=
  0
set_option maxHeartbeats 4000000 in
theorem mJ5_coder (l : Launch) (E : xE) (σ : xM) (i : Nat) (hi : i < 15) : Met l yJ5_coder (ws_ yJ5_coder cJ5_coder 1 (some .byte)) ({ frames := 0, cells := 0, slots := 0, locals := 0 } : Room) (xPc E σ [.ref (xks E i)]) (xQc E (.returned (some (.int (fJ5_coder i)))) σ) 0 0 (xA E) := by
  refine x_ofF (C := RJ5) (n := "coder") (d := "()B") (r := (some .byte)) (by decide +kernel) rfl (by first | decide | exact Nat.le_of_ble_eq_true rfl) ?_
  intro p e s m below meth c ls F hr hlk hW hS hl
  have hl : lv_has ls 1 [(0, .ref (xks E i))] := hl
  obtain ⟨hx, hb, hml, hown, hts⟩ := id F.1
  have hK := F.2.1.1
  obtain ⟨r, h⟩ : ∃ r, fJ5_coder i = r := ⟨_, rfl⟩
  rw [h]
  unfold fJ5_coder at h
  refine va_gets hx hb F.2.2.2.1 hS hown (hts _ q1024) (fun _ h9 => h9) dJ5_coder_0 ?_
  refine lv_if_eq (tgt := 13) hx hb dJ5_coder_3 (by decide) (fun c => absurd c (by decide)) (fun c => ?_)
  refine lv_aload_n hx hb dJ5_coder_6 rfl (lv_at hl 0 rfl) ?_
  refine vk_getf hx hb (F.2.2.1.1 i hi).2.1 hS hown (hts _ q1747) (fun _ h9 => h9) dJ5_coder_7 ?_
  refine lv_goto (tgt := 14) hx hb dJ5_coder_10 (by decide) ?_
  subst h
  exact x_zret F hr hlk hW hS rfl dJ5_coder_14
/-! java/lang/String.isLatin1()Z -/
def fJ5_isLatin1 (i : Nat) : Int32 :=
  1
set_option maxHeartbeats 4000000 in
theorem mJ5_isLatin1 (l : Launch) (E : xE) (σ : xM) (i : Nat) (hi : i < 15) : Met l yJ5_isLatin1 (ws_ yJ5_isLatin1 cJ5_isLatin1 1 (some .boolean)) ({ frames := 0, cells := 0, slots := 0, locals := 0 } : Room) (xPc E σ [.ref (xks E i)]) (xQc E (.returned (some (.int (fJ5_isLatin1 i)))) σ) 0 0 (xA E) := by
  refine x_ofF (C := RJ5) (n := "isLatin1") (d := "()Z") (r := (some .boolean)) (by decide +kernel) rfl (by first | decide | exact Nat.le_of_ble_eq_true rfl) ?_
  intro p e s m below meth c ls F hr hlk hW hS hl
  have hl : lv_has ls 1 [(0, .ref (xks E i))] := hl
  obtain ⟨hx, hb, hml, hown, hts⟩ := id F.1
  have hK := F.2.1.1
  obtain ⟨r, h⟩ : ∃ r, fJ5_isLatin1 i = r := ⟨_, rfl⟩
  rw [h]
  unfold fJ5_isLatin1 at h
  refine va_gets hx hb F.2.2.2.1 hS hown (hts _ q1024) (fun _ h9 => h9) dJ5_isLatin1_0 ?_
  refine lv_if_eq (tgt := 17) hx hb dJ5_isLatin1_3 (by decide) (fun c => absurd c (by decide)) (fun c => ?_)
  refine lv_aload_n hx hb dJ5_isLatin1_6 rfl (lv_at hl 0 rfl) ?_
  refine vk_getf hx hb (F.2.2.1.1 i hi).2.1 hS hown (hts _ q1747) (fun _ h9 => h9) dJ5_isLatin1_7 ?_
  refine lv_if_ne (tgt := 17) hx hb dJ5_isLatin1_10 (by decide) (fun c => absurd c (by decide)) (fun c => ?_)
  refine lv_iconst (v := 1) hx hb dJ5_isLatin1_13 (by decide) ?_
  refine lv_goto (tgt := 18) hx hb dJ5_isLatin1_14 (by decide) ?_
  subst h
  exact x_zret F hr hlk hW hS rfl dJ5_isLatin1_18
/-! java/lang/String.length()I -/
def fJ5_length (i : Nat) : Int32 :=
  ((Int32.ofNat (xsl.getD i 0)) >>> ((fJ5_coder i) &&& 31))
set_option maxHeartbeats 4000000 in
theorem mJ5_length (l : Launch) (E : xE) (σ : xM) (i : Nat) (hi : i < 15) : Met l yJ5_length (ws_ yJ5_length cJ5_length 1 (some .int)) ({ frames := 1, cells := 0, slots := 0, locals := 20 } : Room) (xPc E σ [.ref (xks E i)]) (xQc E (.returned (some (.int (fJ5_length i)))) σ) 0 0 (xA E) := by
  refine x_ofF (C := RJ5) (n := "length") (d := "()I") (r := (some .int)) (by decide +kernel) rfl (by first | decide | exact Nat.le_of_ble_eq_true rfl) ?_
  intro p e s m below meth c ls F hr hlk hW hS hl
  have hl : lv_has ls 1 [(0, .ref (xks E i))] := hl
  obtain ⟨hx, hb, hml, hown, hts⟩ := id F.1
  have hK := F.2.1.1
  obtain ⟨r, h⟩ : ∃ r, fJ5_length i = r := ⟨_, rfl⟩
  rw [h]
  unfold fJ5_length at h
  refine lv_aload_n hx hb dJ5_length_0 rfl (lv_at hl 0 rfl) ?_
  refine vk_getf hx hb (F.2.2.1.1 i hi).2.2.1 hS hown (hts _ q1748) (fun _ h9 => h9) dJ5_length_1 ?_
  refine va_tlen hx hb (F.2.2.1.1 i hi).2.2.2 hS rfl dJ5_length_4 ?_
  refine lv_aload_n hx hb dJ5_length_5 rfl (lv_at hl 0 rfl) ?_
  refine x_backi (va_runV (C := RJ5) (b := (xks E i)) (As := []) (rest := [.int (Int32.ofNat (xsl.getD i 0))]) F.1 (mJ5_coder l E σ i hi) (cwV 0 hts (lw_V q1640 q1641 q1642 q119 q1643) rfl rfl rfl (by decide +kernel) ⟨Nat.le_of_ble_eq_true rfl, Nat.le_of_ble_eq_true rfl⟩) ⟨xPc.blind, vk_recv F.2.2.1 hi hS, F.pre hW hS (.ref (xks E i) :: [])⟩ rfl rfl hl.1 rfl (lv_room (Nat.le_of_ble_eq_true rfl)) dJ5_length_6 ⟨Nat.le_refl _, Nat.le_refl _⟩) hS (fun H locs hW hS => ?_)
  refine lv_ishr hx hb dJ5_length_9 ?_
  subst h
  exact x_iret F hr hlk hW hS dJ5_length_10
/-! jdk/internal/util/Preconditions.checkIndex(IILjava/util/function/BiFunction;)I -/
def fJ7_checkIndex (a0 : Int32) (a1 : Int32) : Option Int32 :=
  if a0 < 0 then none else (if a0 < a1 then (some a0) else none)
set_option maxHeartbeats 4000000 in
theorem mJ7_checkIndex_n (l : Launch) (E : xE) (σ : xM) (a0 : Int32) (a1 : Int32) (r : Int32) (h : fJ7_checkIndex a0 a1 = some r) : Met l yJ7_checkIndex (ws_ yJ7_checkIndex cJ7_checkIndex 3 (some .int)) ({ frames := 0, cells := 0, slots := 0, locals := 0 } : Room) (xPc E σ [.int a0, .int a1, .null]) (xQc E (.returned (some (.int r))) σ) 0 0 (xA E) := by
  refine x_ofF (C := RJ7) (n := "checkIndex") (d := "(IILjava/util/function/BiFunction;)I") (r := (some .int)) (by decide +kernel) rfl (by first | decide | exact Nat.le_of_ble_eq_true rfl) ?_
  intro p e s m below meth c ls F hr hlk hW hS hl
  have hl : lv_has ls 3 [(0, .int a0), (1, .int a1), (2, .null)] := hl
  obtain ⟨hx, hb, hml, hown, hts⟩ := id F.1
  have hK := F.2.1.1
  unfold fJ7_checkIndex at h
  refine lv_iload_n hx hb dJ7_checkIndex_0 rfl (lv_at hl 0 rfl) ?_
  refine lv_if_lt (tgt := 9) hx hb dJ7_checkIndex_1 (by decide) (fun c1 => ?_) (fun c1 => ?_)
  · rw [if_pos c1] at h
    cases h
  · rw [if_neg c1] at h
    refine lv_iload_n hx hb dJ7_checkIndex_4 rfl (lv_at hl 0 rfl) ?_
    refine lv_iload_n hx hb dJ7_checkIndex_5 rfl (lv_at hl 1 rfl) ?_
    refine lv_icmp_lt (tgt := 16) hx hb dJ7_checkIndex_6 (by decide) (fun c2 => ?_) (fun c2 => ?_)
    · rw [if_pos c2] at h
      refine lv_iload_n hx hb dJ7_checkIndex_16 rfl (lv_at hl 0 rfl) ?_
      have h := Option.some.inj h; subst h
      exact x_iret F hr hlk hW hS dJ7_checkIndex_17
    · rw [if_neg c2] at h
      cases h
/-! jdk/internal/util/Preconditions.checkIndex(IILjava/util/function/BiFunction;)I -/
set_option maxHeartbeats 4000000 in
theorem mJ7_checkIndex_r (l : Launch) (E : xE) (σ : xM) (a0 : Int32) (a1 : Int32) (t : Nat) (r : Int32) (h : fJ7_checkIndex a0 a1 = some r) : Met l yJ7_checkIndex (ws_ yJ7_checkIndex cJ7_checkIndex 3 (some .int)) ({ frames := 0, cells := 0, slots := 0, locals := 0 } : Room) (xPc E σ [.int a0, .int a1, .ref t]) (xQc E (.returned (some (.int r))) σ) 0 0 (xA E) := by
  refine x_ofF (C := RJ7) (n := "checkIndex") (d := "(IILjava/util/function/BiFunction;)I") (r := (some .int)) (by decide +kernel) rfl (by first | decide | exact Nat.le_of_ble_eq_true rfl) ?_
  intro p e s m below meth c ls F hr hlk hW hS hl
  have hl : lv_has ls 3 [(0, .int a0), (1, .int a1), (2, .ref t)] := hl
  obtain ⟨hx, hb, hml, hown, hts⟩ := id F.1
  have hK := F.2.1.1
  unfold fJ7_checkIndex at h
  refine lv_iload_n hx hb dJ7_checkIndex_0 rfl (lv_at hl 0 rfl) ?_
  refine lv_if_lt (tgt := 9) hx hb dJ7_checkIndex_1 (by decide) (fun c1 => ?_) (fun c1 => ?_)
  · rw [if_pos c1] at h
    cases h
  · rw [if_neg c1] at h
    refine lv_iload_n hx hb dJ7_checkIndex_4 rfl (lv_at hl 0 rfl) ?_
    refine lv_iload_n hx hb dJ7_checkIndex_5 rfl (lv_at hl 1 rfl) ?_
    refine lv_icmp_lt (tgt := 16) hx hb dJ7_checkIndex_6 (by decide) (fun c2 => ?_) (fun c2 => ?_)
    · rw [if_pos c2] at h
      refine lv_iload_n hx hb dJ7_checkIndex_16 rfl (lv_at hl 0 rfl) ?_
      have h := Option.some.inj h; subst h
      exact x_iret F hr hlk hW hS dJ7_checkIndex_17
    · rw [if_neg c2] at h
      cases h
/-! java/lang/String.checkIndex(II)V -/
def fJ5_checkIndex (a0 : Int32) (a1 : Int32) : Option Unit :=
  (fJ7_checkIndex a0 a1).bind (fun r2 => some ())
set_option maxHeartbeats 4000000 in
theorem mJ5_checkIndex (l : Launch) (E : xE) (σ : xM) (a0 : Int32) (a1 : Int32) (r : Unit) (h : fJ5_checkIndex a0 a1 = some r) : Met l yJ5_checkIndex (ws_ yJ5_checkIndex cJ5_checkIndex 2 none) ({ frames := 1, cells := 0, slots := 0, locals := 22 } : Room) (xPc E σ [.int a0, .int a1]) (xQc E (.returned none) σ) 0 0 (xA E) := by
  refine x_ofF (C := RJ5) (n := "checkIndex") (d := "(II)V") (r := none) (by decide +kernel) rfl (by first | decide | exact Nat.le_of_ble_eq_true rfl) ?_
  intro p e s m below meth c ls F hr hlk hW hS hl
  have hl : lv_has ls 2 [(0, .int a0), (1, .int a1)] := hl
  obtain ⟨hx, hb, hml, hown, hts⟩ := id F.1
  have hK := F.2.1.1
  unfold fJ5_checkIndex at h
  refine lv_iload_n hx hb dJ5_checkIndex_0 rfl (lv_at hl 0 rfl) ?_
  refine lv_iload_n hx hb dJ5_checkIndex_1 rfl (lv_at hl 1 rfl) ?_
  rcases F.2.2.2.2.1 with hZ | ⟨t, hZ⟩
  · refine va_gets hx hb hZ hS hown (hts _ q1032) (fun _ h9 => h9) dJ5_checkIndex_2 ?_
    cases g1 : fJ7_checkIndex a0 a1 with
    | none => rw [g1] at h; cases h
    | some r2 =>
      rw [g1, Option.bind_some] at h
      refine x_backi (va_runS (As := [.int a0, .int a1, .null]) (rest := []) F.1 (mJ7_checkIndex_n l E σ a0 a1 r2 g1) (va_cwS 3 hts (lw_S q1034 q1035 q121 q1036) rfl rfl rfl (by decide +kernel) ⟨Nat.le_of_ble_eq_true rfl, Nat.le_of_ble_eq_true rfl⟩) ⟨xPc.blind, F.pre hW hS [.int a0, .int a1, .null]⟩ rfl rfl hl.1 rfl (lv_room (Nat.le_of_ble_eq_true rfl)) dJ5_checkIndex_5 ⟨Nat.le_refl _, Nat.le_refl _⟩) hS (fun H locs hW hS => ?_)
      refine lv_pop hx hb dJ5_checkIndex_8 rfl ?_
      have h := Option.some.inj h; subst h
      exact x_vret F hr hlk hW hS dJ5_checkIndex_9
  · refine va_gets hx hb hZ hS hown (hts _ q1032) (fun _ h9 => h9) dJ5_checkIndex_2 ?_
    cases g1 : fJ7_checkIndex a0 a1 with
    | none => rw [g1] at h; cases h
    | some r2 =>
      rw [g1, Option.bind_some] at h
      refine x_backi (va_runS (As := [.int a0, .int a1, .ref t]) (rest := []) F.1 (mJ7_checkIndex_r l E σ a0 a1 t r2 g1) (va_cwS 3 hts (lw_S q1034 q1035 q121 q1036) rfl rfl rfl (by decide +kernel) ⟨Nat.le_of_ble_eq_true rfl, Nat.le_of_ble_eq_true rfl⟩) ⟨xPc.blind, F.pre hW hS [.int a0, .int a1, .ref t]⟩ rfl rfl hl.1 rfl (lv_room (Nat.le_of_ble_eq_true rfl)) dJ5_checkIndex_5 ⟨Nat.le_refl _, Nat.le_refl _⟩) hS (fun H locs hW hS => ?_)
      refine lv_pop hx hb dJ5_checkIndex_8 rfl ?_
      have h := Option.some.inj h; subst h
      exact x_vret F hr hlk hW hS dJ5_checkIndex_9
/-! java/lang/StringLatin1.charAt([BI)C -/
def fJ6_charAt (i : Nat) (a1 : Int32) : Option Int32 :=
  (fJ5_checkIndex a1 (Int32.ofNat (xsl.getD i 0))).bind (fun r2 => if xin a1 (xsl.getD i 0) then (some ((((((xsb.getD i []).getD a1.toNatClampNeg 0) &&& 255) : Int32).toUInt32 % 65536).toInt32)) else none)
set_option maxHeartbeats 4000000 in
theorem mJ6_charAt (l : Launch) (E : xE) (σ : xM) (i : Nat) (hi : i < 15) (a1 : Int32) (r : Int32) (h : fJ6_charAt i a1 = some r) : Met l yJ6_charAt (ws_ yJ6_charAt cJ6_charAt 2 (some .char)) ({ frames := 2, cells := 0, slots := 0, locals := 43 } : Room) (xPc E σ [.ref (xkv E i), .int a1]) (xQc E (.returned (some (.int r))) σ) 0 0 (xA E) := by
  refine x_ofF (C := RJ6) (n := "charAt") (d := "([BI)C") (r := (some .char)) (by decide +kernel) rfl (by first | decide | exact Nat.le_of_ble_eq_true rfl) ?_
  intro p e s m below meth c ls F hr hlk hW hS hl
  have hl : lv_has ls 2 [(0, .ref (xkv E i)), (1, .int a1)] := hl
  obtain ⟨hx, hb, hml, hown, hts⟩ := id F.1
  have hK := F.2.1.1
  unfold fJ6_charAt at h
  refine lv_iload_n hx hb dJ6_charAt_0 rfl (lv_at hl 1 rfl) ?_
  refine lv_aload_n hx hb dJ6_charAt_1 rfl (lv_at hl 0 rfl) ?_
  refine va_tlen hx hb (F.2.2.1.1 i hi).2.2.2 hS rfl dJ6_charAt_2 ?_
  cases g1 : fJ5_checkIndex a1 (Int32.ofNat (xsl.getD i 0)) with
  | none => rw [g1] at h; cases h
  | some r2 =>
    rw [g1, Option.bind_some] at h
    refine x_backv (va_runS (As := [.int a1, .int (Int32.ofNat (xsl.getD i 0))]) (rest := []) F.1 (mJ5_checkIndex l E σ a1 (Int32.ofNat (xsl.getD i 0)) r2 g1) (va_cwS 2 hts (lw_S q1029 q1030 q119 q1031) rfl rfl rfl (by decide +kernel) ⟨Nat.le_of_ble_eq_true rfl, Nat.le_of_ble_eq_true rfl⟩) ⟨xPc.blind, F.pre hW hS [.int a1, .int (Int32.ofNat (xsl.getD i 0))]⟩ rfl rfl hl.1 rfl (lv_room (Nat.le_of_ble_eq_true rfl)) dJ6_charAt_3 ⟨Nat.le_refl _, Nat.le_refl _⟩) hS (fun H locs hW hS => ?_)
    refine lv_aload_n hx hb dJ6_charAt_6 rfl (lv_at hl 0 rfl) ?_
    refine lv_iload_n hx hb dJ6_charAt_7 rfl (lv_at hl 1 rfl) ?_
    by_cases hi3 : xin a1 (xsl.getD i 0)
    · rw [if_pos hi3] at h
      refine va_tb hx hb (F.2.2.1.1 i hi).2.2.2 hS hi3 rfl dJ6_charAt_8 ?_
      refine lv_sipush (v := 255) hx hb dJ6_charAt_9 (by decide) ?_
      refine lv_iand hx hb dJ6_charAt_12 ?_
      refine lv_i2c (v := (((((xsb.getD i []).getD a1.toNatClampNeg 0) &&& 255) : Int32).toUInt32 % 65536).toInt32) hx hb dJ6_charAt_13 rfl ?_
      have h := Option.some.inj h; subst h
      exact x_zret F hr hlk hW hS (pk_nc _) dJ6_charAt_14
    · rw [if_neg hi3] at h; cases h
/-! java/lang/String.charAt(I)C -/
def fJ5_charAt (i : Nat) (a1 : Int32) : Option Int32 :=
  if (fJ5_isLatin1 i) = 0 then none else ((fJ6_charAt i a1).bind (fun r3 => if (r3.toUInt32 % 65536).toInt32 = r3 then (some r3) else none))
set_option maxHeartbeats 4000000 in
theorem mJ5_charAt (l : Launch) (E : xE) (σ : xM) (i : Nat) (hi : i < 15) (a1 : Int32) (r : Int32) (h : fJ5_charAt i a1 = some r) : Met l yJ5_charAt (ws_ yJ5_charAt cJ5_charAt 2 (some .char)) ({ frames := 3, cells := 0, slots := 0, locals := 64 } : Room) (xPc E σ [.ref (xks E i), .int a1]) (xQc E (.returned (some (.int r))) σ) 0 0 (xA E) := by
  refine x_ofF (C := RJ5) (n := "charAt") (d := "(I)C") (r := (some .char)) (by decide +kernel) rfl (by first | decide | exact Nat.le_of_ble_eq_true rfl) ?_
  intro p e s m below meth c ls F hr hlk hW hS hl
  have hl : lv_has ls 2 [(0, .ref (xks E i)), (1, .int a1)] := hl
  obtain ⟨hx, hb, hml, hown, hts⟩ := id F.1
  have hK := F.2.1.1
  unfold fJ5_charAt at h
  refine lv_aload_n hx hb dJ5_charAt_0 rfl (lv_at hl 0 rfl) ?_
  refine x_backi (va_runV (C := RJ5) (b := (xks E i)) (As := []) (rest := []) F.1 (mJ5_isLatin1 l E σ i hi) (cwV 0 hts (lw_V q1020 q1021 q1022 q119 q1023) rfl rfl rfl (by decide +kernel) ⟨Nat.le_of_ble_eq_true rfl, Nat.le_of_ble_eq_true rfl⟩) ⟨xPc.blind, vk_recv F.2.2.1 hi hS, F.pre hW hS (.ref (xks E i) :: [])⟩ rfl rfl hl.1 rfl (lv_room (Nat.le_of_ble_eq_true rfl)) dJ5_charAt_1 ⟨Nat.le_refl _, Nat.le_refl _⟩) hS (fun H locs hW hS => ?_)
  refine lv_if_eq (tgt := 16) hx hb dJ5_charAt_4 (by decide) (fun c1 => ?_) (fun c1 => ?_)
  · rw [if_pos c1] at h
    refine lv_aload_n hx hb dJ5_charAt_16 rfl (lv_at hl 0 rfl) ?_
    refine vk_getf hx hb (F.2.2.1.1 i hi).2.2.1 hS hown (hts _ q1748) (fun _ h9 => h9) dJ5_charAt_17 ?_
    refine lv_iload_n hx hb dJ5_charAt_20 rfl (lv_at hl 1 rfl) ?_
    cases h
  · rw [if_neg c1] at h
    refine lv_aload_n hx hb dJ5_charAt_7 rfl (lv_at hl 0 rfl) ?_
    refine vk_getf hx hb (F.2.2.1.1 i hi).2.2.1 hS hown (hts _ q1748) (fun _ h9 => h9) dJ5_charAt_8 ?_
    refine lv_iload_n hx hb dJ5_charAt_11 rfl (lv_at hl 1 rfl) ?_
    cases g2 : fJ6_charAt i a1 with
    | none => rw [g2] at h; cases h
    | some r3 =>
      rw [g2, Option.bind_some] at h
      refine x_backi (va_runS (As := [.ref (xkv E i), .int a1]) (rest := []) F.1 (mJ6_charAt l E σ i hi a1 r3 g2) (va_cwS 2 hts (lw_S q1026 q1027 q120 q1028) rfl rfl rfl (by decide +kernel) ⟨Nat.le_of_ble_eq_true rfl, Nat.le_of_ble_eq_true rfl⟩) ⟨xPc.blind, F.pre hW hS [.ref (xkv E i), .int a1]⟩ rfl rfl hl.1 rfl (lv_room (Nat.le_of_ble_eq_true rfl)) dJ5_charAt_12 ⟨Nat.le_refl _, Nat.le_refl _⟩) hS (fun H locs hW hS => ?_)
      by_cases hz4 : (r3.toUInt32 % 65536).toInt32 = r3
      · rw [if_pos hz4] at h
        have h := Option.some.inj h; subst h
        exact x_zret F hr hlk hW hS (by have hq := pk_nc r3; rw [hz4] at hq; exact hq) dJ5_charAt_15
      · rw [if_neg hz4] at h; cases h
