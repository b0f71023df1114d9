set_option maxRecDepth 100000
/-! WildBells$Bell.worth(I)I -/
def fX6_worth_k0 (σ : xM) (n : Nat) (a1 : Int32) : Option Int32 :=
  (fX4_fearAt σ 0 a1).bind (fun r2 => if xin a1 64 then (some (((10 * r2) + 9) - (σ 0 (18 + 64 * 1 + a1.toNatClampNeg)))) else none)
set_option maxHeartbeats 4000000 in
theorem mX6_worth_k0 (l : Launch) (E : xE) (σ : xM) (n : Nat) (hn : n < 8) (a1 : Int32) (r : Int32) (h : fX6_worth_k0 σ n a1 = some r) : Met l yX6_worth (ws_ yX6_worth cX6_worth 2 (some .int)) ({ frames := 3, cells := 0, slots := 0, locals := 67 } : Room) (xPc E σ [.ref (xa E (xbc 0 n)), .int a1]) (xQc E (.returned (some (.int r))) σ) 0 0 (xA E) := by
  refine x_of (C := RX6) (n := "worth") (d := "(I)I") (r := (some .int)) (by decide) rfl (by first | decide | exact Nat.le_of_ble_eq_true rfl) ?_
  intro p e s m below meth c ls F hr hlk hW hS hl
  have hl : lv_has ls 2 [(0, .ref (xa E (xbc 0 n))), (1, .int a1)] := hl
  obtain ⟨hx, hb, hml, hown, hts⟩ := id F.1
  have hK := F.2.1.1
  unfold fX6_worth_k0 at h
  refine lv_bipush (v := 10) hx hb dX6_worth_0 (by decide) ?_
  refine lv_aload_n hx hb dX6_worth_2 rfl (lv_at hl 0 rfl) ?_
  refine va_get (D := xD E) (ci := 6) (v := .ref (xa E 0)) (C := RX6) (T := TX6) (N := 2) hx hb hts in_X6 hown hK (xO_B hW 0 n (by decide) hn) 0 rfl rfl 1 (by decide) (hts _ q333) (fun _ h9 => h9) rfl dX6_worth_3 ?_
  refine va_getN (D := xD E) (ci := 0) (v := .ref (xa E (xwc 0 0))) (C := RX0) (T := TX0) (N := 15) hx hb hts in_X0 hown hK (xO_X hW) 0 rfl rfl 3 (by decide) (va_Nw.use rfl (F.2.1.2.1 _ q415 rfl)) (fun _ h9 => h9) rfl dX6_worth_6 ?_
  refine lv_iload_n hx hb dX6_worth_9 rfl (lv_at hl 1 rfl) ?_
  cases g1 : fX4_fearAt σ 0 a1 with
  | none => rw [g1] at h; cases h
  | some r2 =>
    rw [g1, Option.bind_some] at h
    refine x_backi (va_runV (C := RX4) (b := (xa E (xwc 0 0))) (As := [.int a1]) (rest := [.int 10]) F.1 (mX4_fearAt l E σ 0 (by decide) a1 r2 g1) (cwV 1 hts (lw_V q592 q593 q594 q106 q595) rfl rfl rfl (by decide +kernel) ⟨Nat.le_of_ble_eq_true rfl, Nat.le_of_ble_eq_true rfl⟩) ⟨xPc.blind, va_recv hK (xO_W hW 0 (by decide)) (ci := 4) (q0 := 0) rfl rfl, F.pre hW hS (.ref (xa E (xwc 0 0)) :: [.int a1])⟩ rfl rfl hl.1 rfl (lv_room (Nat.le_of_ble_eq_true rfl)) dX6_worth_10 ⟨Nat.le_refl _, Nat.le_refl _⟩) hS (fun H locs hW hS => ?_)
    refine lv_imul hx hb dX6_worth_13 ?_
    refine lv_bipush (v := 9) hx hb dX6_worth_14 (by decide) ?_
    refine lv_iadd hx hb dX6_worth_16 ?_
    refine lv_aload_n hx hb dX6_worth_17 rfl (lv_at hl 0 rfl) ?_
    refine va_get (D := xD E) (ci := 6) (v := .ref (xa E 0)) (C := RX6) (T := TX6) (N := 2) hx hb hts in_X6 hown hK (xO_B hW 0 n (by decide) hn) 0 rfl rfl 1 (by decide) (hts _ q333) (fun _ h9 => h9) rfl dX6_worth_18 ?_
    refine va_getN (D := xD E) (ci := 0) (v := .ref (xa E (xwc 0 0))) (C := RX0) (T := TX0) (N := 15) hx hb hts in_X0 hown hK (xO_X hW) 0 rfl rfl 3 (by decide) (va_Nw.use rfl (F.2.1.2.1 _ q415 rfl)) (fun _ h9 => h9) rfl dX6_worth_21 ?_
    refine va_getN (D := xD E) (ci := 4) (v := .ref (xa E (xwc 0 1))) (C := RX4) (T := TX4) (N := 8) hx hb hts in_X4 hown hK (xO_W hW 0 (by decide)) 0 rfl rfl 0 (by decide) (va_Nw.use rfl (F.2.1.2.1 _ q230 rfl)) (fun _ h9 => h9) rfl dX6_worth_24 ?_
    refine lv_iconst (v := 1) hx hb dX6_worth_27 (by decide) ?_
    refine x_aald (g := fun j => xa E (xwc 0 (2 + j))) (j := 1) F 4 4 2 (xR_1 hW 0 (by decide)) rfl rfl (x_lit (by decide)) (by decide) dX6_worth_28 ?_
    refine lv_iload_n hx hb dX6_worth_29 rfl (lv_at hl 1 rfl) ?_
    by_cases hi3 : xin a1 64
    · rw [if_pos hi3] at h
      refine va_iald hx hb hK (xV_2 hW 0 1 (by decide) (by decide)) 0 0 rfl rfl hi3 dX6_worth_30 ?_
      refine lv_isub hx hb dX6_worth_31 ?_
      cases h
      exact x_iret F hr hlk hW hS dX6_worth_32
    · rw [if_neg hi3] at h; cases h
/-! WildBells$Bell.worth(I)I -/
def fX6_worth_k1 (σ : xM) (n : Nat) (a1 : Int32) : Option Int32 :=
  (fX4_fearAt σ 0 a1).bind (fun r2 => if xin a1 64 then (some (((10 * r2) + 9) - (σ 0 (18 + 64 * 1 + a1.toNatClampNeg)))) else none)
set_option maxHeartbeats 4000000 in
theorem mX6_worth_k1 (l : Launch) (E : xE) (σ : xM) (n : Nat) (hn : n < 8) (a1 : Int32) (r : Int32) (h : fX6_worth_k1 σ n a1 = some r) : Met l yX6_worth (ws_ yX6_worth cX6_worth 2 (some .int)) ({ frames := 3, cells := 0, slots := 0, locals := 67 } : Room) (xPc E σ [.ref (xa E (xbc 1 n)), .int a1]) (xQc E (.returned (some (.int r))) σ) 0 0 (xA E) := by
  refine x_of (C := RX6) (n := "worth") (d := "(I)I") (r := (some .int)) (by decide) rfl (by first | decide | exact Nat.le_of_ble_eq_true rfl) ?_
  intro p e s m below meth c ls F hr hlk hW hS hl
  have hl : lv_has ls 2 [(0, .ref (xa E (xbc 1 n))), (1, .int a1)] := hl
  obtain ⟨hx, hb, hml, hown, hts⟩ := id F.1
  have hK := F.2.1.1
  unfold fX6_worth_k1 at h
  refine lv_bipush (v := 10) hx hb dX6_worth_0 (by decide) ?_
  refine lv_aload_n hx hb dX6_worth_2 rfl (lv_at hl 0 rfl) ?_
  refine va_get (D := xD E) (ci := 7) (v := .ref (xa E 0)) (C := RX7) (T := TX7) (N := 3) hx hb hts in_X7 hown hK (xO_B hW 1 n (by decide) hn) 0 rfl rfl 1 (by decide) (hts _ q333) (fun _ h9 => h9) rfl dX6_worth_3 ?_
  refine va_getN (D := xD E) (ci := 0) (v := .ref (xa E (xwc 0 0))) (C := RX0) (T := TX0) (N := 15) hx hb hts in_X0 hown hK (xO_X hW) 0 rfl rfl 3 (by decide) (va_Nw.use rfl (F.2.1.2.1 _ q415 rfl)) (fun _ h9 => h9) rfl dX6_worth_6 ?_
  refine lv_iload_n hx hb dX6_worth_9 rfl (lv_at hl 1 rfl) ?_
  cases g1 : fX4_fearAt σ 0 a1 with
  | none => rw [g1] at h; cases h
  | some r2 =>
    rw [g1, Option.bind_some] at h
    refine x_backi (va_runV (C := RX4) (b := (xa E (xwc 0 0))) (As := [.int a1]) (rest := [.int 10]) F.1 (mX4_fearAt l E σ 0 (by decide) a1 r2 g1) (cwV 1 hts (lw_V q592 q593 q594 q106 q595) rfl rfl rfl (by decide +kernel) ⟨Nat.le_of_ble_eq_true rfl, Nat.le_of_ble_eq_true rfl⟩) ⟨xPc.blind, va_recv hK (xO_W hW 0 (by decide)) (ci := 4) (q0 := 0) rfl rfl, F.pre hW hS (.ref (xa E (xwc 0 0)) :: [.int a1])⟩ rfl rfl hl.1 rfl (lv_room (Nat.le_of_ble_eq_true rfl)) dX6_worth_10 ⟨Nat.le_refl _, Nat.le_refl _⟩) hS (fun H locs hW hS => ?_)
    refine lv_imul hx hb dX6_worth_13 ?_
    refine lv_bipush (v := 9) hx hb dX6_worth_14 (by decide) ?_
    refine lv_iadd hx hb dX6_worth_16 ?_
    refine lv_aload_n hx hb dX6_worth_17 rfl (lv_at hl 0 rfl) ?_
    refine va_get (D := xD E) (ci := 7) (v := .ref (xa E 0)) (C := RX7) (T := TX7) (N := 3) hx hb hts in_X7 hown hK (xO_B hW 1 n (by decide) hn) 0 rfl rfl 1 (by decide) (hts _ q333) (fun _ h9 => h9) rfl dX6_worth_18 ?_
    refine va_getN (D := xD E) (ci := 0) (v := .ref (xa E (xwc 0 0))) (C := RX0) (T := TX0) (N := 15) hx hb hts in_X0 hown hK (xO_X hW) 0 rfl rfl 3 (by decide) (va_Nw.use rfl (F.2.1.2.1 _ q415 rfl)) (fun _ h9 => h9) rfl dX6_worth_21 ?_
    refine va_getN (D := xD E) (ci := 4) (v := .ref (xa E (xwc 0 1))) (C := RX4) (T := TX4) (N := 8) hx hb hts in_X4 hown hK (xO_W hW 0 (by decide)) 0 rfl rfl 0 (by decide) (va_Nw.use rfl (F.2.1.2.1 _ q230 rfl)) (fun _ h9 => h9) rfl dX6_worth_24 ?_
    refine lv_iconst (v := 1) hx hb dX6_worth_27 (by decide) ?_
    refine x_aald (g := fun j => xa E (xwc 0 (2 + j))) (j := 1) F 4 4 2 (xR_1 hW 0 (by decide)) rfl rfl (x_lit (by decide)) (by decide) dX6_worth_28 ?_
    refine lv_iload_n hx hb dX6_worth_29 rfl (lv_at hl 1 rfl) ?_
    by_cases hi3 : xin a1 64
    · rw [if_pos hi3] at h
      refine va_iald hx hb hK (xV_2 hW 0 1 (by decide) (by decide)) 0 0 rfl rfl hi3 dX6_worth_30 ?_
      refine lv_isub hx hb dX6_worth_31 ?_
      cases h
      exact x_iret F hr hlk hW hS dX6_worth_32
    · rw [if_neg hi3] at h; cases h
/-! WildBells$Herd.worth(I)I -/
def fX7_worth_k1 (σ : xM) (n : Nat) (a1 : Int32) : Option Int32 :=
  (fX0_nearest σ (Int32.ofNat n) a1 1).bind (fun r2 => (fX6_worth_k1 σ n a1).bind (fun r4 => if r2 = (-1) then (some (r4 + 0)) else (some (r4 + (fJ3_max 0 (20 - r2))))))
set_option maxHeartbeats 4000000 in
theorem mX7_worth_k1 (l : Launch) (E : xE) (σ : xM) (n : Nat) (hn : n < 8) (a1 : Int32) (r : Int32) (h : fX7_worth_k1 σ n a1 = some r) : Met l yX7_worth (ws_ yX7_worth cX7_worth 3 (some .int)) ({ frames := 8, cells := 0, slots := 0, locals := 170 } : Room) (xPc E σ [.ref (xa E (xbc 1 n)), .int a1]) (xQc E (.returned (some (.int r))) σ) 0 0 (xA E) := by
  refine x_of (C := RX7) (n := "worth") (d := "(I)I") (r := (some .int)) (by decide) rfl (by first | decide | exact Nat.le_of_ble_eq_true rfl) ?_
  intro p e s m below meth c ls F hr hlk hW hS hl
  have hl : lv_has ls 3 [(0, .ref (xa E (xbc 1 n))), (1, .int a1)] := hl
  obtain ⟨hx, hb, hml, hown, hts⟩ := id F.1
  have hK := F.2.1.1
  unfold fX7_worth_k1 at h
  refine lv_aload_n hx hb dX7_worth_0 rfl (lv_at hl 0 rfl) ?_
  refine va_get (D := xD E) (ci := 7) (v := .ref (xa E 0)) (C := RX7) (T := TX7) (N := 3) hx hb hts in_X7 hown hK (xO_B hW 1 n (by decide) hn) 0 rfl rfl 2 (by decide) (hts _ q326) (fun _ h9 => h9) rfl dX7_worth_1 ?_
  refine lv_aload_n hx hb dX7_worth_4 rfl (lv_at hl 0 rfl) ?_
  refine va_get (D := xD E) (ci := 7) (v := .int (Int32.ofNat n)) (C := RX7) (T := TX7) (N := 3) hx hb hts in_X7 hown hK (xO_B hW 1 n (by decide) hn) 0 rfl rfl 0 (by decide) (hts _ q328) (u_same (hts _ q329)) rfl dX7_worth_5 ?_
  refine lv_iload_n hx hb dX7_worth_8 rfl (lv_at hl 1 rfl) ?_
  refine lv_iconst (v := 1) hx hb dX7_worth_9 (by decide) ?_
  cases g1 : fX0_nearest σ (Int32.ofNat n) a1 1 with
  | none => rw [g1] at h; cases h
  | some r2 =>
    rw [g1, Option.bind_some] at h
    refine x_backi (va_runVN (host := "WildBells") (C := RX0) (b := (xa E 0)) (As := [.int (Int32.ofNat n), .int a1, .int 1]) (rest := []) F.1 (mX0_nearest l E σ (Int32.ofNat n) a1 1 r2 g1) ⟨va_cnB 3 hts (lw_meth q615) rfl rfl rfl (F.2.1.2.1 _ q651 rfl) (hts _ q99) (by decide +kernel) ⟨Nat.le_of_ble_eq_true rfl, Nat.le_of_ble_eq_true rfl⟩, hts _ q614, hts _ qs7⟩ ⟨xPc.blind, va_recv hK (xO_X hW) (ci := 0) (q0 := 0) rfl rfl, F.pre hW hS (.ref (xa E 0) :: [.int (Int32.ofNat n), .int a1, .int 1])⟩ rfl rfl hl.1 rfl (lv_room (Nat.le_of_ble_eq_true rfl)) dX7_worth_10 ⟨Nat.le_refl _, Nat.le_refl _⟩) hS (fun H locs hW hS => ?_)
    refine lv_istore_n (lv' := [(2, .int r2), (0, .ref (xa E (xbc 1 n))), (1, .int a1)]) hx hb dX7_worth_13 rfl hl (by decide) rfl (fun ls hl => ?_)
    refine lv_aload_n hx hb dX7_worth_14 rfl (lv_at hl 1 rfl) ?_
    refine lv_iload_n hx hb dX7_worth_15 rfl (lv_at hl 2 rfl) ?_
    cases g3 : fX6_worth_k1 σ n a1 with
    | none => rw [g3] at h; cases h
    | some r4 =>
      rw [g3, Option.bind_some] at h
      refine x_backi (va_runSU (C := RX7) (b := (xa E (xbc 1 n))) (hK.1 7 _ rfl).2 (As := [.int a1]) (rest := []) F.1 (mX6_worth_k1 l E σ n hn a1 r4 g3) (va_cwSU 1 hts (lw_SU q652 q1734 q340 q589 q108 q591) rfl rfl rfl (by decide +kernel) ⟨Nat.le_of_ble_eq_true rfl, Nat.le_of_ble_eq_true rfl⟩) ⟨xPc.blind, va_recv hK (xO_B hW 1 n (by decide) hn) (ci := 7) (q0 := 0) rfl rfl, F.pre hW hS (.ref (xa E (xbc 1 n)) :: [.int a1])⟩ rfl rfl hl.1 rfl (lv_room (Nat.le_of_ble_eq_true rfl)) dX7_worth_16 ⟨Nat.le_refl _, Nat.le_refl _⟩) hS (fun H locs hW hS => ?_)
      refine lv_iload_n hx hb dX7_worth_19 rfl (lv_at hl 0 rfl) ?_
      refine lv_iconst (v := (-1)) hx hb dX7_worth_20 (by decide) ?_
      refine lv_icmp_ne (tgt := 28) hx hb dX7_worth_21 (by decide) (fun c5 => ?_) (fun c5 => ?_)
      · rw [if_neg c5] at h
        refine lv_iconst (v := 0) hx hb dX7_worth_28 (by decide) ?_
        refine lv_bipush (v := 20) hx hb dX7_worth_29 (by decide) ?_
        refine lv_iload_n hx hb dX7_worth_31 rfl (lv_at hl 0 rfl) ?_
        refine lv_isub hx hb dX7_worth_32 ?_
        refine x_backi (va_runS (As := [.int 0, .int (20 - r2)]) (rest := [.int r4]) F.1 (mJ3_max l E σ 0 (20 - r2)) (va_cwS 2 hts (lw_S q653 q504 q116 q505) rfl rfl rfl (by decide +kernel) ⟨Nat.le_of_ble_eq_true rfl, Nat.le_of_ble_eq_true rfl⟩) ⟨xPc.blind, F.pre hW hS [.int 0, .int (20 - r2)]⟩ rfl rfl hl.1 rfl (lv_room (Nat.le_of_ble_eq_true rfl)) dX7_worth_33 ⟨Nat.le_refl _, Nat.le_refl _⟩) hS (fun H locs hW hS => ?_)
        refine lv_iadd hx hb dX7_worth_36 ?_
        cases h
        exact x_iret F hr hlk hW hS dX7_worth_37
      · rw [if_pos c5] at h
        refine lv_iconst (v := 0) hx hb dX7_worth_24 (by decide) ?_
        refine lv_goto (tgt := 36) hx hb dX7_worth_25 (by decide) ?_
        refine lv_iadd hx hb dX7_worth_36 ?_
        cases h
        exact x_iret F hr hlk hW hS dX7_worth_37
/-! WildBells$Bell.worth(I)I -/
def fX6_worth_k2 (σ : xM) (n : Nat) (a1 : Int32) : Option Int32 :=
  (fX4_fearAt σ 0 a1).bind (fun r2 => if xin a1 64 then (some (((10 * r2) + 9) - (σ 0 (18 + 64 * 1 + a1.toNatClampNeg)))) else none)
set_option maxHeartbeats 4000000 in
theorem mX6_worth_k2 (l : Launch) (E : xE) (σ : xM) (n : Nat) (hn : n < 8) (a1 : Int32) (r : Int32) (h : fX6_worth_k2 σ n a1 = some r) : Met l yX6_worth (ws_ yX6_worth cX6_worth 2 (some .int)) ({ frames := 3, cells := 0, slots := 0, locals := 67 } : Room) (xPc E σ [.ref (xa E (xbc 2 n)), .int a1]) (xQc E (.returned (some (.int r))) σ) 0 0 (xA E) := by
  refine x_of (C := RX6) (n := "worth") (d := "(I)I") (r := (some .int)) (by decide) rfl (by first | decide | exact Nat.le_of_ble_eq_true rfl) ?_
  intro p e s m below meth c ls F hr hlk hW hS hl
  have hl : lv_has ls 2 [(0, .ref (xa E (xbc 2 n))), (1, .int a1)] := hl
  obtain ⟨hx, hb, hml, hown, hts⟩ := id F.1
  have hK := F.2.1.1
  unfold fX6_worth_k2 at h
  refine lv_bipush (v := 10) hx hb dX6_worth_0 (by decide) ?_
  refine lv_aload_n hx hb dX6_worth_2 rfl (lv_at hl 0 rfl) ?_
  refine va_get (D := xD E) (ci := 8) (v := .ref (xa E 0)) (C := RX8) (T := TX8) (N := 3) hx hb hts in_X8 hown hK (xO_B hW 2 n (by decide) hn) 0 rfl rfl 1 (by decide) (hts _ q333) (fun _ h9 => h9) rfl dX6_worth_3 ?_
  refine va_getN (D := xD E) (ci := 0) (v := .ref (xa E (xwc 0 0))) (C := RX0) (T := TX0) (N := 15) hx hb hts in_X0 hown hK (xO_X hW) 0 rfl rfl 3 (by decide) (va_Nw.use rfl (F.2.1.2.1 _ q415 rfl)) (fun _ h9 => h9) rfl dX6_worth_6 ?_
  refine lv_iload_n hx hb dX6_worth_9 rfl (lv_at hl 1 rfl) ?_
  cases g1 : fX4_fearAt σ 0 a1 with
  | none => rw [g1] at h; cases h
  | some r2 =>
    rw [g1, Option.bind_some] at h
    refine x_backi (va_runV (C := RX4) (b := (xa E (xwc 0 0))) (As := [.int a1]) (rest := [.int 10]) F.1 (mX4_fearAt l E σ 0 (by decide) a1 r2 g1) (cwV 1 hts (lw_V q592 q593 q594 q106 q595) rfl rfl rfl (by decide +kernel) ⟨Nat.le_of_ble_eq_true rfl, Nat.le_of_ble_eq_true rfl⟩) ⟨xPc.blind, va_recv hK (xO_W hW 0 (by decide)) (ci := 4) (q0 := 0) rfl rfl, F.pre hW hS (.ref (xa E (xwc 0 0)) :: [.int a1])⟩ rfl rfl hl.1 rfl (lv_room (Nat.le_of_ble_eq_true rfl)) dX6_worth_10 ⟨Nat.le_refl _, Nat.le_refl _⟩) hS (fun H locs hW hS => ?_)
    refine lv_imul hx hb dX6_worth_13 ?_
    refine lv_bipush (v := 9) hx hb dX6_worth_14 (by decide) ?_
    refine lv_iadd hx hb dX6_worth_16 ?_
    refine lv_aload_n hx hb dX6_worth_17 rfl (lv_at hl 0 rfl) ?_
    refine va_get (D := xD E) (ci := 8) (v := .ref (xa E 0)) (C := RX8) (T := TX8) (N := 3) hx hb hts in_X8 hown hK (xO_B hW 2 n (by decide) hn) 0 rfl rfl 1 (by decide) (hts _ q333) (fun _ h9 => h9) rfl dX6_worth_18 ?_
    refine va_getN (D := xD E) (ci := 0) (v := .ref (xa E (xwc 0 0))) (C := RX0) (T := TX0) (N := 15) hx hb hts in_X0 hown hK (xO_X hW) 0 rfl rfl 3 (by decide) (va_Nw.use rfl (F.2.1.2.1 _ q415 rfl)) (fun _ h9 => h9) rfl dX6_worth_21 ?_
    refine va_getN (D := xD E) (ci := 4) (v := .ref (xa E (xwc 0 1))) (C := RX4) (T := TX4) (N := 8) hx hb hts in_X4 hown hK (xO_W hW 0 (by decide)) 0 rfl rfl 0 (by decide) (va_Nw.use rfl (F.2.1.2.1 _ q230 rfl)) (fun _ h9 => h9) rfl dX6_worth_24 ?_
    refine lv_iconst (v := 1) hx hb dX6_worth_27 (by decide) ?_
    refine x_aald (g := fun j => xa E (xwc 0 (2 + j))) (j := 1) F 4 4 2 (xR_1 hW 0 (by decide)) rfl rfl (x_lit (by decide)) (by decide) dX6_worth_28 ?_
    refine lv_iload_n hx hb dX6_worth_29 rfl (lv_at hl 1 rfl) ?_
    by_cases hi3 : xin a1 64
    · rw [if_pos hi3] at h
      refine va_iald hx hb hK (xV_2 hW 0 1 (by decide) (by decide)) 0 0 rfl rfl hi3 dX6_worth_30 ?_
      refine lv_isub hx hb dX6_worth_31 ?_
      cases h
      exact x_iret F hr hlk hW hS dX6_worth_32
    · rw [if_neg hi3] at h; cases h
/-! WildBells$Lone.worth(I)I -/
def fX8_worth_k2 (σ : xM) (n : Nat) (a1 : Int32) : Option Int32 :=
  (fX6_worth_k2 σ n a1).bind (fun r2 => (fX0_nearest σ (Int32.ofNat n) a1 0).bind (fun r4 => some (r2 + (fJ3_max 0 r4))))
set_option maxHeartbeats 4000000 in
theorem mX8_worth_k2 (l : Launch) (E : xE) (σ : xM) (n : Nat) (hn : n < 8) (a1 : Int32) (r : Int32) (h : fX8_worth_k2 σ n a1 = some r) : Met l yX8_worth (ws_ yX8_worth cX8_worth 2 (some .int)) ({ frames := 8, cells := 0, slots := 0, locals := 170 } : Room) (xPc E σ [.ref (xa E (xbc 2 n)), .int a1]) (xQc E (.returned (some (.int r))) σ) 0 0 (xA E) := by
  refine x_of (C := RX8) (n := "worth") (d := "(I)I") (r := (some .int)) (by decide) rfl (by first | decide | exact Nat.le_of_ble_eq_true rfl) ?_
  intro p e s m below meth c ls F hr hlk hW hS hl
  have hl : lv_has ls 2 [(0, .ref (xa E (xbc 2 n))), (1, .int a1)] := hl
  obtain ⟨hx, hb, hml, hown, hts⟩ := id F.1
  have hK := F.2.1.1
  unfold fX8_worth_k2 at h
  refine lv_aload_n hx hb dX8_worth_0 rfl (lv_at hl 0 rfl) ?_
  refine lv_iload_n hx hb dX8_worth_1 rfl (lv_at hl 1 rfl) ?_
  cases g1 : fX6_worth_k2 σ n a1 with
  | none => rw [g1] at h; cases h
  | some r2 =>
    rw [g1, Option.bind_some] at h
    refine x_backi (va_runSU (C := RX8) (b := (xa E (xbc 2 n))) (hK.1 8 _ rfl).2 (As := [.int a1]) (rest := []) F.1 (mX6_worth_k2 l E σ n hn a1 r2 g1) (va_cwSU 1 hts (lw_SU q611 q1734 q352 q589 q108 q591) rfl rfl rfl (by decide +kernel) ⟨Nat.le_of_ble_eq_true rfl, Nat.le_of_ble_eq_true rfl⟩) ⟨xPc.blind, va_recv hK (xO_B hW 2 n (by decide) hn) (ci := 8) (q0 := 0) rfl rfl, F.pre hW hS (.ref (xa E (xbc 2 n)) :: [.int a1])⟩ rfl rfl hl.1 rfl (lv_room (Nat.le_of_ble_eq_true rfl)) dX8_worth_2 ⟨Nat.le_refl _, Nat.le_refl _⟩) hS (fun H locs hW hS => ?_)
    refine lv_iconst (v := 0) hx hb dX8_worth_5 (by decide) ?_
    refine lv_aload_n hx hb dX8_worth_6 rfl (lv_at hl 0 rfl) ?_
    refine va_get (D := xD E) (ci := 8) (v := .ref (xa E 0)) (C := RX8) (T := TX8) (N := 3) hx hb hts in_X8 hown hK (xO_B hW 2 n (by decide) hn) 0 rfl rfl 2 (by decide) (hts _ q347) (fun _ h9 => h9) rfl dX8_worth_7 ?_
    refine lv_aload_n hx hb dX8_worth_10 rfl (lv_at hl 0 rfl) ?_
    refine va_get (D := xD E) (ci := 8) (v := .int (Int32.ofNat n)) (C := RX8) (T := TX8) (N := 3) hx hb hts in_X8 hown hK (xO_B hW 2 n (by decide) hn) 0 rfl rfl 0 (by decide) (hts _ q330) (u_same (hts _ q331)) rfl dX8_worth_11 ?_
    refine lv_iload_n hx hb dX8_worth_14 rfl (lv_at hl 1 rfl) ?_
    refine lv_iconst (v := 0) hx hb dX8_worth_15 (by decide) ?_
    cases g3 : fX0_nearest σ (Int32.ofNat n) a1 0 with
    | none => rw [g3] at h; cases h
    | some r4 =>
      rw [g3, Option.bind_some] at h
      refine x_backi (va_runVN (host := "WildBells") (C := RX0) (b := (xa E 0)) (As := [.int (Int32.ofNat n), .int a1, .int 0]) (rest := [.int 0, .int r2]) F.1 (mX0_nearest l E σ (Int32.ofNat n) a1 0 r4 g3) ⟨va_cnB 3 hts (lw_meth q615) rfl rfl rfl (F.2.1.2.1 _ q612 rfl) (hts _ q99) (by decide +kernel) ⟨Nat.le_of_ble_eq_true rfl, Nat.le_of_ble_eq_true rfl⟩, hts _ q614, hts _ qs7⟩ ⟨xPc.blind, va_recv hK (xO_X hW) (ci := 0) (q0 := 0) rfl rfl, F.pre hW hS (.ref (xa E 0) :: [.int (Int32.ofNat n), .int a1, .int 0])⟩ rfl rfl hl.1 rfl (lv_room (Nat.le_of_ble_eq_true rfl)) dX8_worth_16 ⟨Nat.le_refl _, Nat.le_refl _⟩) hS (fun H locs hW hS => ?_)
      refine x_backi (va_runS (As := [.int 0, .int r4]) (rest := [.int r2]) F.1 (mJ3_max l E σ 0 r4) (va_cwS 2 hts (lw_S q639 q504 q116 q505) rfl rfl rfl (by decide +kernel) ⟨Nat.le_of_ble_eq_true rfl, Nat.le_of_ble_eq_true rfl⟩) ⟨xPc.blind, F.pre hW hS [.int 0, .int r4]⟩ rfl rfl hl.1 rfl (lv_room (Nat.le_of_ble_eq_true rfl)) dX8_worth_19 ⟨Nat.le_refl _, Nat.le_refl _⟩) hS (fun H locs hW hS => ?_)
      refine lv_iadd hx hb dX8_worth_22 ?_
      cases h
      exact x_iret F hr hlk hW hS dX8_worth_23
/-! WildBells$Bell.worth(I)I -/
def fX6_worth_k3 (σ : xM) (n : Nat) (a1 : Int32) : Option Int32 :=
  (fX4_fearAt σ 0 a1).bind (fun r2 => if xin a1 64 then (some (((10 * r2) + 9) - (σ 0 (18 + 64 * 1 + a1.toNatClampNeg)))) else none)
set_option maxHeartbeats 4000000 in
theorem mX6_worth_k3 (l : Launch) (E : xE) (σ : xM) (n : Nat) (hn : n < 8) (a1 : Int32) (r : Int32) (h : fX6_worth_k3 σ n a1 = some r) : Met l yX6_worth (ws_ yX6_worth cX6_worth 2 (some .int)) ({ frames := 3, cells := 0, slots := 0, locals := 67 } : Room) (xPc E σ [.ref (xa E (xbc 3 n)), .int a1]) (xQc E (.returned (some (.int r))) σ) 0 0 (xA E) := by
  refine x_of (C := RX6) (n := "worth") (d := "(I)I") (r := (some .int)) (by decide) rfl (by first | decide | exact Nat.le_of_ble_eq_true rfl) ?_
  intro p e s m below meth c ls F hr hlk hW hS hl
  have hl : lv_has ls 2 [(0, .ref (xa E (xbc 3 n))), (1, .int a1)] := hl
  obtain ⟨hx, hb, hml, hown, hts⟩ := id F.1
  have hK := F.2.1.1
  unfold fX6_worth_k3 at h
  refine lv_bipush (v := 10) hx hb dX6_worth_0 (by decide) ?_
  refine lv_aload_n hx hb dX6_worth_2 rfl (lv_at hl 0 rfl) ?_
  refine va_get (D := xD E) (ci := 9) (v := .ref (xa E 0)) (C := RX9) (T := TX9) (N := 4) hx hb hts in_X9 hown hK (xO_B hW 3 n (by decide) hn) 0 rfl rfl 1 (by decide) (hts _ q333) (fun _ h9 => h9) rfl dX6_worth_3 ?_
  refine va_getN (D := xD E) (ci := 0) (v := .ref (xa E (xwc 0 0))) (C := RX0) (T := TX0) (N := 15) hx hb hts in_X0 hown hK (xO_X hW) 0 rfl rfl 3 (by decide) (va_Nw.use rfl (F.2.1.2.1 _ q415 rfl)) (fun _ h9 => h9) rfl dX6_worth_6 ?_
  refine lv_iload_n hx hb dX6_worth_9 rfl (lv_at hl 1 rfl) ?_
  cases g1 : fX4_fearAt σ 0 a1 with
  | none => rw [g1] at h; cases h
  | some r2 =>
    rw [g1, Option.bind_some] at h
    refine x_backi (va_runV (C := RX4) (b := (xa E (xwc 0 0))) (As := [.int a1]) (rest := [.int 10]) F.1 (mX4_fearAt l E σ 0 (by decide) a1 r2 g1) (cwV 1 hts (lw_V q592 q593 q594 q106 q595) rfl rfl rfl (by decide +kernel) ⟨Nat.le_of_ble_eq_true rfl, Nat.le_of_ble_eq_true rfl⟩) ⟨xPc.blind, va_recv hK (xO_W hW 0 (by decide)) (ci := 4) (q0 := 0) rfl rfl, F.pre hW hS (.ref (xa E (xwc 0 0)) :: [.int a1])⟩ rfl rfl hl.1 rfl (lv_room (Nat.le_of_ble_eq_true rfl)) dX6_worth_10 ⟨Nat.le_refl _, Nat.le_refl _⟩) hS (fun H locs hW hS => ?_)
    refine lv_imul hx hb dX6_worth_13 ?_
    refine lv_bipush (v := 9) hx hb dX6_worth_14 (by decide) ?_
    refine lv_iadd hx hb dX6_worth_16 ?_
    refine lv_aload_n hx hb dX6_worth_17 rfl (lv_at hl 0 rfl) ?_
    refine va_get (D := xD E) (ci := 9) (v := .ref (xa E 0)) (C := RX9) (T := TX9) (N := 4) hx hb hts in_X9 hown hK (xO_B hW 3 n (by decide) hn) 0 rfl rfl 1 (by decide) (hts _ q333) (fun _ h9 => h9) rfl dX6_worth_18 ?_
    refine va_getN (D := xD E) (ci := 0) (v := .ref (xa E (xwc 0 0))) (C := RX0) (T := TX0) (N := 15) hx hb hts in_X0 hown hK (xO_X hW) 0 rfl rfl 3 (by decide) (va_Nw.use rfl (F.2.1.2.1 _ q415 rfl)) (fun _ h9 => h9) rfl dX6_worth_21 ?_
    refine va_getN (D := xD E) (ci := 4) (v := .ref (xa E (xwc 0 1))) (C := RX4) (T := TX4) (N := 8) hx hb hts in_X4 hown hK (xO_W hW 0 (by decide)) 0 rfl rfl 0 (by decide) (va_Nw.use rfl (F.2.1.2.1 _ q230 rfl)) (fun _ h9 => h9) rfl dX6_worth_24 ?_
    refine lv_iconst (v := 1) hx hb dX6_worth_27 (by decide) ?_
    refine x_aald (g := fun j => xa E (xwc 0 (2 + j))) (j := 1) F 4 4 2 (xR_1 hW 0 (by decide)) rfl rfl (x_lit (by decide)) (by decide) dX6_worth_28 ?_
    refine lv_iload_n hx hb dX6_worth_29 rfl (lv_at hl 1 rfl) ?_
    by_cases hi3 : xin a1 64
    · rw [if_pos hi3] at h
      refine va_iald hx hb hK (xV_2 hW 0 1 (by decide) (by decide)) 0 0 rfl rfl hi3 dX6_worth_30 ?_
      refine lv_isub hx hb dX6_worth_31 ?_
      cases h
      exact x_iret F hr hlk hW hS dX6_worth_32
    · rw [if_neg hi3] at h; cases h
/-! WildBells$Lone.worth(I)I -/
def fX8_worth_k3 (σ : xM) (n : Nat) (a1 : Int32) : Option Int32 :=
  (fX6_worth_k3 σ n a1).bind (fun r2 => (fX0_nearest σ (Int32.ofNat n) a1 0).bind (fun r4 => some (r2 + (fJ3_max 0 r4))))
set_option maxHeartbeats 4000000 in
theorem mX8_worth_k3 (l : Launch) (E : xE) (σ : xM) (n : Nat) (hn : n < 8) (a1 : Int32) (r : Int32) (h : fX8_worth_k3 σ n a1 = some r) : Met l yX8_worth (ws_ yX8_worth cX8_worth 2 (some .int)) ({ frames := 8, cells := 0, slots := 0, locals := 170 } : Room) (xPc E σ [.ref (xa E (xbc 3 n)), .int a1]) (xQc E (.returned (some (.int r))) σ) 0 0 (xA E) := by
  refine x_of (C := RX8) (n := "worth") (d := "(I)I") (r := (some .int)) (by decide) rfl (by first | decide | exact Nat.le_of_ble_eq_true rfl) ?_
  intro p e s m below meth c ls F hr hlk hW hS hl
  have hl : lv_has ls 2 [(0, .ref (xa E (xbc 3 n))), (1, .int a1)] := hl
  obtain ⟨hx, hb, hml, hown, hts⟩ := id F.1
  have hK := F.2.1.1
  unfold fX8_worth_k3 at h
  refine lv_aload_n hx hb dX8_worth_0 rfl (lv_at hl 0 rfl) ?_
  refine lv_iload_n hx hb dX8_worth_1 rfl (lv_at hl 1 rfl) ?_
  cases g1 : fX6_worth_k3 σ n a1 with
  | none => rw [g1] at h; cases h
  | some r2 =>
    rw [g1, Option.bind_some] at h
    refine x_backi (va_runSU (C := RX9) (b := (xa E (xbc 3 n))) (hK.1 9 _ rfl).2 (As := [.int a1]) (rest := []) F.1 (mX6_worth_k3 l E σ n hn a1 r2 g1) (va_cwSU 1 hts (lw_SU q611 q1734 q352 q589 q108 q591) rfl rfl rfl (by decide +kernel) ⟨Nat.le_of_ble_eq_true rfl, Nat.le_of_ble_eq_true rfl⟩) ⟨xPc.blind, va_recv hK (xO_B hW 3 n (by decide) hn) (ci := 9) (q0 := 0) rfl rfl, F.pre hW hS (.ref (xa E (xbc 3 n)) :: [.int a1])⟩ rfl rfl hl.1 rfl (lv_room (Nat.le_of_ble_eq_true rfl)) dX8_worth_2 ⟨Nat.le_refl _, Nat.le_refl _⟩) hS (fun H locs hW hS => ?_)
    refine lv_iconst (v := 0) hx hb dX8_worth_5 (by decide) ?_
    refine lv_aload_n hx hb dX8_worth_6 rfl (lv_at hl 0 rfl) ?_
    refine va_get (D := xD E) (ci := 9) (v := .ref (xa E 0)) (C := RX9) (T := TX9) (N := 4) hx hb hts in_X9 hown hK (xO_B hW 3 n (by decide) hn) 0 rfl rfl 2 (by decide) (hts _ q347) (fun _ h9 => h9) rfl dX8_worth_7 ?_
    refine lv_aload_n hx hb dX8_worth_10 rfl (lv_at hl 0 rfl) ?_
    refine va_get (D := xD E) (ci := 9) (v := .int (Int32.ofNat n)) (C := RX9) (T := TX9) (N := 4) hx hb hts in_X9 hown hK (xO_B hW 3 n (by decide) hn) 0 rfl rfl 0 (by decide) (hts _ q330) (u_same (hts _ q331)) rfl dX8_worth_11 ?_
    refine lv_iload_n hx hb dX8_worth_14 rfl (lv_at hl 1 rfl) ?_
    refine lv_iconst (v := 0) hx hb dX8_worth_15 (by decide) ?_
    cases g3 : fX0_nearest σ (Int32.ofNat n) a1 0 with
    | none => rw [g3] at h; cases h
    | some r4 =>
      rw [g3, Option.bind_some] at h
      refine x_backi (va_runVN (host := "WildBells") (C := RX0) (b := (xa E 0)) (As := [.int (Int32.ofNat n), .int a1, .int 0]) (rest := [.int 0, .int r2]) F.1 (mX0_nearest l E σ (Int32.ofNat n) a1 0 r4 g3) ⟨va_cnB 3 hts (lw_meth q615) rfl rfl rfl (F.2.1.2.1 _ q612 rfl) (hts _ q99) (by decide +kernel) ⟨Nat.le_of_ble_eq_true rfl, Nat.le_of_ble_eq_true rfl⟩, hts _ q614, hts _ qs7⟩ ⟨xPc.blind, va_recv hK (xO_X hW) (ci := 0) (q0 := 0) rfl rfl, F.pre hW hS (.ref (xa E 0) :: [.int (Int32.ofNat n), .int a1, .int 0])⟩ rfl rfl hl.1 rfl (lv_room (Nat.le_of_ble_eq_true rfl)) dX8_worth_16 ⟨Nat.le_refl _, Nat.le_refl _⟩) hS (fun H locs hW hS => ?_)
      refine x_backi (va_runS (As := [.int 0, .int r4]) (rest := [.int r2]) F.1 (mJ3_max l E σ 0 r4) (va_cwS 2 hts (lw_S q639 q504 q116 q505) rfl rfl rfl (by decide +kernel) ⟨Nat.le_of_ble_eq_true rfl, Nat.le_of_ble_eq_true rfl⟩) ⟨xPc.blind, F.pre hW hS [.int 0, .int r4]⟩ rfl rfl hl.1 rfl (lv_room (Nat.le_of_ble_eq_true rfl)) dX8_worth_19 ⟨Nat.le_refl _, Nat.le_refl _⟩) hS (fun H locs hW hS => ?_)
      refine lv_iadd hx hb dX8_worth_22 ?_
      cases h
      exact x_iret F hr hlk hW hS dX8_worth_23
/-! WildBells$Tenor.worth(I)I -/
def fX9_worth_k3 (σ : xM) (n : Nat) (a1 : Int32) : Option Int32 :=
  (fX8_worth_k3 σ n a1).bind (fun r2 => some (((r2 + 8) - 1) - (a1 / 8)))
set_option maxHeartbeats 4000000 in
theorem mX9_worth_k3 (l : Launch) (E : xE) (σ : xM) (n : Nat) (hn : n < 8) (a1 : Int32) (r : Int32) (h : fX9_worth_k3 σ n a1 = some r) : Met l yX9_worth (ws_ yX9_worth cX9_worth 2 (some .int)) ({ frames := 9, cells := 0, slots := 0, locals := 191 } : Room) (xPc E σ [.ref (xa E (xbc 3 n)), .int a1]) (xQc E (.returned (some (.int r))) σ) 0 0 (xA E) := by
  refine x_of (C := RX9) (n := "worth") (d := "(I)I") (r := (some .int)) (by decide) rfl (by first | decide | exact Nat.le_of_ble_eq_true rfl) ?_
  intro p e s m below meth c ls F hr hlk hW hS hl
  have hl : lv_has ls 2 [(0, .ref (xa E (xbc 3 n))), (1, .int a1)] := hl
  obtain ⟨hx, hb, hml, hown, hts⟩ := id F.1
  have hK := F.2.1.1
  unfold fX9_worth_k3 at h
  refine lv_aload_n hx hb dX9_worth_0 rfl (lv_at hl 0 rfl) ?_
  refine lv_iload_n hx hb dX9_worth_1 rfl (lv_at hl 1 rfl) ?_
  cases g1 : fX8_worth_k3 σ n a1 with
  | none => rw [g1] at h; cases h
  | some r2 =>
    rw [g1, Option.bind_some] at h
    refine x_backi (va_runSU (C := RX9) (b := (xa E (xbc 3 n))) (hK.1 9 _ rfl).2 (As := [.int a1]) (rest := []) F.1 (mX8_worth_k3 l E σ n hn a1 r2 g1) (va_cwSU 1 hts (lw_SU q608 q1733 q365 q609 q110 q610) rfl rfl rfl (by decide +kernel) ⟨Nat.le_of_ble_eq_true rfl, Nat.le_of_ble_eq_true rfl⟩) ⟨xPc.blind, va_recv hK (xO_B hW 3 n (by decide) hn) (ci := 9) (q0 := 0) rfl rfl, F.pre hW hS (.ref (xa E (xbc 3 n)) :: [.int a1])⟩ rfl rfl hl.1 rfl (lv_room (Nat.le_of_ble_eq_true rfl)) dX9_worth_2 ⟨Nat.le_refl _, Nat.le_refl _⟩) hS (fun H locs hW hS => ?_)
    refine lv_bipush (v := 8) hx hb dX9_worth_5 (by decide) ?_
    refine lv_iadd hx hb dX9_worth_7 ?_
    refine lv_iconst (v := 1) hx hb dX9_worth_8 (by decide) ?_
    refine lv_isub hx hb dX9_worth_9 ?_
    refine lv_iload_n hx hb dX9_worth_10 rfl (lv_at hl 1 rfl) ?_
    refine lv_bipush (v := 8) hx hb dX9_worth_11 (by decide) ?_
    refine lv_idiv hx hb dX9_worth_13 (by decide) ?_
    refine lv_isub hx hb dX9_worth_14 ?_
    cases h
    exact x_iret F hr hlk hW hS dX9_worth_15
/-! WildBells$Bell.worth(I)I -/
def fX6_worth_k4 (σ : xM) (n : Nat) (a1 : Int32) : Option Int32 :=
  (fX4_fearAt σ 0 a1).bind (fun r2 => if xin a1 64 then (some (((10 * r2) + 9) - (σ 0 (18 + 64 * 1 + a1.toNatClampNeg)))) else none)
set_option maxHeartbeats 4000000 in
theorem mX6_worth_k4 (l : Launch) (E : xE) (σ : xM) (n : Nat) (hn : n < 8) (a1 : Int32) (r : Int32) (h : fX6_worth_k4 σ n a1 = some r) : Met l yX6_worth (ws_ yX6_worth cX6_worth 2 (some .int)) ({ frames := 3, cells := 0, slots := 0, locals := 67 } : Room) (xPc E σ [.ref (xa E (xbc 4 n)), .int a1]) (xQc E (.returned (some (.int r))) σ) 0 0 (xA E) := by
  refine x_of (C := RX6) (n := "worth") (d := "(I)I") (r := (some .int)) (by decide) rfl (by first | decide | exact Nat.le_of_ble_eq_true rfl) ?_
  intro p e s m below meth c ls F hr hlk hW hS hl
  have hl : lv_has ls 2 [(0, .ref (xa E (xbc 4 n))), (1, .int a1)] := hl
  obtain ⟨hx, hb, hml, hown, hts⟩ := id F.1
  have hK := F.2.1.1
  unfold fX6_worth_k4 at h
  refine lv_bipush (v := 10) hx hb dX6_worth_0 (by decide) ?_
  refine lv_aload_n hx hb dX6_worth_2 rfl (lv_at hl 0 rfl) ?_
  refine va_get (D := xD E) (ci := 10) (v := .ref (xa E 0)) (C := RX10) (T := TX10) (N := 5) hx hb hts in_X10 hown hK (xO_B hW 4 n (by decide) hn) 0 rfl rfl 1 (by decide) (hts _ q333) (fun _ h9 => h9) rfl dX6_worth_3 ?_
  refine va_getN (D := xD E) (ci := 0) (v := .ref (xa E (xwc 0 0))) (C := RX0) (T := TX0) (N := 15) hx hb hts in_X0 hown hK (xO_X hW) 0 rfl rfl 3 (by decide) (va_Nw.use rfl (F.2.1.2.1 _ q415 rfl)) (fun _ h9 => h9) rfl dX6_worth_6 ?_
  refine lv_iload_n hx hb dX6_worth_9 rfl (lv_at hl 1 rfl) ?_
  cases g1 : fX4_fearAt σ 0 a1 with
  | none => rw [g1] at h; cases h
  | some r2 =>
    rw [g1, Option.bind_some] at h
    refine x_backi (va_runV (C := RX4) (b := (xa E (xwc 0 0))) (As := [.int a1]) (rest := [.int 10]) F.1 (mX4_fearAt l E σ 0 (by decide) a1 r2 g1) (cwV 1 hts (lw_V q592 q593 q594 q106 q595) rfl rfl rfl (by decide +kernel) ⟨Nat.le_of_ble_eq_true rfl, Nat.le_of_ble_eq_true rfl⟩) ⟨xPc.blind, va_recv hK (xO_W hW 0 (by decide)) (ci := 4) (q0 := 0) rfl rfl, F.pre hW hS (.ref (xa E (xwc 0 0)) :: [.int a1])⟩ rfl rfl hl.1 rfl (lv_room (Nat.le_of_ble_eq_true rfl)) dX6_worth_10 ⟨Nat.le_refl _, Nat.le_refl _⟩) hS (fun H locs hW hS => ?_)
    refine lv_imul hx hb dX6_worth_13 ?_
    refine lv_bipush (v := 9) hx hb dX6_worth_14 (by decide) ?_
    refine lv_iadd hx hb dX6_worth_16 ?_
    refine lv_aload_n hx hb dX6_worth_17 rfl (lv_at hl 0 rfl) ?_
    refine va_get (D := xD E) (ci := 10) (v := .ref (xa E 0)) (C := RX10) (T := TX10) (N := 5) hx hb hts in_X10 hown hK (xO_B hW 4 n (by decide) hn) 0 rfl rfl 1 (by decide) (hts _ q333) (fun _ h9 => h9) rfl dX6_worth_18 ?_
    refine va_getN (D := xD E) (ci := 0) (v := .ref (xa E (xwc 0 0))) (C := RX0) (T := TX0) (N := 15) hx hb hts in_X0 hown hK (xO_X hW) 0 rfl rfl 3 (by decide) (va_Nw.use rfl (F.2.1.2.1 _ q415 rfl)) (fun _ h9 => h9) rfl dX6_worth_21 ?_
    refine va_getN (D := xD E) (ci := 4) (v := .ref (xa E (xwc 0 1))) (C := RX4) (T := TX4) (N := 8) hx hb hts in_X4 hown hK (xO_W hW 0 (by decide)) 0 rfl rfl 0 (by decide) (va_Nw.use rfl (F.2.1.2.1 _ q230 rfl)) (fun _ h9 => h9) rfl dX6_worth_24 ?_
    refine lv_iconst (v := 1) hx hb dX6_worth_27 (by decide) ?_
    refine x_aald (g := fun j => xa E (xwc 0 (2 + j))) (j := 1) F 4 4 2 (xR_1 hW 0 (by decide)) rfl rfl (x_lit (by decide)) (by decide) dX6_worth_28 ?_
    refine lv_iload_n hx hb dX6_worth_29 rfl (lv_at hl 1 rfl) ?_
    by_cases hi3 : xin a1 64
    · rw [if_pos hi3] at h
      refine va_iald hx hb hK (xV_2 hW 0 1 (by decide) (by decide)) 0 0 rfl rfl hi3 dX6_worth_30 ?_
      refine lv_isub hx hb dX6_worth_31 ?_
      cases h
      exact x_iret F hr hlk hW hS dX6_worth_32
    · rw [if_neg hi3] at h; cases h
/-! WildBells$Lone.worth(I)I -/
def fX8_worth_k4 (σ : xM) (n : Nat) (a1 : Int32) : Option Int32 :=
  (fX6_worth_k4 σ n a1).bind (fun r2 => (fX0_nearest σ (Int32.ofNat n) a1 0).bind (fun r4 => some (r2 + (fJ3_max 0 r4))))
set_option maxHeartbeats 4000000 in
theorem mX8_worth_k4 (l : Launch) (E : xE) (σ : xM) (n : Nat) (hn : n < 8) (a1 : Int32) (r : Int32) (h : fX8_worth_k4 σ n a1 = some r) : Met l yX8_worth (ws_ yX8_worth cX8_worth 2 (some .int)) ({ frames := 8, cells := 0, slots := 0, locals := 170 } : Room) (xPc E σ [.ref (xa E (xbc 4 n)), .int a1]) (xQc E (.returned (some (.int r))) σ) 0 0 (xA E) := by
  refine x_of (C := RX8) (n := "worth") (d := "(I)I") (r := (some .int)) (by decide) rfl (by first | decide | exact Nat.le_of_ble_eq_true rfl) ?_
  intro p e s m below meth c ls F hr hlk hW hS hl
  have hl : lv_has ls 2 [(0, .ref (xa E (xbc 4 n))), (1, .int a1)] := hl
  obtain ⟨hx, hb, hml, hown, hts⟩ := id F.1
  have hK := F.2.1.1
  unfold fX8_worth_k4 at h
  refine lv_aload_n hx hb dX8_worth_0 rfl (lv_at hl 0 rfl) ?_
  refine lv_iload_n hx hb dX8_worth_1 rfl (lv_at hl 1 rfl) ?_
  cases g1 : fX6_worth_k4 σ n a1 with
  | none => rw [g1] at h; cases h
  | some r2 =>
    rw [g1, Option.bind_some] at h
    refine x_backi (va_runSU (C := RX10) (b := (xa E (xbc 4 n))) (hK.1 10 _ rfl).2 (As := [.int a1]) (rest := []) F.1 (mX6_worth_k4 l E σ n hn a1 r2 g1) (va_cwSU 1 hts (lw_SU q611 q1734 q352 q589 q108 q591) rfl rfl rfl (by decide +kernel) ⟨Nat.le_of_ble_eq_true rfl, Nat.le_of_ble_eq_true rfl⟩) ⟨xPc.blind, va_recv hK (xO_B hW 4 n (by decide) hn) (ci := 10) (q0 := 0) rfl rfl, F.pre hW hS (.ref (xa E (xbc 4 n)) :: [.int a1])⟩ rfl rfl hl.1 rfl (lv_room (Nat.le_of_ble_eq_true rfl)) dX8_worth_2 ⟨Nat.le_refl _, Nat.le_refl _⟩) hS (fun H locs hW hS => ?_)
    refine lv_iconst (v := 0) hx hb dX8_worth_5 (by decide) ?_
    refine lv_aload_n hx hb dX8_worth_6 rfl (lv_at hl 0 rfl) ?_
    refine va_get (D := xD E) (ci := 10) (v := .ref (xa E 0)) (C := RX10) (T := TX10) (N := 5) hx hb hts in_X10 hown hK (xO_B hW 4 n (by decide) hn) 0 rfl rfl 2 (by decide) (hts _ q347) (fun _ h9 => h9) rfl dX8_worth_7 ?_
    refine lv_aload_n hx hb dX8_worth_10 rfl (lv_at hl 0 rfl) ?_
    refine va_get (D := xD E) (ci := 10) (v := .int (Int32.ofNat n)) (C := RX10) (T := TX10) (N := 5) hx hb hts in_X10 hown hK (xO_B hW 4 n (by decide) hn) 0 rfl rfl 0 (by decide) (hts _ q330) (u_same (hts _ q331)) rfl dX8_worth_11 ?_
    refine lv_iload_n hx hb dX8_worth_14 rfl (lv_at hl 1 rfl) ?_
    refine lv_iconst (v := 0) hx hb dX8_worth_15 (by decide) ?_
    cases g3 : fX0_nearest σ (Int32.ofNat n) a1 0 with
    | none => rw [g3] at h; cases h
    | some r4 =>
      rw [g3, Option.bind_some] at h
      refine x_backi (va_runVN (host := "WildBells") (C := RX0) (b := (xa E 0)) (As := [.int (Int32.ofNat n), .int a1, .int 0]) (rest := [.int 0, .int r2]) F.1 (mX0_nearest l E σ (Int32.ofNat n) a1 0 r4 g3) ⟨va_cnB 3 hts (lw_meth q615) rfl rfl rfl (F.2.1.2.1 _ q612 rfl) (hts _ q99) (by decide +kernel) ⟨Nat.le_of_ble_eq_true rfl, Nat.le_of_ble_eq_true rfl⟩, hts _ q614, hts _ qs7⟩ ⟨xPc.blind, va_recv hK (xO_X hW) (ci := 0) (q0 := 0) rfl rfl, F.pre hW hS (.ref (xa E 0) :: [.int (Int32.ofNat n), .int a1, .int 0])⟩ rfl rfl hl.1 rfl (lv_room (Nat.le_of_ble_eq_true rfl)) dX8_worth_16 ⟨Nat.le_refl _, Nat.le_refl _⟩) hS (fun H locs hW hS => ?_)
      refine x_backi (va_runS (As := [.int 0, .int r4]) (rest := [.int r2]) F.1 (mJ3_max l E σ 0 r4) (va_cwS 2 hts (lw_S q639 q504 q116 q505) rfl rfl rfl (by decide +kernel) ⟨Nat.le_of_ble_eq_true rfl, Nat.le_of_ble_eq_true rfl⟩) ⟨xPc.blind, F.pre hW hS [.int 0, .int r4]⟩ rfl rfl hl.1 rfl (lv_room (Nat.le_of_ble_eq_true rfl)) dX8_worth_19 ⟨Nat.le_refl _, Nat.le_refl _⟩) hS (fun H locs hW hS => ?_)
      refine lv_iadd hx hb dX8_worth_22 ?_
      cases h
      exact x_iret F hr hlk hW hS dX8_worth_23
/-! WildBells$Tenor.worth(I)I -/
def fX9_worth_k4 (σ : xM) (n : Nat) (a1 : Int32) : Option Int32 :=
  (fX8_worth_k4 σ n a1).bind (fun r2 => some (((r2 + 8) - 1) - (a1 / 8)))
set_option maxHeartbeats 4000000 in
theorem mX9_worth_k4 (l : Launch) (E : xE) (σ : xM) (n : Nat) (hn : n < 8) (a1 : Int32) (r : Int32) (h : fX9_worth_k4 σ n a1 = some r) : Met l yX9_worth (ws_ yX9_worth cX9_worth 2 (some .int)) ({ frames := 9, cells := 0, slots := 0, locals := 191 } : Room) (xPc E σ [.ref (xa E (xbc 4 n)), .int a1]) (xQc E (.returned (some (.int r))) σ) 0 0 (xA E) := by
  refine x_of (C := RX9) (n := "worth") (d := "(I)I") (r := (some .int)) (by decide) rfl (by first | decide | exact Nat.le_of_ble_eq_true rfl) ?_
  intro p e s m below meth c ls F hr hlk hW hS hl
  have hl : lv_has ls 2 [(0, .ref (xa E (xbc 4 n))), (1, .int a1)] := hl
  obtain ⟨hx, hb, hml, hown, hts⟩ := id F.1
  have hK := F.2.1.1
  unfold fX9_worth_k4 at h
  refine lv_aload_n hx hb dX9_worth_0 rfl (lv_at hl 0 rfl) ?_
  refine lv_iload_n hx hb dX9_worth_1 rfl (lv_at hl 1 rfl) ?_
  cases g1 : fX8_worth_k4 σ n a1 with
  | none => rw [g1] at h; cases h
  | some r2 =>
    rw [g1, Option.bind_some] at h
    refine x_backi (va_runSU (C := RX10) (b := (xa E (xbc 4 n))) (hK.1 10 _ rfl).2 (As := [.int a1]) (rest := []) F.1 (mX8_worth_k4 l E σ n hn a1 r2 g1) (va_cwSU 1 hts (lw_SU q608 q1733 q365 q609 q110 q610) rfl rfl rfl (by decide +kernel) ⟨Nat.le_of_ble_eq_true rfl, Nat.le_of_ble_eq_true rfl⟩) ⟨xPc.blind, va_recv hK (xO_B hW 4 n (by decide) hn) (ci := 10) (q0 := 0) rfl rfl, F.pre hW hS (.ref (xa E (xbc 4 n)) :: [.int a1])⟩ rfl rfl hl.1 rfl (lv_room (Nat.le_of_ble_eq_true rfl)) dX9_worth_2 ⟨Nat.le_refl _, Nat.le_refl _⟩) hS (fun H locs hW hS => ?_)
    refine lv_bipush (v := 8) hx hb dX9_worth_5 (by decide) ?_
    refine lv_iadd hx hb dX9_worth_7 ?_
    refine lv_iconst (v := 1) hx hb dX9_worth_8 (by decide) ?_
    refine lv_isub hx hb dX9_worth_9 ?_
    refine lv_iload_n hx hb dX9_worth_10 rfl (lv_at hl 1 rfl) ?_
    refine lv_bipush (v := 8) hx hb dX9_worth_11 (by decide) ?_
    refine lv_idiv hx hb dX9_worth_13 (by decide) ?_
    refine lv_isub hx hb dX9_worth_14 ?_
    cases h
    exact x_iret F hr hlk hW hS dX9_worth_15
/-! WildBells$Eldest.worth(I)I -/
def fX10_worth_k4 (σ : xM) (n : Nat) (a1 : Int32) : Option Int32 :=
  (fX9_worth_k4 σ n a1).bind (fun r2 => some (fX14_twice_k4 r2))
set_option maxHeartbeats 4000000 in
theorem mX10_worth_k4 (l : Launch) (E : xE) (σ : xM) (n : Nat) (hn : n < 8) (a1 : Int32) (r : Int32) (h : fX10_worth_k4 σ n a1 = some r) : Met l yX10_worth (ws_ yX10_worth cX10_worth 2 (some .int)) ({ frames := 10, cells := 0, slots := 0, locals := 212 } : Room) (xPc E σ [.ref (xa E (xbc 4 n)), .int a1]) (xQc E (.returned (some (.int r))) σ) 0 0 (xA E) := by
  refine x_of (C := RX10) (n := "worth") (d := "(I)I") (r := (some .int)) (by decide) rfl (by first | decide | exact Nat.le_of_ble_eq_true rfl) ?_
  intro p e s m below meth c ls F hr hlk hW hS hl
  have hl : lv_has ls 2 [(0, .ref (xa E (xbc 4 n))), (1, .int a1)] := hl
  obtain ⟨hx, hb, hml, hown, hts⟩ := id F.1
  have hK := F.2.1.1
  unfold fX10_worth_k4 at h
  refine lv_aload_n hx hb dX10_worth_0 rfl (lv_at hl 0 rfl) ?_
  refine lv_aload_n hx hb dX10_worth_1 rfl (lv_at hl 0 rfl) ?_
  refine lv_iload_n hx hb dX10_worth_2 rfl (lv_at hl 1 rfl) ?_
  cases g1 : fX9_worth_k4 σ n a1 with
  | none => rw [g1] at h; cases h
  | some r2 =>
    rw [g1, Option.bind_some] at h
    refine x_backi (va_runSU (C := RX10) (b := (xa E (xbc 4 n))) (hK.1 10 _ rfl).2 (As := [.int a1]) (rest := [.ref (xa E (xbc 4 n))]) F.1 (mX9_worth_k4 l E σ n hn a1 r2 g1) (va_cwSU 1 hts (lw_SU q605 q1732 q379 q606 q111 q607) rfl rfl rfl (by decide +kernel) ⟨Nat.le_of_ble_eq_true rfl, Nat.le_of_ble_eq_true rfl⟩) ⟨xPc.blind, va_recv hK (xO_B hW 4 n (by decide) hn) (ci := 10) (q0 := 0) rfl rfl, F.pre hW hS (.ref (xa E (xbc 4 n)) :: [.int a1])⟩ rfl rfl hl.1 rfl (lv_room (Nat.le_of_ble_eq_true rfl)) dX10_worth_3 ⟨Nat.le_refl _, Nat.le_refl _⟩) hS (fun H locs hW hS => ?_)
    refine x_backi (x_runD (C := RX10) (b := (xa E (xbc 4 n))) (As := [.int r2]) (rest := []) F F.2.1.2.2.2.2.2.1 (mX14_twice_k4 l E σ n hn r2) ⟨rfl, rfl, Nat.le_of_ble_eq_true rfl, Nat.le_of_ble_eq_true rfl⟩ ⟨xPc.blind, va_recv hK (xO_B hW 4 n (by decide) hn) (ci := 10) (q0 := 0) rfl rfl, F.pre hW hS (.ref (xa E (xbc 4 n)) :: [.int r2])⟩ rfl hl.1 rfl (Nat.le_of_ble_eq_true rfl) dX10_worth_6 ⟨Nat.le_refl _, Nat.le_refl _⟩) hS (fun H locs hW hS => ?_)
    cases h
    exact x_iret F hr hlk hW hS dX10_worth_9
/-! WildBells$Bell.worth(I)I -/
def fX6_worth_k5 (σ : xM) (n : Nat) (a1 : Int32) : Option Int32 :=
  (fX4_fearAt σ 0 a1).bind (fun r2 => if xin a1 64 then (some (((10 * r2) + 9) - (σ 0 (18 + 64 * 1 + a1.toNatClampNeg)))) else none)
set_option maxHeartbeats 4000000 in
theorem mX6_worth_k5 (l : Launch) (E : xE) (σ : xM) (n : Nat) (hn : n < 8) (a1 : Int32) (r : Int32) (h : fX6_worth_k5 σ n a1 = some r) : Met l yX6_worth (ws_ yX6_worth cX6_worth 2 (some .int)) ({ frames := 3, cells := 0, slots := 0, locals := 67 } : Room) (xPc E σ [.ref (xa E (xbc 5 n)), .int a1]) (xQc E (.returned (some (.int r))) σ) 0 0 (xA E) := by
  refine x_of (C := RX6) (n := "worth") (d := "(I)I") (r := (some .int)) (by decide) rfl (by first | decide | exact Nat.le_of_ble_eq_true rfl) ?_
  intro p e s m below meth c ls F hr hlk hW hS hl
  have hl : lv_has ls 2 [(0, .ref (xa E (xbc 5 n))), (1, .int a1)] := hl
  obtain ⟨hx, hb, hml, hown, hts⟩ := id F.1
  have hK := F.2.1.1
  unfold fX6_worth_k5 at h
  refine lv_bipush (v := 10) hx hb dX6_worth_0 (by decide) ?_
  refine lv_aload_n hx hb dX6_worth_2 rfl (lv_at hl 0 rfl) ?_
  refine va_get (D := xD E) (ci := 11) (v := .ref (xa E 0)) (C := RX11) (T := TX11) (N := 3) hx hb hts in_X11 hown hK (xO_B hW 5 n (by decide) hn) 0 rfl rfl 1 (by decide) (hts _ q333) (fun _ h9 => h9) rfl dX6_worth_3 ?_
  refine va_getN (D := xD E) (ci := 0) (v := .ref (xa E (xwc 0 0))) (C := RX0) (T := TX0) (N := 15) hx hb hts in_X0 hown hK (xO_X hW) 0 rfl rfl 3 (by decide) (va_Nw.use rfl (F.2.1.2.1 _ q415 rfl)) (fun _ h9 => h9) rfl dX6_worth_6 ?_
  refine lv_iload_n hx hb dX6_worth_9 rfl (lv_at hl 1 rfl) ?_
  cases g1 : fX4_fearAt σ 0 a1 with
  | none => rw [g1] at h; cases h
  | some r2 =>
    rw [g1, Option.bind_some] at h
    refine x_backi (va_runV (C := RX4) (b := (xa E (xwc 0 0))) (As := [.int a1]) (rest := [.int 10]) F.1 (mX4_fearAt l E σ 0 (by decide) a1 r2 g1) (cwV 1 hts (lw_V q592 q593 q594 q106 q595) rfl rfl rfl (by decide +kernel) ⟨Nat.le_of_ble_eq_true rfl, Nat.le_of_ble_eq_true rfl⟩) ⟨xPc.blind, va_recv hK (xO_W hW 0 (by decide)) (ci := 4) (q0 := 0) rfl rfl, F.pre hW hS (.ref (xa E (xwc 0 0)) :: [.int a1])⟩ rfl rfl hl.1 rfl (lv_room (Nat.le_of_ble_eq_true rfl)) dX6_worth_10 ⟨Nat.le_refl _, Nat.le_refl _⟩) hS (fun H locs hW hS => ?_)
    refine lv_imul hx hb dX6_worth_13 ?_
    refine lv_bipush (v := 9) hx hb dX6_worth_14 (by decide) ?_
    refine lv_iadd hx hb dX6_worth_16 ?_
    refine lv_aload_n hx hb dX6_worth_17 rfl (lv_at hl 0 rfl) ?_
    refine va_get (D := xD E) (ci := 11) (v := .ref (xa E 0)) (C := RX11) (T := TX11) (N := 3) hx hb hts in_X11 hown hK (xO_B hW 5 n (by decide) hn) 0 rfl rfl 1 (by decide) (hts _ q333) (fun _ h9 => h9) rfl dX6_worth_18 ?_
    refine va_getN (D := xD E) (ci := 0) (v := .ref (xa E (xwc 0 0))) (C := RX0) (T := TX0) (N := 15) hx hb hts in_X0 hown hK (xO_X hW) 0 rfl rfl 3 (by decide) (va_Nw.use rfl (F.2.1.2.1 _ q415 rfl)) (fun _ h9 => h9) rfl dX6_worth_21 ?_
    refine va_getN (D := xD E) (ci := 4) (v := .ref (xa E (xwc 0 1))) (C := RX4) (T := TX4) (N := 8) hx hb hts in_X4 hown hK (xO_W hW 0 (by decide)) 0 rfl rfl 0 (by decide) (va_Nw.use rfl (F.2.1.2.1 _ q230 rfl)) (fun _ h9 => h9) rfl dX6_worth_24 ?_
    refine lv_iconst (v := 1) hx hb dX6_worth_27 (by decide) ?_
    refine x_aald (g := fun j => xa E (xwc 0 (2 + j))) (j := 1) F 4 4 2 (xR_1 hW 0 (by decide)) rfl rfl (x_lit (by decide)) (by decide) dX6_worth_28 ?_
    refine lv_iload_n hx hb dX6_worth_29 rfl (lv_at hl 1 rfl) ?_
    by_cases hi3 : xin a1 64
    · rw [if_pos hi3] at h
      refine va_iald hx hb hK (xV_2 hW 0 1 (by decide) (by decide)) 0 0 rfl rfl hi3 dX6_worth_30 ?_
      refine lv_isub hx hb dX6_worth_31 ?_
      cases h
      exact x_iret F hr hlk hW hS dX6_worth_32
    · rw [if_neg hi3] at h; cases h
/-! WildBells$Tame.worth(I)I -/
def fX11_worth_k5 (σ : xM) (n : Nat) (a1 : Int32) : Option Int32 :=
  (fX6_worth_k5 σ n a1).bind (fun r2 => some (r2 - (fX14_twice_k5 (fX0_apart a1 0))))
set_option maxHeartbeats 4000000 in
theorem mX11_worth_k5 (l : Launch) (E : xE) (σ : xM) (n : Nat) (hn : n < 8) (a1 : Int32) (r : Int32) (h : fX11_worth_k5 σ n a1 = some r) : Met l yX11_worth (ws_ yX11_worth cX11_worth 2 (some .int)) ({ frames := 4, cells := 0, slots := 0, locals := 88 } : Room) (xPc E σ [.ref (xa E (xbc 5 n)), .int a1]) (xQc E (.returned (some (.int r))) σ) 0 0 (xA E) := by
  refine x_of (C := RX11) (n := "worth") (d := "(I)I") (r := (some .int)) (by decide) rfl (by first | decide | exact Nat.le_of_ble_eq_true rfl) ?_
  intro p e s m below meth c ls F hr hlk hW hS hl
  have hl : lv_has ls 2 [(0, .ref (xa E (xbc 5 n))), (1, .int a1)] := hl
  obtain ⟨hx, hb, hml, hown, hts⟩ := id F.1
  have hK := F.2.1.1
  unfold fX11_worth_k5 at h
  refine lv_aload_n hx hb dX11_worth_0 rfl (lv_at hl 0 rfl) ?_
  refine lv_iload_n hx hb dX11_worth_1 rfl (lv_at hl 1 rfl) ?_
  cases g1 : fX6_worth_k5 σ n a1 with
  | none => rw [g1] at h; cases h
  | some r2 =>
    rw [g1, Option.bind_some] at h
    refine x_backi (va_runSU (C := RX11) (b := (xa E (xbc 5 n))) (hK.1 11 _ rfl).2 (As := [.int a1]) (rest := []) F.1 (mX6_worth_k5 l E σ n hn a1 r2 g1) (va_cwSU 1 hts (lw_SU q664 q1734 q391 q589 q108 q591) rfl rfl rfl (by decide +kernel) ⟨Nat.le_of_ble_eq_true rfl, Nat.le_of_ble_eq_true rfl⟩) ⟨xPc.blind, va_recv hK (xO_B hW 5 n (by decide) hn) (ci := 11) (q0 := 0) rfl rfl, F.pre hW hS (.ref (xa E (xbc 5 n)) :: [.int a1])⟩ rfl rfl hl.1 rfl (lv_room (Nat.le_of_ble_eq_true rfl)) dX11_worth_2 ⟨Nat.le_refl _, Nat.le_refl _⟩) hS (fun H locs hW hS => ?_)
    refine lv_aload_n hx hb dX11_worth_5 rfl (lv_at hl 0 rfl) ?_
    refine lv_iload_n hx hb dX11_worth_6 rfl (lv_at hl 1 rfl) ?_
    refine lv_iconst (v := 0) hx hb dX11_worth_7 (by decide) ?_
    refine x_backi (va_runSN (host := "WildBells") (As := [.int a1, .int 0]) (rest := [.ref (xa E (xbc 5 n)), .int r2]) F.1 (mX0_apart l E σ a1 0) ⟨va_cnB 2 hts (lw_meth q496) rfl rfl rfl (F.2.1.2.1 _ q665 rfl) (hts _ q99) (by decide +kernel) ⟨Nat.le_of_ble_eq_true rfl, Nat.le_of_ble_eq_true rfl⟩, hts _ q495, trivial⟩ ⟨xPc.blind, F.pre hW hS [.int a1, .int 0]⟩ rfl rfl hl.1 rfl (lv_room (Nat.le_of_ble_eq_true rfl)) dX11_worth_8 ⟨Nat.le_refl _, Nat.le_refl _⟩) hS (fun H locs hW hS => ?_)
    refine x_backi (x_runD (C := RX11) (b := (xa E (xbc 5 n))) (As := [.int (fX0_apart a1 0)]) (rest := [.int r2]) F F.2.1.2.2.2.2.2.2.1 (mX14_twice_k5 l E σ n hn (fX0_apart a1 0)) ⟨rfl, rfl, Nat.le_of_ble_eq_true rfl, Nat.le_of_ble_eq_true rfl⟩ ⟨xPc.blind, va_recv hK (xO_B hW 5 n (by decide) hn) (ci := 11) (q0 := 0) rfl rfl, F.pre hW hS (.ref (xa E (xbc 5 n)) :: [.int (fX0_apart a1 0)])⟩ rfl hl.1 rfl (Nat.le_of_ble_eq_true rfl) dX11_worth_11 ⟨Nat.le_refl _, Nat.le_refl _⟩) hS (fun H locs hW hS => ?_)
    refine lv_isub hx hb dX11_worth_14 ?_
    cases h
    exact x_iret F hr hlk hW hS dX11_worth_15
/-! WildBells$Bell.worth(I)I -/
def fX6_worth_k6 (σ : xM) (n : Nat) (a1 : Int32) : Option Int32 :=
  (fX4_fearAt σ 0 a1).bind (fun r2 => if xin a1 64 then (some (((10 * r2) + 9) - (σ 0 (18 + 64 * 1 + a1.toNatClampNeg)))) else none)
set_option maxHeartbeats 4000000 in
theorem mX6_worth_k6 (l : Launch) (E : xE) (σ : xM) (n : Nat) (hn : n < 8) (a1 : Int32) (r : Int32) (h : fX6_worth_k6 σ n a1 = some r) : Met l yX6_worth (ws_ yX6_worth cX6_worth 2 (some .int)) ({ frames := 3, cells := 0, slots := 0, locals := 67 } : Room) (xPc E σ [.ref (xa E (xbc 6 n)), .int a1]) (xQc E (.returned (some (.int r))) σ) 0 0 (xA E) := by
  refine x_of (C := RX6) (n := "worth") (d := "(I)I") (r := (some .int)) (by decide) rfl (by first | decide | exact Nat.le_of_ble_eq_true rfl) ?_
  intro p e s m below meth c ls F hr hlk hW hS hl
  have hl : lv_has ls 2 [(0, .ref (xa E (xbc 6 n))), (1, .int a1)] := hl
  obtain ⟨hx, hb, hml, hown, hts⟩ := id F.1
  have hK := F.2.1.1
  unfold fX6_worth_k6 at h
  refine lv_bipush (v := 10) hx hb dX6_worth_0 (by decide) ?_
  refine lv_aload_n hx hb dX6_worth_2 rfl (lv_at hl 0 rfl) ?_
  refine va_get (D := xD E) (ci := 12) (v := .ref (xa E 0)) (C := RX12) (T := TX12) (N := 4) hx hb hts in_X12 hown hK (xO_B hW 6 n (by decide) hn) 0 rfl rfl 1 (by decide) (hts _ q333) (fun _ h9 => h9) rfl dX6_worth_3 ?_
  refine va_getN (D := xD E) (ci := 0) (v := .ref (xa E (xwc 0 0))) (C := RX0) (T := TX0) (N := 15) hx hb hts in_X0 hown hK (xO_X hW) 0 rfl rfl 3 (by decide) (va_Nw.use rfl (F.2.1.2.1 _ q415 rfl)) (fun _ h9 => h9) rfl dX6_worth_6 ?_
  refine lv_iload_n hx hb dX6_worth_9 rfl (lv_at hl 1 rfl) ?_
  cases g1 : fX4_fearAt σ 0 a1 with
  | none => rw [g1] at h; cases h
  | some r2 =>
    rw [g1, Option.bind_some] at h
    refine x_backi (va_runV (C := RX4) (b := (xa E (xwc 0 0))) (As := [.int a1]) (rest := [.int 10]) F.1 (mX4_fearAt l E σ 0 (by decide) a1 r2 g1) (cwV 1 hts (lw_V q592 q593 q594 q106 q595) rfl rfl rfl (by decide +kernel) ⟨Nat.le_of_ble_eq_true rfl, Nat.le_of_ble_eq_true rfl⟩) ⟨xPc.blind, va_recv hK (xO_W hW 0 (by decide)) (ci := 4) (q0 := 0) rfl rfl, F.pre hW hS (.ref (xa E (xwc 0 0)) :: [.int a1])⟩ rfl rfl hl.1 rfl (lv_room (Nat.le_of_ble_eq_true rfl)) dX6_worth_10 ⟨Nat.le_refl _, Nat.le_refl _⟩) hS (fun H locs hW hS => ?_)
    refine lv_imul hx hb dX6_worth_13 ?_
    refine lv_bipush (v := 9) hx hb dX6_worth_14 (by decide) ?_
    refine lv_iadd hx hb dX6_worth_16 ?_
    refine lv_aload_n hx hb dX6_worth_17 rfl (lv_at hl 0 rfl) ?_
    refine va_get (D := xD E) (ci := 12) (v := .ref (xa E 0)) (C := RX12) (T := TX12) (N := 4) hx hb hts in_X12 hown hK (xO_B hW 6 n (by decide) hn) 0 rfl rfl 1 (by decide) (hts _ q333) (fun _ h9 => h9) rfl dX6_worth_18 ?_
    refine va_getN (D := xD E) (ci := 0) (v := .ref (xa E (xwc 0 0))) (C := RX0) (T := TX0) (N := 15) hx hb hts in_X0 hown hK (xO_X hW) 0 rfl rfl 3 (by decide) (va_Nw.use rfl (F.2.1.2.1 _ q415 rfl)) (fun _ h9 => h9) rfl dX6_worth_21 ?_
    refine va_getN (D := xD E) (ci := 4) (v := .ref (xa E (xwc 0 1))) (C := RX4) (T := TX4) (N := 8) hx hb hts in_X4 hown hK (xO_W hW 0 (by decide)) 0 rfl rfl 0 (by decide) (va_Nw.use rfl (F.2.1.2.1 _ q230 rfl)) (fun _ h9 => h9) rfl dX6_worth_24 ?_
    refine lv_iconst (v := 1) hx hb dX6_worth_27 (by decide) ?_
    refine x_aald (g := fun j => xa E (xwc 0 (2 + j))) (j := 1) F 4 4 2 (xR_1 hW 0 (by decide)) rfl rfl (x_lit (by decide)) (by decide) dX6_worth_28 ?_
    refine lv_iload_n hx hb dX6_worth_29 rfl (lv_at hl 1 rfl) ?_
    by_cases hi3 : xin a1 64
    · rw [if_pos hi3] at h
      refine va_iald hx hb hK (xV_2 hW 0 1 (by decide) (by decide)) 0 0 rfl rfl hi3 dX6_worth_30 ?_
      refine lv_isub hx hb dX6_worth_31 ?_
      cases h
      exact x_iret F hr hlk hW hS dX6_worth_32
    · rw [if_neg hi3] at h; cases h
/-! WildBells$Herd.worth(I)I -/
def fX7_worth_k6 (σ : xM) (n : Nat) (a1 : Int32) : Option Int32 :=
  (fX0_nearest σ (Int32.ofNat n) a1 1).bind (fun r2 => (fX6_worth_k6 σ n a1).bind (fun r4 => if r2 = (-1) then (some (r4 + 0)) else (some (r4 + (fJ3_max 0 (20 - r2))))))
set_option maxHeartbeats 4000000 in
theorem mX7_worth_k6 (l : Launch) (E : xE) (σ : xM) (n : Nat) (hn : n < 8) (a1 : Int32) (r : Int32) (h : fX7_worth_k6 σ n a1 = some r) : Met l yX7_worth (ws_ yX7_worth cX7_worth 3 (some .int)) ({ frames := 8, cells := 0, slots := 0, locals := 170 } : Room) (xPc E σ [.ref (xa E (xbc 6 n)), .int a1]) (xQc E (.returned (some (.int r))) σ) 0 0 (xA E) := by
  refine x_of (C := RX7) (n := "worth") (d := "(I)I") (r := (some .int)) (by decide) rfl (by first | decide | exact Nat.le_of_ble_eq_true rfl) ?_
  intro p e s m below meth c ls F hr hlk hW hS hl
  have hl : lv_has ls 3 [(0, .ref (xa E (xbc 6 n))), (1, .int a1)] := hl
  obtain ⟨hx, hb, hml, hown, hts⟩ := id F.1
  have hK := F.2.1.1
  unfold fX7_worth_k6 at h
  refine lv_aload_n hx hb dX7_worth_0 rfl (lv_at hl 0 rfl) ?_
  refine va_get (D := xD E) (ci := 12) (v := .ref (xa E 0)) (C := RX12) (T := TX12) (N := 4) hx hb hts in_X12 hown hK (xO_B hW 6 n (by decide) hn) 0 rfl rfl 2 (by decide) (hts _ q326) (fun _ h9 => h9) rfl dX7_worth_1 ?_
  refine lv_aload_n hx hb dX7_worth_4 rfl (lv_at hl 0 rfl) ?_
  refine va_get (D := xD E) (ci := 12) (v := .int (Int32.ofNat n)) (C := RX12) (T := TX12) (N := 4) hx hb hts in_X12 hown hK (xO_B hW 6 n (by decide) hn) 0 rfl rfl 0 (by decide) (hts _ q328) (u_same (hts _ q329)) rfl dX7_worth_5 ?_
  refine lv_iload_n hx hb dX7_worth_8 rfl (lv_at hl 1 rfl) ?_
  refine lv_iconst (v := 1) hx hb dX7_worth_9 (by decide) ?_
  cases g1 : fX0_nearest σ (Int32.ofNat n) a1 1 with
  | none => rw [g1] at h; cases h
  | some r2 =>
    rw [g1, Option.bind_some] at h
    refine x_backi (va_runVN (host := "WildBells") (C := RX0) (b := (xa E 0)) (As := [.int (Int32.ofNat n), .int a1, .int 1]) (rest := []) F.1 (mX0_nearest l E σ (Int32.ofNat n) a1 1 r2 g1) ⟨va_cnB 3 hts (lw_meth q615) rfl rfl rfl (F.2.1.2.1 _ q651 rfl) (hts _ q99) (by decide +kernel) ⟨Nat.le_of_ble_eq_true rfl, Nat.le_of_ble_eq_true rfl⟩, hts _ q614, hts _ qs7⟩ ⟨xPc.blind, va_recv hK (xO_X hW) (ci := 0) (q0 := 0) rfl rfl, F.pre hW hS (.ref (xa E 0) :: [.int (Int32.ofNat n), .int a1, .int 1])⟩ rfl rfl hl.1 rfl (lv_room (Nat.le_of_ble_eq_true rfl)) dX7_worth_10 ⟨Nat.le_refl _, Nat.le_refl _⟩) hS (fun H locs hW hS => ?_)
    refine lv_istore_n (lv' := [(2, .int r2), (0, .ref (xa E (xbc 6 n))), (1, .int a1)]) hx hb dX7_worth_13 rfl hl (by decide) rfl (fun ls hl => ?_)
    refine lv_aload_n hx hb dX7_worth_14 rfl (lv_at hl 1 rfl) ?_
    refine lv_iload_n hx hb dX7_worth_15 rfl (lv_at hl 2 rfl) ?_
    cases g3 : fX6_worth_k6 σ n a1 with
    | none => rw [g3] at h; cases h
    | some r4 =>
      rw [g3, Option.bind_some] at h
      refine x_backi (va_runSU (C := RX12) (b := (xa E (xbc 6 n))) (hK.1 12 _ rfl).2 (As := [.int a1]) (rest := []) F.1 (mX6_worth_k6 l E σ n hn a1 r4 g3) (va_cwSU 1 hts (lw_SU q652 q1734 q340 q589 q108 q591) rfl rfl rfl (by decide +kernel) ⟨Nat.le_of_ble_eq_true rfl, Nat.le_of_ble_eq_true rfl⟩) ⟨xPc.blind, va_recv hK (xO_B hW 6 n (by decide) hn) (ci := 12) (q0 := 0) rfl rfl, F.pre hW hS (.ref (xa E (xbc 6 n)) :: [.int a1])⟩ rfl rfl hl.1 rfl (lv_room (Nat.le_of_ble_eq_true rfl)) dX7_worth_16 ⟨Nat.le_refl _, Nat.le_refl _⟩) hS (fun H locs hW hS => ?_)
      refine lv_iload_n hx hb dX7_worth_19 rfl (lv_at hl 0 rfl) ?_
      refine lv_iconst (v := (-1)) hx hb dX7_worth_20 (by decide) ?_
      refine lv_icmp_ne (tgt := 28) hx hb dX7_worth_21 (by decide) (fun c5 => ?_) (fun c5 => ?_)
      · rw [if_neg c5] at h
        refine lv_iconst (v := 0) hx hb dX7_worth_28 (by decide) ?_
        refine lv_bipush (v := 20) hx hb dX7_worth_29 (by decide) ?_
        refine lv_iload_n hx hb dX7_worth_31 rfl (lv_at hl 0 rfl) ?_
        refine lv_isub hx hb dX7_worth_32 ?_
        refine x_backi (va_runS (As := [.int 0, .int (20 - r2)]) (rest := [.int r4]) F.1 (mJ3_max l E σ 0 (20 - r2)) (va_cwS 2 hts (lw_S q653 q504 q116 q505) rfl rfl rfl (by decide +kernel) ⟨Nat.le_of_ble_eq_true rfl, Nat.le_of_ble_eq_true rfl⟩) ⟨xPc.blind, F.pre hW hS [.int 0, .int (20 - r2)]⟩ rfl rfl hl.1 rfl (lv_room (Nat.le_of_ble_eq_true rfl)) dX7_worth_33 ⟨Nat.le_refl _, Nat.le_refl _⟩) hS (fun H locs hW hS => ?_)
        refine lv_iadd hx hb dX7_worth_36 ?_
        cases h
        exact x_iret F hr hlk hW hS dX7_worth_37
      · rw [if_pos c5] at h
        refine lv_iconst (v := 0) hx hb dX7_worth_24 (by decide) ?_
        refine lv_goto (tgt := 36) hx hb dX7_worth_25 (by decide) ?_
        refine lv_iadd hx hb dX7_worth_36 ?_
        cases h
        exact x_iret F hr hlk hW hS dX7_worth_37
/-! WildBells$Young.worth(I)I -/
def fX12_worth_k6 (σ : xM) (n : Nat) (a1 : Int32) : Option Int32 :=
  (fX7_worth_k6 σ n a1).bind (fun r2 => if xin a1 64 then (some (r2 + (fX14_twice_k6 (σ 0 (18 + 64 * 1 + a1.toNatClampNeg))))) else none)
set_option maxHeartbeats 4000000 in
theorem mX12_worth_k6 (l : Launch) (E : xE) (σ : xM) (n : Nat) (hn : n < 8) (a1 : Int32) (r : Int32) (h : fX12_worth_k6 σ n a1 = some r) : Met l yX12_worth (ws_ yX12_worth cX12_worth 2 (some .int)) ({ frames := 9, cells := 0, slots := 0, locals := 192 } : Room) (xPc E σ [.ref (xa E (xbc 6 n)), .int a1]) (xQc E (.returned (some (.int r))) σ) 0 0 (xA E) := by
  refine x_of (C := RX12) (n := "worth") (d := "(I)I") (r := (some .int)) (by decide) rfl (by first | decide | exact Nat.le_of_ble_eq_true rfl) ?_
  intro p e s m below meth c ls F hr hlk hW hS hl
  have hl : lv_has ls 2 [(0, .ref (xa E (xbc 6 n))), (1, .int a1)] := hl
  obtain ⟨hx, hb, hml, hown, hts⟩ := id F.1
  have hK := F.2.1.1
  unfold fX12_worth_k6 at h
  refine lv_aload_n hx hb dX12_worth_0 rfl (lv_at hl 0 rfl) ?_
  refine lv_iload_n hx hb dX12_worth_1 rfl (lv_at hl 1 rfl) ?_
  cases g1 : fX7_worth_k6 σ n a1 with
  | none => rw [g1] at h; cases h
  | some r2 =>
    rw [g1, Option.bind_some] at h
    refine x_backi (va_runSU (C := RX12) (b := (xa E (xbc 6 n))) (hK.1 12 _ rfl).2 (As := [.int a1]) (rest := []) F.1 (mX7_worth_k6 l E σ n hn a1 r2 g1) (va_cwSU 1 hts (lw_SU q677 q1736 q404 q648 q109 q650) rfl rfl rfl (by decide +kernel) ⟨Nat.le_of_ble_eq_true rfl, Nat.le_of_ble_eq_true rfl⟩) ⟨xPc.blind, va_recv hK (xO_B hW 6 n (by decide) hn) (ci := 12) (q0 := 0) rfl rfl, F.pre hW hS (.ref (xa E (xbc 6 n)) :: [.int a1])⟩ rfl rfl hl.1 rfl (lv_room (Nat.le_of_ble_eq_true rfl)) dX12_worth_2 ⟨Nat.le_refl _, Nat.le_refl _⟩) hS (fun H locs hW hS => ?_)
    refine lv_aload_n hx hb dX12_worth_5 rfl (lv_at hl 0 rfl) ?_
    refine lv_aload_n hx hb dX12_worth_6 rfl (lv_at hl 0 rfl) ?_
    refine va_get (D := xD E) (ci := 12) (v := .ref (xa E 0)) (C := RX12) (T := TX12) (N := 4) hx hb hts in_X12 hown hK (xO_B hW 6 n (by decide) hn) 0 rfl rfl 3 (by decide) (hts _ q398) (fun _ h9 => h9) rfl dX12_worth_7 ?_
    refine va_getN (D := xD E) (ci := 0) (v := .ref (xa E (xwc 0 0))) (C := RX0) (T := TX0) (N := 15) hx hb hts in_X0 hown hK (xO_X hW) 0 rfl rfl 3 (by decide) (va_Nw.use rfl (F.2.1.2.1 _ q414 rfl)) (fun _ h9 => h9) rfl dX12_worth_10 ?_
    refine va_getN (D := xD E) (ci := 4) (v := .ref (xa E (xwc 0 1))) (C := RX4) (T := TX4) (N := 8) hx hb hts in_X4 hown hK (xO_W hW 0 (by decide)) 0 rfl rfl 0 (by decide) (va_Nw.use rfl (F.2.1.2.1 _ q229 rfl)) (fun _ h9 => h9) rfl dX12_worth_13 ?_
    refine lv_iconst (v := 1) hx hb dX12_worth_16 (by decide) ?_
    refine x_aald (g := fun j => xa E (xwc 0 (2 + j))) (j := 1) F 4 4 2 (xR_1 hW 0 (by decide)) rfl rfl (x_lit (by decide)) (by decide) dX12_worth_17 ?_
    refine lv_iload_n hx hb dX12_worth_18 rfl (lv_at hl 1 rfl) ?_
    by_cases hi3 : xin a1 64
    · rw [if_pos hi3] at h
      refine va_iald hx hb hK (xV_2 hW 0 1 (by decide) (by decide)) 0 0 rfl rfl hi3 dX12_worth_19 ?_
      refine x_backi (x_runD (C := RX12) (b := (xa E (xbc 6 n))) (As := [.int (σ 0 (18 + 64 * 1 + a1.toNatClampNeg))]) (rest := [.int r2]) F F.2.1.2.2.2.2.2.2.2 (mX14_twice_k6 l E σ n hn (σ 0 (18 + 64 * 1 + a1.toNatClampNeg))) ⟨rfl, rfl, Nat.le_of_ble_eq_true rfl, Nat.le_of_ble_eq_true rfl⟩ ⟨xPc.blind, va_recv hK (xO_B hW 6 n (by decide) hn) (ci := 12) (q0 := 0) rfl rfl, F.pre hW hS (.ref (xa E (xbc 6 n)) :: [.int (σ 0 (18 + 64 * 1 + a1.toNatClampNeg))])⟩ rfl hl.1 rfl (Nat.le_of_ble_eq_true rfl) dX12_worth_20 ⟨Nat.le_refl _, Nat.le_refl _⟩) hS (fun H locs hW hS => ?_)
      refine lv_iadd hx hb dX12_worth_23 ?_
      cases h
      exact x_iret F hr hlk hW hS dX12_worth_24
    · rw [if_neg hi3] at h; cases h
