set_option maxRecDepth 100000
/-! WildBells.finding(I)I -/
def fX0_finding (σ : xM) (a1 : Int32) : Option (Int32 × xM) :=
  if xin a1 7 then (if xin a1 7 then (some (((-1000001) - a1), (xup σ 7 (a1.toNatClampNeg) ((σ 7 (a1.toNatClampNeg)) + 1)))) else none) else none
set_option maxHeartbeats 4000000 in
theorem mX0_finding (l : Launch) (E : xE) (σ : xM) (a1 : Int32) (r : Int32) (σ' : xM) (h : fX0_finding σ a1 = some (r, σ')) : Met l yX0_finding (ws_ yX0_finding cX0_finding 2 (some .int)) ({ frames := 0, cells := 0, slots := 0, locals := 0 } : Room) (xPc E σ [.ref (xa E 0), .int a1]) (xQc E (.returned (some (.int r))) σ') 0 0 (xA E) := by
  refine x_of (C := RX0) (n := "finding") (d := "(I)I") (r := (some .int)) (by decide) rfl (by first | decide | exact Nat.le_of_ble_eq_true rfl) ?_
  intro p e s m below meth c ls F hr hlk hW hS hl
  have hl : lv_has ls 2 [(0, .ref (xa E 0)), (1, .int a1)] := hl
  obtain ⟨hx, hb, hml, hown, hts⟩ := id F.1
  have hK := F.2.1.1
  unfold fX0_finding at h
  refine lv_aload_n hx hb dX0_finding_0 rfl (lv_at hl 0 rfl) ?_
  refine va_get (D := xD E) (ci := 0) (v := .ref (xa E 56)) (C := RX0) (T := TX0) (N := 15) hx hb hts in_X0 hown hK (xO_X hW) 0 rfl rfl 10 (by decide) (hts _ q423) (fun _ h9 => h9) rfl dX0_finding_1 ?_
  refine lv_iload_n hx hb dX0_finding_4 rfl (lv_at hl 1 rfl) ?_
  refine lv_dup2_11 hx hb dX0_finding_5 rfl rfl ?_
  by_cases hi1 : xin a1 7
  · rw [if_pos hi1] at h
    refine va_iald hx hb hK (xV_p hW xp_56) 0 0 rfl rfl hi1 dX0_finding_6 ?_
    refine lv_iconst (v := 1) hx hb dX0_finding_7 (by decide) ?_
    refine lv_iadd hx hb dX0_finding_8 ?_
    by_cases hi2 : xin a1 7
    · rw [if_pos hi2] at h
      refine x_iast F hW hS 56 7 7 (fun j => j) xp_56.1 xp_56.2.1 xp_56.2.2.1 xp_56.2.2.2 hi2 dX0_finding_9 (fun H locs hW hS => ?_)
      refine lv_ldc (v := (-1000001)) hx hb hown (hts _ q473) dX0_finding_10 ?_
      refine lv_iload_n hx hb dX0_finding_12 rfl (lv_at hl 1 rfl) ?_
      refine lv_isub hx hb dX0_finding_13 ?_
      obtain ⟨h1, h2⟩ := Prod.mk.inj (Option.some.inj h); subst h1; subst h2
      exact x_iret F hr hlk hW hS dX0_finding_14
    · rw [if_neg hi2] at h; cases h
  · rw [if_neg hi1] at h; cases h
/-! WildBells.isBell(I)Z -/
def fX0_isBell (σ : xM) (a1 : Int32) : Int32 :=
  (fX0_in a1 0 ((σ 0 2) - 1))
set_option maxHeartbeats 4000000 in
theorem mX0_isBell (l : Launch) (E : xE) (σ : xM) (a1 : Int32) : Met l yX0_isBell (ws_ yX0_isBell cX0_isBell 2 (some .boolean)) ({ frames := 1, cells := 0, slots := 0, locals := 22 } : Room) (xPc E σ [.ref (xa E 0), .int a1]) (xQc E (.returned (some (.int (fX0_isBell σ a1)))) σ) 0 0 (xA E) := by
  refine x_of (C := RX0) (n := "isBell") (d := "(I)Z") (r := (some .boolean)) (by decide) rfl (by first | decide | exact Nat.le_of_ble_eq_true rfl) ?_
  intro p e s m below meth c ls F hr hlk hW hS hl
  have hl : lv_has ls 2 [(0, .ref (xa E 0)), (1, .int a1)] := hl
  obtain ⟨hx, hb, hml, hown, hts⟩ := id F.1
  have hK := F.2.1.1
  obtain ⟨r, h⟩ : ∃ r, fX0_isBell σ a1 = r := ⟨_, rfl⟩
  rw [h]
  unfold fX0_isBell at h
  refine lv_iload_n hx hb dX0_isBell_0 rfl (lv_at hl 1 rfl) ?_
  refine lv_iconst (v := 0) hx hb dX0_isBell_1 (by decide) ?_
  refine lv_aload_n hx hb dX0_isBell_2 rfl (lv_at hl 0 rfl) ?_
  refine va_get (D := xD E) (ci := 0) (v := .ref (xa E (xwc 0 0))) (C := RX0) (T := TX0) (N := 15) hx hb hts in_X0 hown hK (xO_X hW) 0 rfl rfl 3 (by decide) (hts _ q416) (fun _ h9 => h9) rfl dX0_isBell_3 ?_
  refine va_getN (D := xD E) (ci := 4) (v := .int (σ 0 2)) (C := RX4) (T := TX4) (N := 8) hx hb hts in_X4 hown hK (xO_W hW 0 (by decide)) 0 rfl rfl 3 (by decide) (va_Nw.use rfl (F.2.1.2.1 _ q241 rfl)) (fun _ h9 => h9) rfl dX0_isBell_6 ?_
  refine lv_iconst (v := 1) hx hb dX0_isBell_9 (by decide) ?_
  refine lv_isub hx hb dX0_isBell_10 ?_
  refine x_backi (va_runS (As := [.int a1, .int 0, .int ((σ 0 2) - 1)]) (rest := []) F.1 (mX0_in l E σ a1 0 ((σ 0 2) - 1)) (va_cwS 3 hts (lw_S q466 q467 q99 q468) rfl rfl rfl (by decide +kernel) ⟨Nat.le_of_ble_eq_true rfl, Nat.le_of_ble_eq_true rfl⟩) ⟨xPc.blind, F.pre hW hS [.int a1, .int 0, .int ((σ 0 2) - 1)]⟩ rfl rfl hl.1 rfl (lv_room (Nat.le_of_ble_eq_true rfl)) dX0_isBell_11 ⟨Nat.le_refl _, Nat.le_refl _⟩) hS (fun H locs hW hS => ?_)
  subst h
  exact x_zret F hr hlk hW hS (by first | exact bX0_in _ _ _ | rfl) dX0_isBell_14
/-! WildBells.orNone(I)I -/
def fX0_orNone (σ : xM) (a1 : Int32) : Option (Int32 × xM) :=
  if a1 = (-1) then ((fX0_finding σ 3).bind (fun r3 => some (r3.1, r3.2))) else (some (a1, σ))
set_option maxHeartbeats 4000000 in
theorem mX0_orNone (l : Launch) (E : xE) (σ : xM) (a1 : Int32) (r : Int32) (σ' : xM) (h : fX0_orNone σ a1 = some (r, σ')) : Met l yX0_orNone (ws_ yX0_orNone cX0_orNone 2 (some .int)) ({ frames := 1, cells := 0, slots := 0, locals := 21 } : Room) (xPc E σ [.ref (xa E 0), .int a1]) (xQc E (.returned (some (.int r))) σ') 0 0 (xA E) := by
  refine x_of (C := RX0) (n := "orNone") (d := "(I)I") (r := (some .int)) (by decide) rfl (by first | decide | exact Nat.le_of_ble_eq_true rfl) ?_
  intro p e s m below meth c ls F hr hlk hW hS hl
  have hl : lv_has ls 2 [(0, .ref (xa E 0)), (1, .int a1)] := hl
  obtain ⟨hx, hb, hml, hown, hts⟩ := id F.1
  have hK := F.2.1.1
  unfold fX0_orNone at h
  refine lv_iload_n hx hb dX0_orNone_0 rfl (lv_at hl 1 rfl) ?_
  refine lv_iconst (v := (-1)) hx hb dX0_orNone_1 (by decide) ?_
  refine lv_icmp_ne (tgt := 13) hx hb dX0_orNone_2 (by decide) (fun c1 => ?_) (fun c1 => ?_)
  · rw [if_neg c1] at h
    refine lv_iload_n hx hb dX0_orNone_13 rfl (lv_at hl 1 rfl) ?_
    obtain ⟨h1, h2⟩ := Prod.mk.inj (Option.some.inj h); subst h1; subst h2
    exact x_iret F hr hlk hW hS dX0_orNone_14
  · rw [if_pos c1] at h
    refine lv_aload_n hx hb dX0_orNone_5 rfl (lv_at hl 0 rfl) ?_
    refine lv_iconst (v := 3) hx hb dX0_orNone_6 (by decide) ?_
    cases g2 : fX0_finding σ 3 with
    | none => rw [g2] at h; cases h
    | some r3 =>
      rw [g2, Option.bind_some] at h
      refine x_backi (va_runV (C := RX0) (b := (xa E 0)) (As := [.int 3]) (rest := []) F.1 (mX0_finding l E σ 3 r3.1 r3.2 g2) (cwV 1 hts (lw_V q469 q471 qs2 q99 q472) rfl rfl rfl (by decide +kernel) ⟨Nat.le_of_ble_eq_true rfl, Nat.le_of_ble_eq_true rfl⟩) ⟨xPc.blind, va_recv hK (xO_X hW) (ci := 0) (q0 := 0) rfl rfl, F.pre hW hS (.ref (xa E 0) :: [.int 3])⟩ rfl rfl hl.1 rfl (lv_room (Nat.le_of_ble_eq_true rfl)) dX0_orNone_7 ⟨Nat.le_refl _, Nat.le_refl _⟩) hS (fun H locs hW hS => ?_)
      refine lv_goto (tgt := 14) hx hb dX0_orNone_10 (by decide) ?_
      obtain ⟨h1, h2⟩ := Prod.mk.inj (Option.some.inj h); subst h1; subst h2
      exact x_iret F hr hlk hW hS dX0_orNone_14
/-! WildBells.net(II)I -/
def fX0_net (σ : xM) (a1 : Int32) (a2 : Int32) : Option (Int32 × xM) :=
  if (fX0_isCell a1) = 0 then ((fX0_finding σ 0).bind (fun r3 => some (r3.1, r3.2))) else (if (fX0_in a2 0 1) = 0 then ((fX0_finding σ 0).bind (fun r10 => some (r10.1, r10.2))) else (if xin a1 64 then (if (σ 0 (18 + 64 * 0 + a1.toNatClampNeg)) = a2 then (if xin a1 64 then (some (0, (xup σ 0 (18 + 64 * 0 + a1.toNatClampNeg) a2))) else none) else (if xin a1 64 then (some (1, (xup σ 0 (18 + 64 * 0 + a1.toNatClampNeg) a2))) else none)) else none))
set_option maxHeartbeats 4000000 in
theorem mX0_net (l : Launch) (E : xE) (σ : xM) (a1 : Int32) (a2 : Int32) (r : Int32) (σ' : xM) (h : fX0_net σ a1 a2 = some (r, σ')) : Met l yX0_net (ws_ yX0_net cX0_net 4 (some .int)) ({ frames := 2, cells := 0, slots := 0, locals := 42 } : Room) (xPc E σ [.ref (xa E 0), .int a1, .int a2]) (xQc E (.returned (some (.int r))) σ') 0 0 (xA E) := by
  refine x_of (C := RX0) (n := "net") (d := "(II)I") (r := (some .int)) (by decide) rfl (by first | decide | exact Nat.le_of_ble_eq_true rfl) ?_
  intro p e s m below meth c ls F hr hlk hW hS hl
  have hl : lv_has ls 4 [(0, .ref (xa E 0)), (1, .int a1), (2, .int a2)] := hl
  obtain ⟨hx, hb, hml, hown, hts⟩ := id F.1
  have hK := F.2.1.1
  unfold fX0_net at h
  refine lv_iload_n hx hb dX0_net_0 rfl (lv_at hl 1 rfl) ?_
  refine x_backi (va_runS (As := [.int a1]) (rest := []) F.1 (mX0_isCell l E σ a1) (va_cwS 1 hts (lw_S q463 q464 q99 q465) rfl rfl rfl (by decide +kernel) ⟨Nat.le_of_ble_eq_true rfl, Nat.le_of_ble_eq_true rfl⟩) ⟨xPc.blind, F.pre hW hS [.int a1]⟩ rfl rfl hl.1 rfl (lv_room (Nat.le_of_ble_eq_true rfl)) dX0_net_1 ⟨Nat.le_refl _, Nat.le_refl _⟩) hS (fun H locs hW hS => ?_)
  refine lv_if_eq (tgt := 16) hx hb dX0_net_4 (by decide) (fun c1 => ?_) (fun c1 => ?_)
  · rw [if_pos c1] at h
    refine lv_aload_n hx hb dX0_net_16 rfl (lv_at hl 0 rfl) ?_
    refine lv_iconst (v := 0) hx hb dX0_net_17 (by decide) ?_
    cases g2 : fX0_finding σ 0 with
    | none => rw [g2] at h; cases h
    | some r3 =>
      rw [g2, Option.bind_some] at h
      refine x_backi (va_runV (C := RX0) (b := (xa E 0)) (As := [.int 0]) (rest := []) F.1 (mX0_finding l E σ 0 r3.1 r3.2 g2) (cwV 1 hts (lw_V q469 q471 qs2 q99 q472) rfl rfl rfl (by decide +kernel) ⟨Nat.le_of_ble_eq_true rfl, Nat.le_of_ble_eq_true rfl⟩) ⟨xPc.blind, va_recv hK (xO_X hW) (ci := 0) (q0 := 0) rfl rfl, F.pre hW hS (.ref (xa E 0) :: [.int 0])⟩ rfl rfl hl.1 rfl (lv_room (Nat.le_of_ble_eq_true rfl)) dX0_net_18 ⟨Nat.le_refl _, Nat.le_refl _⟩) hS (fun H locs hW hS => ?_)
      obtain ⟨h1, h2⟩ := Prod.mk.inj (Option.some.inj h); subst h1; subst h2
      exact x_iret F hr hlk hW hS dX0_net_21
  · rw [if_neg c1] at h
    refine lv_iload_n hx hb dX0_net_7 rfl (lv_at hl 2 rfl) ?_
    refine lv_iconst (v := 0) hx hb dX0_net_8 (by decide) ?_
    refine lv_iconst (v := 1) hx hb dX0_net_9 (by decide) ?_
    refine x_backi (va_runS (As := [.int a2, .int 0, .int 1]) (rest := []) F.1 (mX0_in l E σ a2 0 1) (va_cwS 3 hts (lw_S q466 q467 q99 q468) rfl rfl rfl (by decide +kernel) ⟨Nat.le_of_ble_eq_true rfl, Nat.le_of_ble_eq_true rfl⟩) ⟨xPc.blind, F.pre hW hS [.int a2, .int 0, .int 1]⟩ rfl rfl hl.1 rfl (lv_room (Nat.le_of_ble_eq_true rfl)) dX0_net_10 ⟨Nat.le_refl _, Nat.le_refl _⟩) hS (fun H locs hW hS => ?_)
    refine lv_if_ne (tgt := 22) hx hb dX0_net_13 (by decide) (fun c4 => ?_) (fun c4 => ?_)
    · rw [if_neg c4] at h
      refine lv_aload_n hx hb dX0_net_22 rfl (lv_at hl 0 rfl) ?_
      refine va_get (D := xD E) (ci := 0) (v := .ref (xa E (xwc 0 0))) (C := RX0) (T := TX0) (N := 15) hx hb hts in_X0 hown hK (xO_X hW) 0 rfl rfl 3 (by decide) (hts _ q416) (fun _ h9 => h9) rfl dX0_net_23 ?_
      refine va_getN (D := xD E) (ci := 4) (v := .ref (xa E (xwc 0 1))) (C := RX4) (T := TX4) (N := 8) hx hb hts in_X4 hown hK (xO_W hW 0 (by decide)) 0 rfl rfl 0 (by decide) (va_Nw.use rfl (F.2.1.2.1 _ q232 rfl)) (fun _ h9 => h9) rfl dX0_net_26 ?_
      refine lv_iconst (v := 0) hx hb dX0_net_29 (by decide) ?_
      refine x_aald (g := fun j => xa E (xwc 0 (2 + j))) (j := 0) F 4 4 2 (xR_1 hW 0 (by decide)) rfl rfl (x_lit (by decide)) (by decide) dX0_net_30 ?_
      refine lv_iload_n hx hb dX0_net_31 rfl (lv_at hl 1 rfl) ?_
      by_cases hi5 : xin a1 64
      · rw [if_pos hi5] at h
        refine va_iald hx hb hK (xV_2 hW 0 0 (by decide) (by decide)) 0 0 rfl rfl hi5 dX0_net_32 ?_
        refine lv_iload_n hx hb dX0_net_33 rfl (lv_at hl 2 rfl) ?_
        refine lv_icmp_ne (tgt := 41) hx hb dX0_net_34 (by decide) (fun c6 => ?_) (fun c6 => ?_)
        · rw [if_neg c6] at h
          refine lv_iconst (v := 1) hx hb dX0_net_41 (by decide) ?_
          refine lv_istore_n (lv' := [(3, .int 1), (0, .ref (xa E 0)), (1, .int a1), (2, .int a2)]) hx hb dX0_net_42 rfl hl (by decide) rfl (fun ls hl => ?_)
          refine lv_aload_n hx hb dX0_net_43 rfl (lv_at hl 1 rfl) ?_
          refine va_get (D := xD E) (ci := 0) (v := .ref (xa E (xwc 0 0))) (C := RX0) (T := TX0) (N := 15) hx hb hts in_X0 hown hK (xO_X hW) 0 rfl rfl 3 (by decide) (hts _ q416) (fun _ h9 => h9) rfl dX0_net_44 ?_
          refine va_getN (D := xD E) (ci := 4) (v := .ref (xa E (xwc 0 1))) (C := RX4) (T := TX4) (N := 8) hx hb hts in_X4 hown hK (xO_W hW 0 (by decide)) 0 rfl rfl 0 (by decide) (va_Nw.use rfl (F.2.1.2.1 _ q232 rfl)) (fun _ h9 => h9) rfl dX0_net_47 ?_
          refine lv_iconst (v := 0) hx hb dX0_net_50 (by decide) ?_
          refine x_aald (g := fun j => xa E (xwc 0 (2 + j))) (j := 0) F 4 4 2 (xR_1 hW 0 (by decide)) rfl rfl (x_lit (by decide)) (by decide) dX0_net_51 ?_
          refine lv_iload_n hx hb dX0_net_52 rfl (lv_at hl 2 rfl) ?_
          refine lv_iload_n hx hb dX0_net_53 rfl (lv_at hl 3 rfl) ?_
          by_cases hi7 : xin a1 64
          · rw [if_pos hi7] at h
            refine x_iast F hW hS (xwc 0 (2 + 0)) 64 0 (fun j => 18 + 64 * 0 + j) (xw_lt 0 (by decide) _ (Nat.lt_of_lt_of_le (Nat.add_lt_add_left (by decide) 2 : 2 + 0 < 2 + 2) (by decide))) (xw_2 0 (by decide) 0 (by decide)).1 (xw_2 0 (by decide) 0 (by decide)).2 (by decide) hi7 dX0_net_54 (fun H locs hW hS => ?_)
            refine lv_iload_n hx hb dX0_net_55 rfl (lv_at hl 0 rfl) ?_
            obtain ⟨h1, h2⟩ := Prod.mk.inj (Option.some.inj h); subst h1; subst h2
            exact x_iret F hr hlk hW hS dX0_net_56
          · rw [if_neg hi7] at h; cases h
        · rw [if_pos c6] at h
          refine lv_iconst (v := 0) hx hb dX0_net_37 (by decide) ?_
          refine lv_goto (tgt := 42) hx hb dX0_net_38 (by decide) ?_
          refine lv_istore_n (lv' := [(3, .int 0), (0, .ref (xa E 0)), (1, .int a1), (2, .int a2)]) hx hb dX0_net_42 rfl hl (by decide) rfl (fun ls hl => ?_)
          refine lv_aload_n hx hb dX0_net_43 rfl (lv_at hl 1 rfl) ?_
          refine va_get (D := xD E) (ci := 0) (v := .ref (xa E (xwc 0 0))) (C := RX0) (T := TX0) (N := 15) hx hb hts in_X0 hown hK (xO_X hW) 0 rfl rfl 3 (by decide) (hts _ q416) (fun _ h9 => h9) rfl dX0_net_44 ?_
          refine va_getN (D := xD E) (ci := 4) (v := .ref (xa E (xwc 0 1))) (C := RX4) (T := TX4) (N := 8) hx hb hts in_X4 hown hK (xO_W hW 0 (by decide)) 0 rfl rfl 0 (by decide) (va_Nw.use rfl (F.2.1.2.1 _ q232 rfl)) (fun _ h9 => h9) rfl dX0_net_47 ?_
          refine lv_iconst (v := 0) hx hb dX0_net_50 (by decide) ?_
          refine x_aald (g := fun j => xa E (xwc 0 (2 + j))) (j := 0) F 4 4 2 (xR_1 hW 0 (by decide)) rfl rfl (x_lit (by decide)) (by decide) dX0_net_51 ?_
          refine lv_iload_n hx hb dX0_net_52 rfl (lv_at hl 2 rfl) ?_
          refine lv_iload_n hx hb dX0_net_53 rfl (lv_at hl 3 rfl) ?_
          by_cases hi8 : xin a1 64
          · rw [if_pos hi8] at h
            refine x_iast F hW hS (xwc 0 (2 + 0)) 64 0 (fun j => 18 + 64 * 0 + j) (xw_lt 0 (by decide) _ (Nat.lt_of_lt_of_le (Nat.add_lt_add_left (by decide) 2 : 2 + 0 < 2 + 2) (by decide))) (xw_2 0 (by decide) 0 (by decide)).1 (xw_2 0 (by decide) 0 (by decide)).2 (by decide) hi8 dX0_net_54 (fun H locs hW hS => ?_)
            refine lv_iload_n hx hb dX0_net_55 rfl (lv_at hl 0 rfl) ?_
            obtain ⟨h1, h2⟩ := Prod.mk.inj (Option.some.inj h); subst h1; subst h2
            exact x_iret F hr hlk hW hS dX0_net_56
          · rw [if_neg hi8] at h; cases h
      · rw [if_neg hi5] at h; cases h
    · rw [if_pos c4] at h
      refine lv_aload_n hx hb dX0_net_16 rfl (lv_at hl 0 rfl) ?_
      refine lv_iconst (v := 0) hx hb dX0_net_17 (by decide) ?_
      cases g9 : fX0_finding σ 0 with
      | none => rw [g9] at h; cases h
      | some r10 =>
        rw [g9, Option.bind_some] at h
        refine x_backi (va_runV (C := RX0) (b := (xa E 0)) (As := [.int 0]) (rest := []) F.1 (mX0_finding l E σ 0 r10.1 r10.2 g9) (cwV 1 hts (lw_V q469 q471 qs2 q99 q472) rfl rfl rfl (by decide +kernel) ⟨Nat.le_of_ble_eq_true rfl, Nat.le_of_ble_eq_true rfl⟩) ⟨xPc.blind, va_recv hK (xO_X hW) (ci := 0) (q0 := 0) rfl rfl, F.pre hW hS (.ref (xa E 0) :: [.int 0])⟩ rfl rfl hl.1 rfl (lv_room (Nat.le_of_ble_eq_true rfl)) dX0_net_18 ⟨Nat.le_refl _, Nat.le_refl _⟩) hS (fun H locs hW hS => ?_)
        obtain ⟨h1, h2⟩ := Prod.mk.inj (Option.some.inj h); subst h1; subst h2
        exact x_iret F hr hlk hW hS dX0_net_21
/-! WildBells.thick(II)I -/
def fX0_thick (σ : xM) (a1 : Int32) (a2 : Int32) : Option (Int32 × xM) :=
  if (fX0_isCell a1) = 0 then ((fX0_finding σ 0).bind (fun r3 => some (r3.1, r3.2))) else (if (fX0_in a2 0 9) = 0 then ((fX0_finding σ 0).bind (fun r8 => some (r8.1, r8.2))) else (if xin a1 64 then (if xin a1 64 then (some ((σ 0 (18 + 64 * 1 + a1.toNatClampNeg)), (xup σ 0 (18 + 64 * 1 + a1.toNatClampNeg) a2))) else none) else none))
set_option maxHeartbeats 4000000 in
theorem mX0_thick (l : Launch) (E : xE) (σ : xM) (a1 : Int32) (a2 : Int32) (r : Int32) (σ' : xM) (h : fX0_thick σ a1 a2 = some (r, σ')) : Met l yX0_thick (ws_ yX0_thick cX0_thick 4 (some .int)) ({ frames := 2, cells := 0, slots := 0, locals := 42 } : Room) (xPc E σ [.ref (xa E 0), .int a1, .int a2]) (xQc E (.returned (some (.int r))) σ') 0 0 (xA E) := by
  refine x_of (C := RX0) (n := "thick") (d := "(II)I") (r := (some .int)) (by decide) rfl (by first | decide | exact Nat.le_of_ble_eq_true rfl) ?_
  intro p e s m below meth c ls F hr hlk hW hS hl
  have hl : lv_has ls 4 [(0, .ref (xa E 0)), (1, .int a1), (2, .int a2)] := hl
  obtain ⟨hx, hb, hml, hown, hts⟩ := id F.1
  have hK := F.2.1.1
  unfold fX0_thick at h
  refine lv_iload_n hx hb dX0_thick_0 rfl (lv_at hl 1 rfl) ?_
  refine x_backi (va_runS (As := [.int a1]) (rest := []) F.1 (mX0_isCell l E σ a1) (va_cwS 1 hts (lw_S q463 q464 q99 q465) rfl rfl rfl (by decide +kernel) ⟨Nat.le_of_ble_eq_true rfl, Nat.le_of_ble_eq_true rfl⟩) ⟨xPc.blind, F.pre hW hS [.int a1]⟩ rfl rfl hl.1 rfl (lv_room (Nat.le_of_ble_eq_true rfl)) dX0_thick_1 ⟨Nat.le_refl _, Nat.le_refl _⟩) hS (fun H locs hW hS => ?_)
  refine lv_if_eq (tgt := 17) hx hb dX0_thick_4 (by decide) (fun c1 => ?_) (fun c1 => ?_)
  · rw [if_pos c1] at h
    refine lv_aload_n hx hb dX0_thick_17 rfl (lv_at hl 0 rfl) ?_
    refine lv_iconst (v := 0) hx hb dX0_thick_18 (by decide) ?_
    cases g2 : fX0_finding σ 0 with
    | none => rw [g2] at h; cases h
    | some r3 =>
      rw [g2, Option.bind_some] at h
      refine x_backi (va_runV (C := RX0) (b := (xa E 0)) (As := [.int 0]) (rest := []) F.1 (mX0_finding l E σ 0 r3.1 r3.2 g2) (cwV 1 hts (lw_V q469 q471 qs2 q99 q472) rfl rfl rfl (by decide +kernel) ⟨Nat.le_of_ble_eq_true rfl, Nat.le_of_ble_eq_true rfl⟩) ⟨xPc.blind, va_recv hK (xO_X hW) (ci := 0) (q0 := 0) rfl rfl, F.pre hW hS (.ref (xa E 0) :: [.int 0])⟩ rfl rfl hl.1 rfl (lv_room (Nat.le_of_ble_eq_true rfl)) dX0_thick_19 ⟨Nat.le_refl _, Nat.le_refl _⟩) hS (fun H locs hW hS => ?_)
      obtain ⟨h1, h2⟩ := Prod.mk.inj (Option.some.inj h); subst h1; subst h2
      exact x_iret F hr hlk hW hS dX0_thick_22
  · rw [if_neg c1] at h
    refine lv_iload_n hx hb dX0_thick_7 rfl (lv_at hl 2 rfl) ?_
    refine lv_iconst (v := 0) hx hb dX0_thick_8 (by decide) ?_
    refine lv_bipush (v := 9) hx hb dX0_thick_9 (by decide) ?_
    refine x_backi (va_runS (As := [.int a2, .int 0, .int 9]) (rest := []) F.1 (mX0_in l E σ a2 0 9) (va_cwS 3 hts (lw_S q466 q467 q99 q468) rfl rfl rfl (by decide +kernel) ⟨Nat.le_of_ble_eq_true rfl, Nat.le_of_ble_eq_true rfl⟩) ⟨xPc.blind, F.pre hW hS [.int a2, .int 0, .int 9]⟩ rfl rfl hl.1 rfl (lv_room (Nat.le_of_ble_eq_true rfl)) dX0_thick_11 ⟨Nat.le_refl _, Nat.le_refl _⟩) hS (fun H locs hW hS => ?_)
    refine lv_if_ne (tgt := 23) hx hb dX0_thick_14 (by decide) (fun c4 => ?_) (fun c4 => ?_)
    · rw [if_neg c4] at h
      refine lv_aload_n hx hb dX0_thick_23 rfl (lv_at hl 0 rfl) ?_
      refine va_get (D := xD E) (ci := 0) (v := .ref (xa E (xwc 0 0))) (C := RX0) (T := TX0) (N := 15) hx hb hts in_X0 hown hK (xO_X hW) 0 rfl rfl 3 (by decide) (hts _ q416) (fun _ h9 => h9) rfl dX0_thick_24 ?_
      refine va_getN (D := xD E) (ci := 4) (v := .ref (xa E (xwc 0 1))) (C := RX4) (T := TX4) (N := 8) hx hb hts in_X4 hown hK (xO_W hW 0 (by decide)) 0 rfl rfl 0 (by decide) (va_Nw.use rfl (F.2.1.2.1 _ q232 rfl)) (fun _ h9 => h9) rfl dX0_thick_27 ?_
      refine lv_iconst (v := 1) hx hb dX0_thick_30 (by decide) ?_
      refine x_aald (g := fun j => xa E (xwc 0 (2 + j))) (j := 1) F 4 4 2 (xR_1 hW 0 (by decide)) rfl rfl (x_lit (by decide)) (by decide) dX0_thick_31 ?_
      refine lv_iload_n hx hb dX0_thick_32 rfl (lv_at hl 1 rfl) ?_
      by_cases hi5 : xin a1 64
      · rw [if_pos hi5] at h
        refine va_iald hx hb hK (xV_2 hW 0 1 (by decide) (by decide)) 0 0 rfl rfl hi5 dX0_thick_33 ?_
        refine lv_istore_n (lv' := [(3, .int (σ 0 (18 + 64 * 1 + a1.toNatClampNeg))), (0, .ref (xa E 0)), (1, .int a1), (2, .int a2)]) hx hb dX0_thick_34 rfl hl (by decide) rfl (fun ls hl => ?_)
        refine lv_aload_n hx hb dX0_thick_35 rfl (lv_at hl 1 rfl) ?_
        refine va_get (D := xD E) (ci := 0) (v := .ref (xa E (xwc 0 0))) (C := RX0) (T := TX0) (N := 15) hx hb hts in_X0 hown hK (xO_X hW) 0 rfl rfl 3 (by decide) (hts _ q416) (fun _ h9 => h9) rfl dX0_thick_36 ?_
        refine va_getN (D := xD E) (ci := 4) (v := .ref (xa E (xwc 0 1))) (C := RX4) (T := TX4) (N := 8) hx hb hts in_X4 hown hK (xO_W hW 0 (by decide)) 0 rfl rfl 0 (by decide) (va_Nw.use rfl (F.2.1.2.1 _ q232 rfl)) (fun _ h9 => h9) rfl dX0_thick_39 ?_
        refine lv_iconst (v := 1) hx hb dX0_thick_42 (by decide) ?_
        refine x_aald (g := fun j => xa E (xwc 0 (2 + j))) (j := 1) F 4 4 2 (xR_1 hW 0 (by decide)) rfl rfl (x_lit (by decide)) (by decide) dX0_thick_43 ?_
        refine lv_iload_n hx hb dX0_thick_44 rfl (lv_at hl 2 rfl) ?_
        refine lv_iload_n hx hb dX0_thick_45 rfl (lv_at hl 3 rfl) ?_
        by_cases hi6 : xin a1 64
        · rw [if_pos hi6] at h
          refine x_iast F hW hS (xwc 0 (2 + 1)) 64 0 (fun j => 18 + 64 * 1 + j) (xw_lt 0 (by decide) _ (Nat.lt_of_lt_of_le (Nat.add_lt_add_left (by decide) 2 : 2 + 1 < 2 + 2) (by decide))) (xw_2 0 (by decide) 1 (by decide)).1 (xw_2 0 (by decide) 1 (by decide)).2 (by decide) hi6 dX0_thick_46 (fun H locs hW hS => ?_)
          refine lv_iload_n hx hb dX0_thick_47 rfl (lv_at hl 0 rfl) ?_
          obtain ⟨h1, h2⟩ := Prod.mk.inj (Option.some.inj h); subst h1; subst h2
          exact x_iret F hr hlk hW hS dX0_thick_48
        · rw [if_neg hi6] at h; cases h
      · rw [if_neg hi5] at h; cases h
    · rw [if_pos c4] at h
      refine lv_aload_n hx hb dX0_thick_17 rfl (lv_at hl 0 rfl) ?_
      refine lv_iconst (v := 0) hx hb dX0_thick_18 (by decide) ?_
      cases g7 : fX0_finding σ 0 with
      | none => rw [g7] at h; cases h
      | some r8 =>
        rw [g7, Option.bind_some] at h
        refine x_backi (va_runV (C := RX0) (b := (xa E 0)) (As := [.int 0]) (rest := []) F.1 (mX0_finding l E σ 0 r8.1 r8.2 g7) (cwV 1 hts (lw_V q469 q471 qs2 q99 q472) rfl rfl rfl (by decide +kernel) ⟨Nat.le_of_ble_eq_true rfl, Nat.le_of_ble_eq_true rfl⟩) ⟨xPc.blind, va_recv hK (xO_X hW) (ci := 0) (q0 := 0) rfl rfl, F.pre hW hS (.ref (xa E 0) :: [.int 0])⟩ rfl rfl hl.1 rfl (lv_room (Nat.le_of_ble_eq_true rfl)) dX0_thick_19 ⟨Nat.le_refl _, Nat.le_refl _⟩) hS (fun H locs hW hS => ?_)
        obtain ⟨h1, h2⟩ := Prod.mk.inj (Option.some.inj h); subst h1; subst h2
        exact x_iret F hr hlk hW hS dX0_thick_22
/-! WildBells.cell(II)I -/
def fX0_cell (σ : xM) (a1 : Int32) (a2 : Int32) : Option (Int32 × xM) :=
  if (fX0_isCell a1) = 0 then ((fX0_finding σ 0).bind (fun r17 => some (r17.1, r17.2))) else (if a2 = 0 then (if xin a2 2 then (if xin a1 64 then (some ((σ 0 (18 + 64 * a2.toNatClampNeg + a1.toNatClampNeg)), σ)) else none) else none) else (if a2 = 1 then (if xin a2 2 then (if xin a1 64 then (some ((σ 0 (18 + 64 * a2.toNatClampNeg + a1.toNatClampNeg)), σ)) else none) else none) else (if a2 = 2 then ((fX4_heard σ 0 a1).bind (fun r10 => some (r10, σ))) else (if a2 = 3 then ((fX4_manyAt σ 0 a1).bind (fun r13 => some (r13, σ))) else ((fX0_finding σ 0).bind (fun r15 => some (r15.1, r15.2)))))))
set_option maxHeartbeats 4000000 in
theorem mX0_cell (l : Launch) (E : xE) (σ : xM) (a1 : Int32) (a2 : Int32) (r : Int32) (σ' : xM) (h : fX0_cell σ a1 a2 = some (r, σ')) : Met l yX0_cell (ws_ yX0_cell cX0_cell 3 (some .int)) ({ frames := 4, cells := 0, slots := 0, locals := 87 } : Room) (xPc E σ [.ref (xa E 0), .int a1, .int a2]) (xQc E (.returned (some (.int r))) σ') 0 0 (xA E) := by
  refine x_of (C := RX0) (n := "cell") (d := "(II)I") (r := (some .int)) (by decide) rfl (by first | decide | exact Nat.le_of_ble_eq_true rfl) ?_
  intro p e s m below meth c ls F hr hlk hW hS hl
  have hl : lv_has ls 3 [(0, .ref (xa E 0)), (1, .int a1), (2, .int a2)] := hl
  obtain ⟨hx, hb, hml, hown, hts⟩ := id F.1
  have hK := F.2.1.1
  unfold fX0_cell at h
  refine lv_iload_n hx hb dX0_cell_0 rfl (lv_at hl 1 rfl) ?_
  refine x_backi (va_runS (As := [.int a1]) (rest := []) F.1 (mX0_isCell l E σ a1) (va_cwS 1 hts (lw_S q463 q464 q99 q465) rfl rfl rfl (by decide +kernel) ⟨Nat.le_of_ble_eq_true rfl, Nat.le_of_ble_eq_true rfl⟩) ⟨xPc.blind, F.pre hW hS [.int a1]⟩ rfl rfl hl.1 rfl (lv_room (Nat.le_of_ble_eq_true rfl)) dX0_cell_1 ⟨Nat.le_refl _, Nat.le_refl _⟩) hS (fun H locs hW hS => ?_)
  refine lv_if_ne (tgt := 13) hx hb dX0_cell_4 (by decide) (fun c1 => ?_) (fun c1 => ?_)
  · rw [if_neg c1] at h
    refine lv_iload_n hx hb dX0_cell_13 rfl (lv_at hl 2 rfl) ?_
    by_cases c2 : a2 = 0
    · rw [if_pos c2] at h
      refine lv_tableIn (tgt := 44) hx hb dX0_cell_14 (by rw [c2]; decide) (by rw [c2]; decide) (by rw [c2]; rfl) (by decide) ?_
      refine lv_aload_n hx hb dX0_cell_44 rfl (lv_at hl 0 rfl) ?_
      refine va_get (D := xD E) (ci := 0) (v := .ref (xa E (xwc 0 0))) (C := RX0) (T := TX0) (N := 15) hx hb hts in_X0 hown hK (xO_X hW) 0 rfl rfl 3 (by decide) (hts _ q416) (fun _ h9 => h9) rfl dX0_cell_45 ?_
      refine va_getN (D := xD E) (ci := 4) (v := .ref (xa E (xwc 0 1))) (C := RX4) (T := TX4) (N := 8) hx hb hts in_X4 hown hK (xO_W hW 0 (by decide)) 0 rfl rfl 0 (by decide) (va_Nw.use rfl (F.2.1.2.1 _ q232 rfl)) (fun _ h9 => h9) rfl dX0_cell_48 ?_
      refine lv_iload_n hx hb dX0_cell_51 rfl (lv_at hl 2 rfl) ?_
      by_cases hi3 : xin a2 2
      · rw [if_pos hi3] at h
        refine x_aald (g := fun j => xa E (xwc 0 (2 + j))) (j := (a2.toNatClampNeg)) F 4 4 2 (xR_1 hW 0 (by decide)) rfl rfl hi3 rfl dX0_cell_52 ?_
        refine lv_iload_n hx hb dX0_cell_53 rfl (lv_at hl 1 rfl) ?_
        by_cases hi4 : xin a1 64
        · rw [if_pos hi4] at h
          refine va_iald hx hb hK (xV_2 hW 0 a2.toNatClampNeg (by decide) (x_lt hi3)) 0 0 rfl rfl hi4 dX0_cell_54 ?_
          obtain ⟨h1, h2⟩ := Prod.mk.inj (Option.some.inj h); subst h1; subst h2
          exact x_iret F hr hlk hW hS dX0_cell_55
        · rw [if_neg hi4] at h; cases h
      · rw [if_neg hi3] at h; cases h
    · rw [if_neg c2] at h
      by_cases c5 : a2 = 1
      · rw [if_pos c5] at h
        refine lv_tableIn (tgt := 44) hx hb dX0_cell_14 (by rw [c5]; decide) (by rw [c5]; decide) (by rw [c5]; rfl) (by decide) ?_
        refine lv_aload_n hx hb dX0_cell_44 rfl (lv_at hl 0 rfl) ?_
        refine va_get (D := xD E) (ci := 0) (v := .ref (xa E (xwc 0 0))) (C := RX0) (T := TX0) (N := 15) hx hb hts in_X0 hown hK (xO_X hW) 0 rfl rfl 3 (by decide) (hts _ q416) (fun _ h9 => h9) rfl dX0_cell_45 ?_
        refine va_getN (D := xD E) (ci := 4) (v := .ref (xa E (xwc 0 1))) (C := RX4) (T := TX4) (N := 8) hx hb hts in_X4 hown hK (xO_W hW 0 (by decide)) 0 rfl rfl 0 (by decide) (va_Nw.use rfl (F.2.1.2.1 _ q232 rfl)) (fun _ h9 => h9) rfl dX0_cell_48 ?_
        refine lv_iload_n hx hb dX0_cell_51 rfl (lv_at hl 2 rfl) ?_
        by_cases hi6 : xin a2 2
        · rw [if_pos hi6] at h
          refine x_aald (g := fun j => xa E (xwc 0 (2 + j))) (j := (a2.toNatClampNeg)) F 4 4 2 (xR_1 hW 0 (by decide)) rfl rfl hi6 rfl dX0_cell_52 ?_
          refine lv_iload_n hx hb dX0_cell_53 rfl (lv_at hl 1 rfl) ?_
          by_cases hi7 : xin a1 64
          · rw [if_pos hi7] at h
            refine va_iald hx hb hK (xV_2 hW 0 a2.toNatClampNeg (by decide) (x_lt hi6)) 0 0 rfl rfl hi7 dX0_cell_54 ?_
            obtain ⟨h1, h2⟩ := Prod.mk.inj (Option.some.inj h); subst h1; subst h2
            exact x_iret F hr hlk hW hS dX0_cell_55
          · rw [if_neg hi7] at h; cases h
        · rw [if_neg hi6] at h; cases h
      · rw [if_neg c5] at h
        by_cases c8 : a2 = 2
        · rw [if_pos c8] at h
          refine lv_tableIn (tgt := 56) hx hb dX0_cell_14 (by rw [c8]; decide) (by rw [c8]; decide) (by rw [c8]; rfl) (by decide) ?_
          refine lv_aload_n hx hb dX0_cell_56 rfl (lv_at hl 0 rfl) ?_
          refine va_get (D := xD E) (ci := 0) (v := .ref (xa E (xwc 0 0))) (C := RX0) (T := TX0) (N := 15) hx hb hts in_X0 hown hK (xO_X hW) 0 rfl rfl 3 (by decide) (hts _ q416) (fun _ h9 => h9) rfl dX0_cell_57 ?_
          refine lv_iload_n hx hb dX0_cell_60 rfl (lv_at hl 1 rfl) ?_
          cases g9 : fX4_heard σ 0 a1 with
          | none => rw [g9] at h; cases h
          | some r10 =>
            rw [g9, Option.bind_some] at h
            refine x_backi (va_runV (C := RX4) (b := (xa E (xwc 0 0))) (As := [.int a1]) (rest := []) F.1 (mX4_heard l E σ 0 (by decide) a1 r10 g9) (cwV 1 hts (lw_V q482 q483 q484 q106 q485) rfl rfl rfl (by decide +kernel) ⟨Nat.le_of_ble_eq_true rfl, Nat.le_of_ble_eq_true rfl⟩) ⟨xPc.blind, va_recv hK (xO_W hW 0 (by decide)) (ci := 4) (q0 := 0) rfl rfl, F.pre hW hS (.ref (xa E (xwc 0 0)) :: [.int a1])⟩ rfl rfl hl.1 rfl (lv_room (Nat.le_of_ble_eq_true rfl)) dX0_cell_61 ⟨Nat.le_refl _, Nat.le_refl _⟩) hS (fun H locs hW hS => ?_)
            obtain ⟨h1, h2⟩ := Prod.mk.inj (Option.some.inj h); subst h1; subst h2
            exact x_iret F hr hlk hW hS dX0_cell_64
        · rw [if_neg c8] at h
          by_cases c11 : a2 = 3
          · rw [if_pos c11] at h
            refine lv_tableIn (tgt := 65) hx hb dX0_cell_14 (by rw [c11]; decide) (by rw [c11]; decide) (by rw [c11]; rfl) (by decide) ?_
            refine lv_aload_n hx hb dX0_cell_65 rfl (lv_at hl 0 rfl) ?_
            refine va_get (D := xD E) (ci := 0) (v := .ref (xa E (xwc 0 0))) (C := RX0) (T := TX0) (N := 15) hx hb hts in_X0 hown hK (xO_X hW) 0 rfl rfl 3 (by decide) (hts _ q416) (fun _ h9 => h9) rfl dX0_cell_66 ?_
            refine lv_iload_n hx hb dX0_cell_69 rfl (lv_at hl 1 rfl) ?_
            cases g12 : fX4_manyAt σ 0 a1 with
            | none => rw [g12] at h; cases h
            | some r13 =>
              rw [g12, Option.bind_some] at h
              refine x_backi (va_runV (C := RX4) (b := (xa E (xwc 0 0))) (As := [.int a1]) (rest := []) F.1 (mX4_manyAt l E σ 0 (by decide) a1 r13 g12) (cwV 1 hts (lw_V q507 q508 q509 q106 q510) rfl rfl rfl (by decide +kernel) ⟨Nat.le_of_ble_eq_true rfl, Nat.le_of_ble_eq_true rfl⟩) ⟨xPc.blind, va_recv hK (xO_W hW 0 (by decide)) (ci := 4) (q0 := 0) rfl rfl, F.pre hW hS (.ref (xa E (xwc 0 0)) :: [.int a1])⟩ rfl rfl hl.1 rfl (lv_room (Nat.le_of_ble_eq_true rfl)) dX0_cell_70 ⟨Nat.le_refl _, Nat.le_refl _⟩) hS (fun H locs hW hS => ?_)
              obtain ⟨h1, h2⟩ := Prod.mk.inj (Option.some.inj h); subst h1; subst h2
              exact x_iret F hr hlk hW hS dX0_cell_73
          · rw [if_neg c11] at h
            refine lv_tableOut (tgt := 74) hx hb dX0_cell_14 (by have := lv_neT (a := 0) c2 rfl; have := lv_neT (a := 1) c5 rfl; have := lv_neT (a := 2) c8 rfl; have := lv_neT (a := 3) c11 rfl; omega) (by decide) ?_
            refine lv_aload_n hx hb dX0_cell_74 rfl (lv_at hl 0 rfl) ?_
            refine lv_iconst (v := 0) hx hb dX0_cell_75 (by decide) ?_
            cases g14 : fX0_finding σ 0 with
            | none => rw [g14] at h; cases h
            | some r15 =>
              rw [g14, Option.bind_some] at h
              refine x_backi (va_runV (C := RX0) (b := (xa E 0)) (As := [.int 0]) (rest := []) F.1 (mX0_finding l E σ 0 r15.1 r15.2 g14) (cwV 1 hts (lw_V q469 q471 qs2 q99 q472) rfl rfl rfl (by decide +kernel) ⟨Nat.le_of_ble_eq_true rfl, Nat.le_of_ble_eq_true rfl⟩) ⟨xPc.blind, va_recv hK (xO_X hW) (ci := 0) (q0 := 0) rfl rfl, F.pre hW hS (.ref (xa E 0) :: [.int 0])⟩ rfl rfl hl.1 rfl (lv_room (Nat.le_of_ble_eq_true rfl)) dX0_cell_76 ⟨Nat.le_refl _, Nat.le_refl _⟩) hS (fun H locs hW hS => ?_)
              obtain ⟨h1, h2⟩ := Prod.mk.inj (Option.some.inj h); subst h1; subst h2
              exact x_iret F hr hlk hW hS dX0_cell_79
  · rw [if_pos c1] at h
    refine lv_aload_n hx hb dX0_cell_7 rfl (lv_at hl 0 rfl) ?_
    refine lv_iconst (v := 0) hx hb dX0_cell_8 (by decide) ?_
    cases g16 : fX0_finding σ 0 with
    | none => rw [g16] at h; cases h
    | some r17 =>
      rw [g16, Option.bind_some] at h
      refine x_backi (va_runV (C := RX0) (b := (xa E 0)) (As := [.int 0]) (rest := []) F.1 (mX0_finding l E σ 0 r17.1 r17.2 g16) (cwV 1 hts (lw_V q469 q471 qs2 q99 q472) rfl rfl rfl (by decide +kernel) ⟨Nat.le_of_ble_eq_true rfl, Nat.le_of_ble_eq_true rfl⟩) ⟨xPc.blind, va_recv hK (xO_X hW) (ci := 0) (q0 := 0) rfl rfl, F.pre hW hS (.ref (xa E 0) :: [.int 0])⟩ rfl rfl hl.1 rfl (lv_room (Nat.le_of_ble_eq_true rfl)) dX0_cell_9 ⟨Nat.le_refl _, Nat.le_refl _⟩) hS (fun H locs hW hS => ?_)
      obtain ⟨h1, h2⟩ := Prod.mk.inj (Option.some.inj h); subst h1; subst h2
      exact x_iret F hr hlk hW hS dX0_cell_12
/-! WildBells.hunter(II)I -/
def fX0_hunter (σ : xM) (a1 : Int32) (a2 : Int32) : Option (Int32 × xM) :=
  if (fX0_isHunter a1) = 0 then ((fX0_finding σ 0).bind (fun r3 => some (r3.1, r3.2))) else (if (fX0_in a2 (-1) 63) = 0 then ((fX0_finding σ 0).bind (fun r8 => some (r8.1, r8.2))) else (if xin a1 4 then (if xin a1 4 then (some ((σ 0 (14 + a1.toNatClampNeg)), (xup σ 0 (14 + a1.toNatClampNeg) a2))) else none) else none))
set_option maxHeartbeats 4000000 in
theorem mX0_hunter (l : Launch) (E : xE) (σ : xM) (a1 : Int32) (a2 : Int32) (r : Int32) (σ' : xM) (h : fX0_hunter σ a1 a2 = some (r, σ')) : Met l yX0_hunter (ws_ yX0_hunter cX0_hunter 4 (some .int)) ({ frames := 2, cells := 0, slots := 0, locals := 42 } : Room) (xPc E σ [.ref (xa E 0), .int a1, .int a2]) (xQc E (.returned (some (.int r))) σ') 0 0 (xA E) := by
  refine x_of (C := RX0) (n := "hunter") (d := "(II)I") (r := (some .int)) (by decide) rfl (by first | decide | exact Nat.le_of_ble_eq_true rfl) ?_
  intro p e s m below meth c ls F hr hlk hW hS hl
  have hl : lv_has ls 4 [(0, .ref (xa E 0)), (1, .int a1), (2, .int a2)] := hl
  obtain ⟨hx, hb, hml, hown, hts⟩ := id F.1
  have hK := F.2.1.1
  unfold fX0_hunter at h
  refine lv_iload_n hx hb dX0_hunter_0 rfl (lv_at hl 1 rfl) ?_
  refine x_backi (va_runS (As := [.int a1]) (rest := []) F.1 (mX0_isHunter l E σ a1) (va_cwS 1 hts (lw_S q515 q516 q99 q517) rfl rfl rfl (by decide +kernel) ⟨Nat.le_of_ble_eq_true rfl, Nat.le_of_ble_eq_true rfl⟩) ⟨xPc.blind, F.pre hW hS [.int a1]⟩ rfl rfl hl.1 rfl (lv_room (Nat.le_of_ble_eq_true rfl)) dX0_hunter_1 ⟨Nat.le_refl _, Nat.le_refl _⟩) hS (fun H locs hW hS => ?_)
  refine lv_if_eq (tgt := 17) hx hb dX0_hunter_4 (by decide) (fun c1 => ?_) (fun c1 => ?_)
  · rw [if_pos c1] at h
    refine lv_aload_n hx hb dX0_hunter_17 rfl (lv_at hl 0 rfl) ?_
    refine lv_iconst (v := 0) hx hb dX0_hunter_18 (by decide) ?_
    cases g2 : fX0_finding σ 0 with
    | none => rw [g2] at h; cases h
    | some r3 =>
      rw [g2, Option.bind_some] at h
      refine x_backi (va_runV (C := RX0) (b := (xa E 0)) (As := [.int 0]) (rest := []) F.1 (mX0_finding l E σ 0 r3.1 r3.2 g2) (cwV 1 hts (lw_V q469 q471 qs2 q99 q472) rfl rfl rfl (by decide +kernel) ⟨Nat.le_of_ble_eq_true rfl, Nat.le_of_ble_eq_true rfl⟩) ⟨xPc.blind, va_recv hK (xO_X hW) (ci := 0) (q0 := 0) rfl rfl, F.pre hW hS (.ref (xa E 0) :: [.int 0])⟩ rfl rfl hl.1 rfl (lv_room (Nat.le_of_ble_eq_true rfl)) dX0_hunter_19 ⟨Nat.le_refl _, Nat.le_refl _⟩) hS (fun H locs hW hS => ?_)
      obtain ⟨h1, h2⟩ := Prod.mk.inj (Option.some.inj h); subst h1; subst h2
      exact x_iret F hr hlk hW hS dX0_hunter_22
  · rw [if_neg c1] at h
    refine lv_iload_n hx hb dX0_hunter_7 rfl (lv_at hl 2 rfl) ?_
    refine lv_iconst (v := (-1)) hx hb dX0_hunter_8 (by decide) ?_
    refine lv_bipush (v := 63) hx hb dX0_hunter_9 (by decide) ?_
    refine x_backi (va_runS (As := [.int a2, .int (-1), .int 63]) (rest := []) F.1 (mX0_in l E σ a2 (-1) 63) (va_cwS 3 hts (lw_S q466 q467 q99 q468) rfl rfl rfl (by decide +kernel) ⟨Nat.le_of_ble_eq_true rfl, Nat.le_of_ble_eq_true rfl⟩) ⟨xPc.blind, F.pre hW hS [.int a2, .int (-1), .int 63]⟩ rfl rfl hl.1 rfl (lv_room (Nat.le_of_ble_eq_true rfl)) dX0_hunter_11 ⟨Nat.le_refl _, Nat.le_refl _⟩) hS (fun H locs hW hS => ?_)
    refine lv_if_ne (tgt := 23) hx hb dX0_hunter_14 (by decide) (fun c4 => ?_) (fun c4 => ?_)
    · rw [if_neg c4] at h
      refine lv_aload_n hx hb dX0_hunter_23 rfl (lv_at hl 0 rfl) ?_
      refine va_get (D := xD E) (ci := 0) (v := .ref (xa E (xwc 0 0))) (C := RX0) (T := TX0) (N := 15) hx hb hts in_X0 hown hK (xO_X hW) 0 rfl rfl 3 (by decide) (hts _ q416) (fun _ h9 => h9) rfl dX0_hunter_24 ?_
      refine va_getN (D := xD E) (ci := 4) (v := .ref (xa E (xwc 0 4))) (C := RX4) (T := TX4) (N := 8) hx hb hts in_X4 hown hK (xO_W hW 0 (by decide)) 0 rfl rfl 1 (by decide) (va_Nw.use rfl (F.2.1.2.1 _ q235 rfl)) (fun _ h9 => h9) rfl dX0_hunter_27 ?_
      refine lv_iload_n hx hb dX0_hunter_30 rfl (lv_at hl 1 rfl) ?_
      by_cases hi5 : xin a1 4
      · rw [if_pos hi5] at h
        refine va_iald hx hb hK (xV_4 hW 0 (by decide)) 0 0 rfl rfl hi5 dX0_hunter_31 ?_
        refine lv_istore_n (lv' := [(3, .int (σ 0 (14 + a1.toNatClampNeg))), (0, .ref (xa E 0)), (1, .int a1), (2, .int a2)]) hx hb dX0_hunter_32 rfl hl (by decide) rfl (fun ls hl => ?_)
        refine lv_aload_n hx hb dX0_hunter_33 rfl (lv_at hl 1 rfl) ?_
        refine va_get (D := xD E) (ci := 0) (v := .ref (xa E (xwc 0 0))) (C := RX0) (T := TX0) (N := 15) hx hb hts in_X0 hown hK (xO_X hW) 0 rfl rfl 3 (by decide) (hts _ q416) (fun _ h9 => h9) rfl dX0_hunter_34 ?_
        refine va_getN (D := xD E) (ci := 4) (v := .ref (xa E (xwc 0 4))) (C := RX4) (T := TX4) (N := 8) hx hb hts in_X4 hown hK (xO_W hW 0 (by decide)) 0 rfl rfl 1 (by decide) (va_Nw.use rfl (F.2.1.2.1 _ q235 rfl)) (fun _ h9 => h9) rfl dX0_hunter_37 ?_
        refine lv_iload_n hx hb dX0_hunter_40 rfl (lv_at hl 2 rfl) ?_
        refine lv_iload_n hx hb dX0_hunter_41 rfl (lv_at hl 3 rfl) ?_
        by_cases hi6 : xin a1 4
        · rw [if_pos hi6] at h
          refine x_iast F hW hS (xwc 0 4) 4 0 (fun j => 14 + j) (xw_lt 0 (by decide) 4 (by decide)) (xw_4 0 (by decide)).1 (xw_4 0 (by decide)).2 (by decide) hi6 dX0_hunter_42 (fun H locs hW hS => ?_)
          refine lv_iload_n hx hb dX0_hunter_43 rfl (lv_at hl 0 rfl) ?_
          obtain ⟨h1, h2⟩ := Prod.mk.inj (Option.some.inj h); subst h1; subst h2
          exact x_iret F hr hlk hW hS dX0_hunter_44
        · rw [if_neg hi6] at h; cases h
      · rw [if_neg hi5] at h; cases h
    · rw [if_pos c4] at h
      refine lv_aload_n hx hb dX0_hunter_17 rfl (lv_at hl 0 rfl) ?_
      refine lv_iconst (v := 0) hx hb dX0_hunter_18 (by decide) ?_
      cases g7 : fX0_finding σ 0 with
      | none => rw [g7] at h; cases h
      | some r8 =>
        rw [g7, Option.bind_some] at h
        refine x_backi (va_runV (C := RX0) (b := (xa E 0)) (As := [.int 0]) (rest := []) F.1 (mX0_finding l E σ 0 r8.1 r8.2 g7) (cwV 1 hts (lw_V q469 q471 qs2 q99 q472) rfl rfl rfl (by decide +kernel) ⟨Nat.le_of_ble_eq_true rfl, Nat.le_of_ble_eq_true rfl⟩) ⟨xPc.blind, va_recv hK (xO_X hW) (ci := 0) (q0 := 0) rfl rfl, F.pre hW hS (.ref (xa E 0) :: [.int 0])⟩ rfl rfl hl.1 rfl (lv_room (Nat.le_of_ble_eq_true rfl)) dX0_hunter_19 ⟨Nat.le_refl _, Nat.le_refl _⟩) hS (fun H locs hW hS => ?_)
        obtain ⟨h1, h2⟩ := Prod.mk.inj (Option.some.inj h); subst h1; subst h2
        exact x_iret F hr hlk hW hS dX0_hunter_22
/-! WildBells.fear(I)I -/
def fX0_fear (σ : xM) (a1 : Int32) : Option (Int32 × xM) :=
  if (fX0_in a1 0 9) = 0 then ((fX0_finding σ 0).bind (fun r3 => some (r3.1, r3.2))) else (some ((σ 0 1), (xup σ 0 1 a1)))
set_option maxHeartbeats 4000000 in
theorem mX0_fear (l : Launch) (E : xE) (σ : xM) (a1 : Int32) (r : Int32) (σ' : xM) (h : fX0_fear σ a1 = some (r, σ')) : Met l yX0_fear (ws_ yX0_fear cX0_fear 3 (some .int)) ({ frames := 1, cells := 0, slots := 0, locals := 22 } : Room) (xPc E σ [.ref (xa E 0), .int a1]) (xQc E (.returned (some (.int r))) σ') 0 0 (xA E) := by
  refine x_of (C := RX0) (n := "fear") (d := "(I)I") (r := (some .int)) (by decide) rfl (by first | decide | exact Nat.le_of_ble_eq_true rfl) ?_
  intro p e s m below meth c ls F hr hlk hW hS hl
  have hl : lv_has ls 3 [(0, .ref (xa E 0)), (1, .int a1)] := hl
  obtain ⟨hx, hb, hml, hown, hts⟩ := id F.1
  have hK := F.2.1.1
  unfold fX0_fear at h
  refine lv_iload_n hx hb dX0_fear_0 rfl (lv_at hl 1 rfl) ?_
  refine lv_iconst (v := 0) hx hb dX0_fear_1 (by decide) ?_
  refine lv_bipush (v := 9) hx hb dX0_fear_2 (by decide) ?_
  refine x_backi (va_runS (As := [.int a1, .int 0, .int 9]) (rest := []) F.1 (mX0_in l E σ a1 0 9) (va_cwS 3 hts (lw_S q466 q467 q99 q468) rfl rfl rfl (by decide +kernel) ⟨Nat.le_of_ble_eq_true rfl, Nat.le_of_ble_eq_true rfl⟩) ⟨xPc.blind, F.pre hW hS [.int a1, .int 0, .int 9]⟩ rfl rfl hl.1 rfl (lv_room (Nat.le_of_ble_eq_true rfl)) dX0_fear_4 ⟨Nat.le_refl _, Nat.le_refl _⟩) hS (fun H locs hW hS => ?_)
  refine lv_if_ne (tgt := 16) hx hb dX0_fear_7 (by decide) (fun c1 => ?_) (fun c1 => ?_)
  · rw [if_neg c1] at h
    refine lv_aload_n hx hb dX0_fear_16 rfl (lv_at hl 0 rfl) ?_
    refine va_get (D := xD E) (ci := 0) (v := .ref (xa E (xwc 0 0))) (C := RX0) (T := TX0) (N := 15) hx hb hts in_X0 hown hK (xO_X hW) 0 rfl rfl 3 (by decide) (hts _ q416) (fun _ h9 => h9) rfl dX0_fear_17 ?_
    refine va_getN (D := xD E) (ci := 4) (v := .int (σ 0 1)) (C := RX4) (T := TX4) (N := 8) hx hb hts in_X4 hown hK (xO_W hW 0 (by decide)) 0 rfl rfl 2 (by decide) (va_Nw.use rfl (F.2.1.2.1 _ q238 rfl)) (fun _ h9 => h9) rfl dX0_fear_20 ?_
    refine lv_istore_n (lv' := [(2, .int (σ 0 1)), (0, .ref (xa E 0)), (1, .int a1)]) hx hb dX0_fear_23 rfl hl (by decide) rfl (fun ls hl => ?_)
    refine lv_aload_n hx hb dX0_fear_24 rfl (lv_at hl 1 rfl) ?_
    refine va_get (D := xD E) (ci := 0) (v := .ref (xa E (xwc 0 0))) (C := RX0) (T := TX0) (N := 15) hx hb hts in_X0 hown hK (xO_X hW) 0 rfl rfl 3 (by decide) (hts _ q416) (fun _ h9 => h9) rfl dX0_fear_25 ?_
    refine lv_iload_n hx hb dX0_fear_28 rfl (lv_at hl 2 rfl) ?_
    refine x_putN (C := RX4) (T := TX4) (N := 8) (ci := 4) (ty := .int) F hW hS in_X4 tyX4 tyX4_ok nmX4 rfl (xwc 0 0) 2 0 1 (xw_lt 0 (by decide) 0 (by decide)) (xw_0 0 (by decide)).1 (by decide) (xw_0 0 (by decide)).2.2.2.1 (by decide) (va_Nw.use rfl (F.2.1.2.1 _ q238 rfl)) (fun _ h9 => h9) rfl (by decide +kernel) rfl rfl dX0_fear_29 (fun H locs hW hS => ?_)
    refine lv_iload_n hx hb dX0_fear_32 rfl (lv_at hl 0 rfl) ?_
    obtain ⟨h1, h2⟩ := Prod.mk.inj (Option.some.inj h); subst h1; subst h2
    exact x_iret F hr hlk hW hS dX0_fear_33
  · rw [if_pos c1] at h
    refine lv_aload_n hx hb dX0_fear_10 rfl (lv_at hl 0 rfl) ?_
    refine lv_iconst (v := 0) hx hb dX0_fear_11 (by decide) ?_
    cases g2 : fX0_finding σ 0 with
    | none => rw [g2] at h; cases h
    | some r3 =>
      rw [g2, Option.bind_some] at h
      refine x_backi (va_runV (C := RX0) (b := (xa E 0)) (As := [.int 0]) (rest := []) F.1 (mX0_finding l E σ 0 r3.1 r3.2 g2) (cwV 1 hts (lw_V q469 q471 qs2 q99 q472) rfl rfl rfl (by decide +kernel) ⟨Nat.le_of_ble_eq_true rfl, Nat.le_of_ble_eq_true rfl⟩) ⟨xPc.blind, va_recv hK (xO_X hW) (ci := 0) (q0 := 0) rfl rfl, F.pre hW hS (.ref (xa E 0) :: [.int 0])⟩ rfl rfl hl.1 rfl (lv_room (Nat.le_of_ble_eq_true rfl)) dX0_fear_12 ⟨Nat.le_refl _, Nat.le_refl _⟩) hS (fun H locs hW hS => ?_)
      obtain ⟨h1, h2⟩ := Prod.mk.inj (Option.some.inj h); subst h1; subst h2
      exact x_iret F hr hlk hW hS dX0_fear_15
/-! WildBells.bell(II)I -/
def fX0_bell (σ : xM) (a1 : Int32) (a2 : Int32) : Option (Int32 × xM) :=
  if (fX0_isKind a1) = 0 then ((fX0_finding σ 0).bind (fun r3 => some (r3.1, r3.2))) else (if (fX0_isCell a2) = 0 then ((fX0_finding σ 0).bind (fun r11 => some (r11.1, r11.2))) else (if (σ 0 2) = 8 then ((fX0_finding σ 1).bind (fun r9 => some (r9.1, r9.2))) else ((fX4_add σ 0 a1 a2).bind (fun r7 => some (((r7 0 2) - 1), r7)))))
set_option maxHeartbeats 4000000 in
theorem mX0_bell (l : Launch) (E : xE) (σ : xM) (a1 : Int32) (a2 : Int32) (r : Int32) (σ' : xM) (h : fX0_bell σ a1 a2 = some (r, σ')) : Met l yX0_bell (ws_ yX0_bell cX0_bell 3 (some .int)) ({ frames := 2, cells := 0, slots := 0, locals := 42 } : Room) (xPc E σ [.ref (xa E 0), .int a1, .int a2]) (xQc E (.returned (some (.int r))) σ') 0 0 (xA E) := by
  refine x_of (C := RX0) (n := "bell") (d := "(II)I") (r := (some .int)) (by decide) rfl (by first | decide | exact Nat.le_of_ble_eq_true rfl) ?_
  intro p e s m below meth c ls F hr hlk hW hS hl
  have hl : lv_has ls 3 [(0, .ref (xa E 0)), (1, .int a1), (2, .int a2)] := hl
  obtain ⟨hx, hb, hml, hown, hts⟩ := id F.1
  have hK := F.2.1.1
  unfold fX0_bell at h
  refine lv_iload_n hx hb dX0_bell_0 rfl (lv_at hl 1 rfl) ?_
  refine x_backi (va_runS (As := [.int a1]) (rest := []) F.1 (mX0_isKind l E σ a1) (va_cwS 1 hts (lw_S q526 q527 q99 q528) rfl rfl rfl (by decide +kernel) ⟨Nat.le_of_ble_eq_true rfl, Nat.le_of_ble_eq_true rfl⟩) ⟨xPc.blind, F.pre hW hS [.int a1]⟩ rfl rfl hl.1 rfl (lv_room (Nat.le_of_ble_eq_true rfl)) dX0_bell_1 ⟨Nat.le_refl _, Nat.le_refl _⟩) hS (fun H locs hW hS => ?_)
  refine lv_if_eq (tgt := 14) hx hb dX0_bell_4 (by decide) (fun c1 => ?_) (fun c1 => ?_)
  · rw [if_pos c1] at h
    refine lv_aload_n hx hb dX0_bell_14 rfl (lv_at hl 0 rfl) ?_
    refine lv_iconst (v := 0) hx hb dX0_bell_15 (by decide) ?_
    cases g2 : fX0_finding σ 0 with
    | none => rw [g2] at h; cases h
    | some r3 =>
      rw [g2, Option.bind_some] at h
      refine x_backi (va_runV (C := RX0) (b := (xa E 0)) (As := [.int 0]) (rest := []) F.1 (mX0_finding l E σ 0 r3.1 r3.2 g2) (cwV 1 hts (lw_V q469 q471 qs2 q99 q472) rfl rfl rfl (by decide +kernel) ⟨Nat.le_of_ble_eq_true rfl, Nat.le_of_ble_eq_true rfl⟩) ⟨xPc.blind, va_recv hK (xO_X hW) (ci := 0) (q0 := 0) rfl rfl, F.pre hW hS (.ref (xa E 0) :: [.int 0])⟩ rfl rfl hl.1 rfl (lv_room (Nat.le_of_ble_eq_true rfl)) dX0_bell_16 ⟨Nat.le_refl _, Nat.le_refl _⟩) hS (fun H locs hW hS => ?_)
      obtain ⟨h1, h2⟩ := Prod.mk.inj (Option.some.inj h); subst h1; subst h2
      exact x_iret F hr hlk hW hS dX0_bell_19
  · rw [if_neg c1] at h
    refine lv_iload_n hx hb dX0_bell_7 rfl (lv_at hl 2 rfl) ?_
    refine x_backi (va_runS (As := [.int a2]) (rest := []) F.1 (mX0_isCell l E σ a2) (va_cwS 1 hts (lw_S q463 q464 q99 q465) rfl rfl rfl (by decide +kernel) ⟨Nat.le_of_ble_eq_true rfl, Nat.le_of_ble_eq_true rfl⟩) ⟨xPc.blind, F.pre hW hS [.int a2]⟩ rfl rfl hl.1 rfl (lv_room (Nat.le_of_ble_eq_true rfl)) dX0_bell_8 ⟨Nat.le_refl _, Nat.le_refl _⟩) hS (fun H locs hW hS => ?_)
    refine lv_if_ne (tgt := 20) hx hb dX0_bell_11 (by decide) (fun c4 => ?_) (fun c4 => ?_)
    · rw [if_neg c4] at h
      refine lv_aload_n hx hb dX0_bell_20 rfl (lv_at hl 0 rfl) ?_
      refine va_get (D := xD E) (ci := 0) (v := .ref (xa E (xwc 0 0))) (C := RX0) (T := TX0) (N := 15) hx hb hts in_X0 hown hK (xO_X hW) 0 rfl rfl 3 (by decide) (hts _ q416) (fun _ h9 => h9) rfl dX0_bell_21 ?_
      refine va_getN (D := xD E) (ci := 4) (v := .int (σ 0 2)) (C := RX4) (T := TX4) (N := 8) hx hb hts in_X4 hown hK (xO_W hW 0 (by decide)) 0 rfl rfl 3 (by decide) (va_Nw.use rfl (F.2.1.2.1 _ q241 rfl)) (fun _ h9 => h9) rfl dX0_bell_24 ?_
      refine lv_bipush (v := 8) hx hb dX0_bell_27 (by decide) ?_
      refine lv_icmp_ne (tgt := 38) hx hb dX0_bell_29 (by decide) (fun c5 => ?_) (fun c5 => ?_)
      · rw [if_neg c5] at h
        refine lv_aload_n hx hb dX0_bell_38 rfl (lv_at hl 0 rfl) ?_
        refine va_get (D := xD E) (ci := 0) (v := .ref (xa E (xwc 0 0))) (C := RX0) (T := TX0) (N := 15) hx hb hts in_X0 hown hK (xO_X hW) 0 rfl rfl 3 (by decide) (hts _ q416) (fun _ h9 => h9) rfl dX0_bell_39 ?_
        refine lv_iload_n hx hb dX0_bell_42 rfl (lv_at hl 1 rfl) ?_
        refine lv_iload_n hx hb dX0_bell_43 rfl (lv_at hl 2 rfl) ?_
        cases g6 : fX4_add σ 0 a1 a2 with
        | none => rw [g6] at h; cases h
        | some r7 =>
          rw [g6, Option.bind_some] at h
          refine x_backv (va_runV (C := RX4) (b := (xa E (xwc 0 0))) (As := [.int a1, .int a2]) (rest := []) F.1 (mX4_add l E σ 0 (by decide) a1 a2 r7 g6) (cwV 2 hts (lw_V q529 q530 q531 q106 q532) rfl rfl rfl (by decide +kernel) ⟨Nat.le_of_ble_eq_true rfl, Nat.le_of_ble_eq_true rfl⟩) ⟨xPc.blind, va_recv hK (xO_W hW 0 (by decide)) (ci := 4) (q0 := 0) rfl rfl, F.pre hW hS (.ref (xa E (xwc 0 0)) :: [.int a1, .int a2])⟩ rfl rfl hl.1 rfl (lv_room (Nat.le_of_ble_eq_true rfl)) dX0_bell_44 ⟨Nat.le_refl _, Nat.le_refl _⟩) hS (fun H locs hW hS => ?_)
          refine lv_aload_n hx hb dX0_bell_47 rfl (lv_at hl 0 rfl) ?_
          refine va_get (D := xD E) (ci := 0) (v := .ref (xa E (xwc 0 0))) (C := RX0) (T := TX0) (N := 15) hx hb hts in_X0 hown hK (xO_X hW) 0 rfl rfl 3 (by decide) (hts _ q416) (fun _ h9 => h9) rfl dX0_bell_48 ?_
          refine va_getN (D := xD E) (ci := 4) (v := .int (r7 0 2)) (C := RX4) (T := TX4) (N := 8) hx hb hts in_X4 hown hK (xO_W hW 0 (by decide)) 0 rfl rfl 3 (by decide) (va_Nw.use rfl (F.2.1.2.1 _ q241 rfl)) (fun _ h9 => h9) rfl dX0_bell_51 ?_
          refine lv_iconst (v := 1) hx hb dX0_bell_54 (by decide) ?_
          refine lv_isub hx hb dX0_bell_55 ?_
          obtain ⟨h1, h2⟩ := Prod.mk.inj (Option.some.inj h); subst h1; subst h2
          exact x_iret F hr hlk hW hS dX0_bell_56
      · rw [if_pos c5] at h
        refine lv_aload_n hx hb dX0_bell_32 rfl (lv_at hl 0 rfl) ?_
        refine lv_iconst (v := 1) hx hb dX0_bell_33 (by decide) ?_
        cases g8 : fX0_finding σ 1 with
        | none => rw [g8] at h; cases h
        | some r9 =>
          rw [g8, Option.bind_some] at h
          refine x_backi (va_runV (C := RX0) (b := (xa E 0)) (As := [.int 1]) (rest := []) F.1 (mX0_finding l E σ 1 r9.1 r9.2 g8) (cwV 1 hts (lw_V q469 q471 qs2 q99 q472) rfl rfl rfl (by decide +kernel) ⟨Nat.le_of_ble_eq_true rfl, Nat.le_of_ble_eq_true rfl⟩) ⟨xPc.blind, va_recv hK (xO_X hW) (ci := 0) (q0 := 0) rfl rfl, F.pre hW hS (.ref (xa E 0) :: [.int 1])⟩ rfl rfl hl.1 rfl (lv_room (Nat.le_of_ble_eq_true rfl)) dX0_bell_34 ⟨Nat.le_refl _, Nat.le_refl _⟩) hS (fun H locs hW hS => ?_)
          obtain ⟨h1, h2⟩ := Prod.mk.inj (Option.some.inj h); subst h1; subst h2
          exact x_iret F hr hlk hW hS dX0_bell_37
    · rw [if_pos c4] at h
      refine lv_aload_n hx hb dX0_bell_14 rfl (lv_at hl 0 rfl) ?_
      refine lv_iconst (v := 0) hx hb dX0_bell_15 (by decide) ?_
      cases g10 : fX0_finding σ 0 with
      | none => rw [g10] at h; cases h
      | some r11 =>
        rw [g10, Option.bind_some] at h
        refine x_backi (va_runV (C := RX0) (b := (xa E 0)) (As := [.int 0]) (rest := []) F.1 (mX0_finding l E σ 0 r11.1 r11.2 g10) (cwV 1 hts (lw_V q469 q471 qs2 q99 q472) rfl rfl rfl (by decide +kernel) ⟨Nat.le_of_ble_eq_true rfl, Nat.le_of_ble_eq_true rfl⟩) ⟨xPc.blind, va_recv hK (xO_X hW) (ci := 0) (q0 := 0) rfl rfl, F.pre hW hS (.ref (xa E 0) :: [.int 0])⟩ rfl rfl hl.1 rfl (lv_room (Nat.le_of_ble_eq_true rfl)) dX0_bell_16 ⟨Nat.le_refl _, Nat.le_refl _⟩) hS (fun H locs hW hS => ?_)
        obtain ⟨h1, h2⟩ := Prod.mk.inj (Option.some.inj h); subst h1; subst h2
        exact x_iret F hr hlk hW hS dX0_bell_19
/-! WildBells.of(II)I -/
def fX0_of (σ : xM) (a1 : Int32) (a2 : Int32) : Option (Int32 × xM) :=
  if (fX0_isBell σ a1) = 0 then ((fX0_finding σ 0).bind (fun r27 => some (r27.1, r27.2))) else (if a2 = 0 then ((fX0_bellOf σ a1).bind (fun r4 => some ((xknd (r4 / 8)), σ))) else (if a2 = 1 then (if xin a2 5 then (if xin a1 8 then (some ((σ 0 (146 + 5 * a1.toNatClampNeg + a2.toNatClampNeg)), σ)) else none) else none) else (if a2 = 2 then (if xin a2 5 then (if xin a1 8 then (some ((σ 0 (146 + 5 * a1.toNatClampNeg + a2.toNatClampNeg)), σ)) else none) else none) else (if a2 = 3 then (if xin a2 5 then (if xin a1 8 then (some ((σ 0 (146 + 5 * a1.toNatClampNeg + a2.toNatClampNeg)), σ)) else none) else none) else (if a2 = 4 then (if xin a2 5 then (if xin a1 8 then (some ((σ 0 (146 + 5 * a1.toNatClampNeg + a2.toNatClampNeg)), σ)) else none) else none) else (if a2 = 5 then ((fX0_nextOf σ a1).bind (fun r19 => some (r19, σ))) else (if a2 = 6 then (if xin a1 8 then ((fX0_worthOf σ a1 (σ 0 (146 + 5 * a1.toNatClampNeg + 1))).bind (fun r23 => some (r23, σ))) else none) else ((fX0_finding σ 0).bind (fun r25 => some (r25.1, r25.2))))))))))
set_option maxHeartbeats 4000000 in
theorem mX0_of (l : Launch) (E : xE) (σ : xM) (a1 : Int32) (a2 : Int32) (r : Int32) (σ' : xM) (h : fX0_of σ a1 a2 = some (r, σ')) : Met l yX0_of (ws_ yX0_of cX0_of 3 (some .int)) ({ frames := 13, cells := 0, slots := 0, locals := 283 } : Room) (xPc E σ [.ref (xa E 0), .int a1, .int a2]) (xQc E (.returned (some (.int r))) σ') 0 0 (xA E) := by
  refine x_of (C := RX0) (n := "of") (d := "(II)I") (r := (some .int)) (by decide) rfl (by first | decide | exact Nat.le_of_ble_eq_true rfl) ?_
  intro p e s m below meth c ls F hr hlk hW hS hl
  have hl : lv_has ls 3 [(0, .ref (xa E 0)), (1, .int a1), (2, .int a2)] := hl
  obtain ⟨hx, hb, hml, hown, hts⟩ := id F.1
  have hK := F.2.1.1
  unfold fX0_of at h
  refine lv_aload_n hx hb dX0_of_0 rfl (lv_at hl 0 rfl) ?_
  refine lv_iload_n hx hb dX0_of_1 rfl (lv_at hl 1 rfl) ?_
  refine x_backi (va_runV (C := RX0) (b := (xa E 0)) (As := [.int a1]) (rest := []) F.1 (mX0_isBell l E σ a1) (cwV 1 hts (lw_V q537 q539 qs3 q99 q540) rfl rfl rfl (by decide +kernel) ⟨Nat.le_of_ble_eq_true rfl, Nat.le_of_ble_eq_true rfl⟩) ⟨xPc.blind, va_recv hK (xO_X hW) (ci := 0) (q0 := 0) rfl rfl, F.pre hW hS (.ref (xa E 0) :: [.int a1])⟩ rfl rfl hl.1 rfl (lv_room (Nat.le_of_ble_eq_true rfl)) dX0_of_2 ⟨Nat.le_refl _, Nat.le_refl _⟩) hS (fun H locs hW hS => ?_)
  refine lv_if_ne (tgt := 14) hx hb dX0_of_5 (by decide) (fun c1 => ?_) (fun c1 => ?_)
  · rw [if_neg c1] at h
    refine lv_iload_n hx hb dX0_of_14 rfl (lv_at hl 2 rfl) ?_
    by_cases c2 : a2 = 0
    · rw [if_pos c2] at h
      refine lv_tableIn (tgt := 56) hx hb dX0_of_15 (by rw [c2]; decide) (by rw [c2]; decide) (by rw [c2]; rfl) (by decide) ?_
      refine lv_aload_n hx hb dX0_of_56 rfl (lv_at hl 0 rfl) ?_
      refine lv_iload_n hx hb dX0_of_57 rfl (lv_at hl 1 rfl) ?_
      cases g3 : fX0_bellOf σ a1 with
      | none => rw [g3] at h; cases h
      | some r4 =>
        rw [g3, Option.bind_some] at h
        refine x_backr (va_runV (C := RX0) (b := (xa E 0)) (As := [.int a1]) (rest := []) F.1 (mX0_bellOf l E σ a1 r4 g3) (cwV 1 hts (lw_V q541 q543 qs4 q99 q544) rfl rfl rfl (by decide +kernel) ⟨Nat.le_of_ble_eq_true rfl, Nat.le_of_ble_eq_true rfl⟩) ⟨xPc.blind, va_recv hK (xO_X hW) (ci := 0) (q0 := 0) rfl rfl, F.pre hW hS (.ref (xa E 0) :: [.int a1])⟩ rfl rfl hl.1 rfl (lv_room (Nat.le_of_ble_eq_true rfl)) dX0_of_58 ⟨Nat.le_refl _, Nat.le_refl _⟩) hS (fun H locs hW hS => ?_)
        refine x_backi (x_runKind (rest := []) F (Nat.le_of_ble_eq_true rfl) (Nat.le_of_ble_eq_true rfl) (x_bo g3) hW hS hl.1 (Nat.le_of_ble_eq_true rfl) dX0_of_61 ⟨Nat.le_refl _, Nat.le_refl _⟩) hS (fun H locs hW hS => ?_)
        obtain ⟨h1, h2⟩ := Prod.mk.inj (Option.some.inj h); subst h1; subst h2
        exact x_iret F hr hlk hW hS dX0_of_64
    · rw [if_neg c2] at h
      by_cases c5 : a2 = 1
      · rw [if_pos c5] at h
        refine lv_tableIn (tgt := 65) hx hb dX0_of_15 (by rw [c5]; decide) (by rw [c5]; decide) (by rw [c5]; rfl) (by decide) ?_
        refine lv_aload_n hx hb dX0_of_65 rfl (lv_at hl 0 rfl) ?_
        refine va_get (D := xD E) (ci := 0) (v := .ref (xa E (xwc 0 0))) (C := RX0) (T := TX0) (N := 15) hx hb hts in_X0 hown hK (xO_X hW) 0 rfl rfl 3 (by decide) (hts _ q416) (fun _ h9 => h9) rfl dX0_of_66 ?_
        refine va_getN (D := xD E) (ci := 4) (v := .ref (xa E (xwc 0 5))) (C := RX4) (T := TX4) (N := 8) hx hb hts in_X4 hown hK (xO_W hW 0 (by decide)) 0 rfl rfl 4 (by decide) (va_Nw.use rfl (F.2.1.2.1 _ q244 rfl)) (fun _ h9 => h9) rfl dX0_of_69 ?_
        refine lv_iload_n hx hb dX0_of_72 rfl (lv_at hl 2 rfl) ?_
        by_cases hi6 : xin a2 5
        · rw [if_pos hi6] at h
          refine x_aald (g := fun j => xa E (xwc 0 (6 + j))) (j := (a2.toNatClampNeg)) F 4 4 5 (xR_5 hW 0 (by decide)) rfl rfl hi6 rfl dX0_of_73 ?_
          refine lv_iload_n hx hb dX0_of_74 rfl (lv_at hl 1 rfl) ?_
          by_cases hi7 : xin a1 8
          · rw [if_pos hi7] at h
            refine va_iald hx hb hK (xV_6 hW 0 a2.toNatClampNeg (by decide) (x_lt hi6)) 0 0 rfl rfl hi7 dX0_of_75 ?_
            obtain ⟨h1, h2⟩ := Prod.mk.inj (Option.some.inj h); subst h1; subst h2
            exact x_iret F hr hlk hW hS dX0_of_76
          · rw [if_neg hi7] at h; cases h
        · rw [if_neg hi6] at h; cases h
      · rw [if_neg c5] at h
        by_cases c8 : a2 = 2
        · rw [if_pos c8] at h
          refine lv_tableIn (tgt := 65) hx hb dX0_of_15 (by rw [c8]; decide) (by rw [c8]; decide) (by rw [c8]; rfl) (by decide) ?_
          refine lv_aload_n hx hb dX0_of_65 rfl (lv_at hl 0 rfl) ?_
          refine va_get (D := xD E) (ci := 0) (v := .ref (xa E (xwc 0 0))) (C := RX0) (T := TX0) (N := 15) hx hb hts in_X0 hown hK (xO_X hW) 0 rfl rfl 3 (by decide) (hts _ q416) (fun _ h9 => h9) rfl dX0_of_66 ?_
          refine va_getN (D := xD E) (ci := 4) (v := .ref (xa E (xwc 0 5))) (C := RX4) (T := TX4) (N := 8) hx hb hts in_X4 hown hK (xO_W hW 0 (by decide)) 0 rfl rfl 4 (by decide) (va_Nw.use rfl (F.2.1.2.1 _ q244 rfl)) (fun _ h9 => h9) rfl dX0_of_69 ?_
          refine lv_iload_n hx hb dX0_of_72 rfl (lv_at hl 2 rfl) ?_
          by_cases hi9 : xin a2 5
          · rw [if_pos hi9] at h
            refine x_aald (g := fun j => xa E (xwc 0 (6 + j))) (j := (a2.toNatClampNeg)) F 4 4 5 (xR_5 hW 0 (by decide)) rfl rfl hi9 rfl dX0_of_73 ?_
            refine lv_iload_n hx hb dX0_of_74 rfl (lv_at hl 1 rfl) ?_
            by_cases hi10 : xin a1 8
            · rw [if_pos hi10] at h
              refine va_iald hx hb hK (xV_6 hW 0 a2.toNatClampNeg (by decide) (x_lt hi9)) 0 0 rfl rfl hi10 dX0_of_75 ?_
              obtain ⟨h1, h2⟩ := Prod.mk.inj (Option.some.inj h); subst h1; subst h2
              exact x_iret F hr hlk hW hS dX0_of_76
            · rw [if_neg hi10] at h; cases h
          · rw [if_neg hi9] at h; cases h
        · rw [if_neg c8] at h
          by_cases c11 : a2 = 3
          · rw [if_pos c11] at h
            refine lv_tableIn (tgt := 65) hx hb dX0_of_15 (by rw [c11]; decide) (by rw [c11]; decide) (by rw [c11]; rfl) (by decide) ?_
            refine lv_aload_n hx hb dX0_of_65 rfl (lv_at hl 0 rfl) ?_
            refine va_get (D := xD E) (ci := 0) (v := .ref (xa E (xwc 0 0))) (C := RX0) (T := TX0) (N := 15) hx hb hts in_X0 hown hK (xO_X hW) 0 rfl rfl 3 (by decide) (hts _ q416) (fun _ h9 => h9) rfl dX0_of_66 ?_
            refine va_getN (D := xD E) (ci := 4) (v := .ref (xa E (xwc 0 5))) (C := RX4) (T := TX4) (N := 8) hx hb hts in_X4 hown hK (xO_W hW 0 (by decide)) 0 rfl rfl 4 (by decide) (va_Nw.use rfl (F.2.1.2.1 _ q244 rfl)) (fun _ h9 => h9) rfl dX0_of_69 ?_
            refine lv_iload_n hx hb dX0_of_72 rfl (lv_at hl 2 rfl) ?_
            by_cases hi12 : xin a2 5
            · rw [if_pos hi12] at h
              refine x_aald (g := fun j => xa E (xwc 0 (6 + j))) (j := (a2.toNatClampNeg)) F 4 4 5 (xR_5 hW 0 (by decide)) rfl rfl hi12 rfl dX0_of_73 ?_
              refine lv_iload_n hx hb dX0_of_74 rfl (lv_at hl 1 rfl) ?_
              by_cases hi13 : xin a1 8
              · rw [if_pos hi13] at h
                refine va_iald hx hb hK (xV_6 hW 0 a2.toNatClampNeg (by decide) (x_lt hi12)) 0 0 rfl rfl hi13 dX0_of_75 ?_
                obtain ⟨h1, h2⟩ := Prod.mk.inj (Option.some.inj h); subst h1; subst h2
                exact x_iret F hr hlk hW hS dX0_of_76
              · rw [if_neg hi13] at h; cases h
            · rw [if_neg hi12] at h; cases h
          · rw [if_neg c11] at h
            by_cases c14 : a2 = 4
            · rw [if_pos c14] at h
              refine lv_tableIn (tgt := 65) hx hb dX0_of_15 (by rw [c14]; decide) (by rw [c14]; decide) (by rw [c14]; rfl) (by decide) ?_
              refine lv_aload_n hx hb dX0_of_65 rfl (lv_at hl 0 rfl) ?_
              refine va_get (D := xD E) (ci := 0) (v := .ref (xa E (xwc 0 0))) (C := RX0) (T := TX0) (N := 15) hx hb hts in_X0 hown hK (xO_X hW) 0 rfl rfl 3 (by decide) (hts _ q416) (fun _ h9 => h9) rfl dX0_of_66 ?_
              refine va_getN (D := xD E) (ci := 4) (v := .ref (xa E (xwc 0 5))) (C := RX4) (T := TX4) (N := 8) hx hb hts in_X4 hown hK (xO_W hW 0 (by decide)) 0 rfl rfl 4 (by decide) (va_Nw.use rfl (F.2.1.2.1 _ q244 rfl)) (fun _ h9 => h9) rfl dX0_of_69 ?_
              refine lv_iload_n hx hb dX0_of_72 rfl (lv_at hl 2 rfl) ?_
              by_cases hi15 : xin a2 5
              · rw [if_pos hi15] at h
                refine x_aald (g := fun j => xa E (xwc 0 (6 + j))) (j := (a2.toNatClampNeg)) F 4 4 5 (xR_5 hW 0 (by decide)) rfl rfl hi15 rfl dX0_of_73 ?_
                refine lv_iload_n hx hb dX0_of_74 rfl (lv_at hl 1 rfl) ?_
                by_cases hi16 : xin a1 8
                · rw [if_pos hi16] at h
                  refine va_iald hx hb hK (xV_6 hW 0 a2.toNatClampNeg (by decide) (x_lt hi15)) 0 0 rfl rfl hi16 dX0_of_75 ?_
                  obtain ⟨h1, h2⟩ := Prod.mk.inj (Option.some.inj h); subst h1; subst h2
                  exact x_iret F hr hlk hW hS dX0_of_76
                · rw [if_neg hi16] at h; cases h
              · rw [if_neg hi15] at h; cases h
            · rw [if_neg c14] at h
              by_cases c17 : a2 = 5
              · rw [if_pos c17] at h
                refine lv_tableIn (tgt := 77) hx hb dX0_of_15 (by rw [c17]; decide) (by rw [c17]; decide) (by rw [c17]; rfl) (by decide) ?_
                refine lv_aload_n hx hb dX0_of_77 rfl (lv_at hl 0 rfl) ?_
                refine lv_iload_n hx hb dX0_of_78 rfl (lv_at hl 1 rfl) ?_
                cases g18 : fX0_nextOf σ a1 with
                | none => rw [g18] at h; cases h
                | some r19 =>
                  rw [g18, Option.bind_some] at h
                  refine x_backi (va_runV (C := RX0) (b := (xa E 0)) (As := [.int a1]) (rest := []) F.1 (mX0_nextOf l E σ a1 r19 g18) (cwV 1 hts (lw_V q574 q576 qs5 q99 q577) rfl rfl rfl (by decide +kernel) ⟨Nat.le_of_ble_eq_true rfl, Nat.le_of_ble_eq_true rfl⟩) ⟨xPc.blind, va_recv hK (xO_X hW) (ci := 0) (q0 := 0) rfl rfl, F.pre hW hS (.ref (xa E 0) :: [.int a1])⟩ rfl rfl hl.1 rfl (lv_room (Nat.le_of_ble_eq_true rfl)) dX0_of_79 ⟨Nat.le_refl _, Nat.le_refl _⟩) hS (fun H locs hW hS => ?_)
                  obtain ⟨h1, h2⟩ := Prod.mk.inj (Option.some.inj h); subst h1; subst h2
                  exact x_iret F hr hlk hW hS dX0_of_82
              · rw [if_neg c17] at h
                by_cases c20 : a2 = 6
                · rw [if_pos c20] at h
                  refine lv_tableIn (tgt := 83) hx hb dX0_of_15 (by rw [c20]; decide) (by rw [c20]; decide) (by rw [c20]; rfl) (by decide) ?_
                  refine lv_aload_n hx hb dX0_of_83 rfl (lv_at hl 0 rfl) ?_
                  refine lv_iload_n hx hb dX0_of_84 rfl (lv_at hl 1 rfl) ?_
                  refine lv_aload_n hx hb dX0_of_85 rfl (lv_at hl 0 rfl) ?_
                  refine va_get (D := xD E) (ci := 0) (v := .ref (xa E (xwc 0 0))) (C := RX0) (T := TX0) (N := 15) hx hb hts in_X0 hown hK (xO_X hW) 0 rfl rfl 3 (by decide) (hts _ q416) (fun _ h9 => h9) rfl dX0_of_86 ?_
                  refine va_getN (D := xD E) (ci := 4) (v := .ref (xa E (xwc 0 5))) (C := RX4) (T := TX4) (N := 8) hx hb hts in_X4 hown hK (xO_W hW 0 (by decide)) 0 rfl rfl 4 (by decide) (va_Nw.use rfl (F.2.1.2.1 _ q244 rfl)) (fun _ h9 => h9) rfl dX0_of_89 ?_
                  refine lv_iconst (v := 1) hx hb dX0_of_92 (by decide) ?_
                  refine x_aald (g := fun j => xa E (xwc 0 (6 + j))) (j := 1) F 4 4 5 (xR_5 hW 0 (by decide)) rfl rfl (x_lit (by decide)) (by decide) dX0_of_93 ?_
                  refine lv_iload_n hx hb dX0_of_94 rfl (lv_at hl 1 rfl) ?_
                  by_cases hi21 : xin a1 8
                  · rw [if_pos hi21] at h
                    refine va_iald hx hb hK (xV_6 hW 0 1 (by decide) (by decide)) 0 0 rfl rfl hi21 dX0_of_95 ?_
                    cases g22 : fX0_worthOf σ a1 (σ 0 (146 + 5 * a1.toNatClampNeg + 1)) with
                    | none => rw [g22] at h; cases h
                    | some r23 =>
                      rw [g22, Option.bind_some] at h
                      refine x_backi (va_runV (C := RX0) (b := (xa E 0)) (As := [.int a1, .int (σ 0 (146 + 5 * a1.toNatClampNeg + 1))]) (rest := []) F.1 (mX0_worthOf l E σ a1 (σ 0 (146 + 5 * a1.toNatClampNeg + 1)) r23 g22) (cwV 2 hts (lw_V q578 q580 qs6 q99 q581) rfl rfl rfl (by decide +kernel) ⟨Nat.le_of_ble_eq_true rfl, Nat.le_of_ble_eq_true rfl⟩) ⟨xPc.blind, va_recv hK (xO_X hW) (ci := 0) (q0 := 0) rfl rfl, F.pre hW hS (.ref (xa E 0) :: [.int a1, .int (σ 0 (146 + 5 * a1.toNatClampNeg + 1))])⟩ rfl rfl hl.1 rfl (lv_room (Nat.le_of_ble_eq_true rfl)) dX0_of_96 ⟨Nat.le_refl _, Nat.le_refl _⟩) hS (fun H locs hW hS => ?_)
                      obtain ⟨h1, h2⟩ := Prod.mk.inj (Option.some.inj h); subst h1; subst h2
                      exact x_iret F hr hlk hW hS dX0_of_99
                  · rw [if_neg hi21] at h; cases h
                · rw [if_neg c20] at h
                  refine lv_tableOut (tgt := 100) hx hb dX0_of_15 (by have := lv_neT (a := 0) c2 rfl; have := lv_neT (a := 1) c5 rfl; have := lv_neT (a := 2) c8 rfl; have := lv_neT (a := 3) c11 rfl; have := lv_neT (a := 4) c14 rfl; have := lv_neT (a := 5) c17 rfl; have := lv_neT (a := 6) c20 rfl; omega) (by decide) ?_
                  refine lv_aload_n hx hb dX0_of_100 rfl (lv_at hl 0 rfl) ?_
                  refine lv_iconst (v := 0) hx hb dX0_of_101 (by decide) ?_
                  cases g24 : fX0_finding σ 0 with
                  | none => rw [g24] at h; cases h
                  | some r25 =>
                    rw [g24, Option.bind_some] at h
                    refine x_backi (va_runV (C := RX0) (b := (xa E 0)) (As := [.int 0]) (rest := []) F.1 (mX0_finding l E σ 0 r25.1 r25.2 g24) (cwV 1 hts (lw_V q469 q471 qs2 q99 q472) rfl rfl rfl (by decide +kernel) ⟨Nat.le_of_ble_eq_true rfl, Nat.le_of_ble_eq_true rfl⟩) ⟨xPc.blind, va_recv hK (xO_X hW) (ci := 0) (q0 := 0) rfl rfl, F.pre hW hS (.ref (xa E 0) :: [.int 0])⟩ rfl rfl hl.1 rfl (lv_room (Nat.le_of_ble_eq_true rfl)) dX0_of_102 ⟨Nat.le_refl _, Nat.le_refl _⟩) hS (fun H locs hW hS => ?_)
                    obtain ⟨h1, h2⟩ := Prod.mk.inj (Option.some.inj h); subst h1; subst h2
                    exact x_iret F hr hlk hW hS dX0_of_105
  · rw [if_pos c1] at h
    refine lv_aload_n hx hb dX0_of_8 rfl (lv_at hl 0 rfl) ?_
    refine lv_iconst (v := 0) hx hb dX0_of_9 (by decide) ?_
    cases g26 : fX0_finding σ 0 with
    | none => rw [g26] at h; cases h
    | some r27 =>
      rw [g26, Option.bind_some] at h
      refine x_backi (va_runV (C := RX0) (b := (xa E 0)) (As := [.int 0]) (rest := []) F.1 (mX0_finding l E σ 0 r27.1 r27.2 g26) (cwV 1 hts (lw_V q469 q471 qs2 q99 q472) rfl rfl rfl (by decide +kernel) ⟨Nat.le_of_ble_eq_true rfl, Nat.le_of_ble_eq_true rfl⟩) ⟨xPc.blind, va_recv hK (xO_X hW) (ci := 0) (q0 := 0) rfl rfl, F.pre hW hS (.ref (xa E 0) :: [.int 0])⟩ rfl rfl hl.1 rfl (lv_room (Nat.le_of_ble_eq_true rfl)) dX0_of_10 ⟨Nat.le_refl _, Nat.le_refl _⟩) hS (fun H locs hW hS => ?_)
      obtain ⟨h1, h2⟩ := Prod.mk.inj (Option.some.inj h); subst h1; subst h2
      exact x_iret F hr hlk hW hS dX0_of_13
/-! WildBells.change(III)I -/
def fX0_change (σ : xM) (a1 : Int32) (a2 : Int32) (a3 : Int32) : Option (Int32 × xM) :=
  if (fX0_isBell σ a1) = 0 then ((fX0_finding σ 0).bind (fun r3 => some (r3.1, r3.2))) else (if (fX0_isTold a2 a3) = 0 then ((fX0_finding σ 0).bind (fun r10 => some (r10.1, r10.2))) else (if xin a2 5 then (if xin a1 8 then (if xin a2 5 then (if xin a1 8 then (some ((σ 0 (146 + 5 * a1.toNatClampNeg + a2.toNatClampNeg)), (xup σ 0 (146 + 5 * a1.toNatClampNeg + a2.toNatClampNeg) a3))) else none) else none) else none) else none))
set_option maxHeartbeats 4000000 in
theorem mX0_change (l : Launch) (E : xE) (σ : xM) (a1 : Int32) (a2 : Int32) (a3 : Int32) (r : Int32) (σ' : xM) (h : fX0_change σ a1 a2 a3 = some (r, σ')) : Met l yX0_change (ws_ yX0_change cX0_change 5 (some .int)) ({ frames := 3, cells := 0, slots := 0, locals := 63 } : Room) (xPc E σ [.ref (xa E 0), .int a1, .int a2, .int a3]) (xQc E (.returned (some (.int r))) σ') 0 0 (xA E) := by
  refine x_of (C := RX0) (n := "change") (d := "(III)I") (r := (some .int)) (by decide) rfl (by first | decide | exact Nat.le_of_ble_eq_true rfl) ?_
  intro p e s m below meth c ls F hr hlk hW hS hl
  have hl : lv_has ls 5 [(0, .ref (xa E 0)), (1, .int a1), (2, .int a2), (3, .int a3)] := hl
  obtain ⟨hx, hb, hml, hown, hts⟩ := id F.1
  have hK := F.2.1.1
  unfold fX0_change at h
  refine lv_aload_n hx hb dX0_change_0 rfl (lv_at hl 0 rfl) ?_
  refine lv_iload_n hx hb dX0_change_1 rfl (lv_at hl 1 rfl) ?_
  refine x_backi (va_runV (C := RX0) (b := (xa E 0)) (As := [.int a1]) (rest := []) F.1 (mX0_isBell l E σ a1) (cwV 1 hts (lw_V q537 q539 qs3 q99 q540) rfl rfl rfl (by decide +kernel) ⟨Nat.le_of_ble_eq_true rfl, Nat.le_of_ble_eq_true rfl⟩) ⟨xPc.blind, va_recv hK (xO_X hW) (ci := 0) (q0 := 0) rfl rfl, F.pre hW hS (.ref (xa E 0) :: [.int a1])⟩ rfl rfl hl.1 rfl (lv_room (Nat.le_of_ble_eq_true rfl)) dX0_change_2 ⟨Nat.le_refl _, Nat.le_refl _⟩) hS (fun H locs hW hS => ?_)
  refine lv_if_eq (tgt := 16) hx hb dX0_change_5 (by decide) (fun c1 => ?_) (fun c1 => ?_)
  · rw [if_pos c1] at h
    refine lv_aload_n hx hb dX0_change_16 rfl (lv_at hl 0 rfl) ?_
    refine lv_iconst (v := 0) hx hb dX0_change_17 (by decide) ?_
    cases g2 : fX0_finding σ 0 with
    | none => rw [g2] at h; cases h
    | some r3 =>
      rw [g2, Option.bind_some] at h
      refine x_backi (va_runV (C := RX0) (b := (xa E 0)) (As := [.int 0]) (rest := []) F.1 (mX0_finding l E σ 0 r3.1 r3.2 g2) (cwV 1 hts (lw_V q469 q471 qs2 q99 q472) rfl rfl rfl (by decide +kernel) ⟨Nat.le_of_ble_eq_true rfl, Nat.le_of_ble_eq_true rfl⟩) ⟨xPc.blind, va_recv hK (xO_X hW) (ci := 0) (q0 := 0) rfl rfl, F.pre hW hS (.ref (xa E 0) :: [.int 0])⟩ rfl rfl hl.1 rfl (lv_room (Nat.le_of_ble_eq_true rfl)) dX0_change_18 ⟨Nat.le_refl _, Nat.le_refl _⟩) hS (fun H locs hW hS => ?_)
      obtain ⟨h1, h2⟩ := Prod.mk.inj (Option.some.inj h); subst h1; subst h2
      exact x_iret F hr hlk hW hS dX0_change_21
  · rw [if_neg c1] at h
    refine lv_iload_n hx hb dX0_change_8 rfl (lv_at hl 2 rfl) ?_
    refine lv_iload_n hx hb dX0_change_9 rfl (lv_at hl 3 rfl) ?_
    refine x_backi (va_runS (As := [.int a2, .int a3]) (rest := []) F.1 (mX0_isTold l E σ a2 a3) (va_cwS 2 hts (lw_S q686 q687 q99 q688) rfl rfl rfl (by decide +kernel) ⟨Nat.le_of_ble_eq_true rfl, Nat.le_of_ble_eq_true rfl⟩) ⟨xPc.blind, F.pre hW hS [.int a2, .int a3]⟩ rfl rfl hl.1 rfl (lv_room (Nat.le_of_ble_eq_true rfl)) dX0_change_10 ⟨Nat.le_refl _, Nat.le_refl _⟩) hS (fun H locs hW hS => ?_)
    refine lv_if_ne (tgt := 22) hx hb dX0_change_13 (by decide) (fun c4 => ?_) (fun c4 => ?_)
    · rw [if_neg c4] at h
      refine lv_aload_n hx hb dX0_change_22 rfl (lv_at hl 0 rfl) ?_
      refine va_get (D := xD E) (ci := 0) (v := .ref (xa E (xwc 0 0))) (C := RX0) (T := TX0) (N := 15) hx hb hts in_X0 hown hK (xO_X hW) 0 rfl rfl 3 (by decide) (hts _ q416) (fun _ h9 => h9) rfl dX0_change_23 ?_
      refine va_getN (D := xD E) (ci := 4) (v := .ref (xa E (xwc 0 5))) (C := RX4) (T := TX4) (N := 8) hx hb hts in_X4 hown hK (xO_W hW 0 (by decide)) 0 rfl rfl 4 (by decide) (va_Nw.use rfl (F.2.1.2.1 _ q244 rfl)) (fun _ h9 => h9) rfl dX0_change_26 ?_
      refine lv_iload_n hx hb dX0_change_29 rfl (lv_at hl 2 rfl) ?_
      by_cases hi5 : xin a2 5
      · rw [if_pos hi5] at h
        refine x_aald (g := fun j => xa E (xwc 0 (6 + j))) (j := (a2.toNatClampNeg)) F 4 4 5 (xR_5 hW 0 (by decide)) rfl rfl hi5 rfl dX0_change_30 ?_
        refine lv_iload_n hx hb dX0_change_31 rfl (lv_at hl 1 rfl) ?_
        by_cases hi6 : xin a1 8
        · rw [if_pos hi6] at h
          refine va_iald hx hb hK (xV_6 hW 0 a2.toNatClampNeg (by decide) (x_lt hi5)) 0 0 rfl rfl hi6 dX0_change_32 ?_
          refine lv_istore (lv' := [(4, .int (σ 0 (146 + 5 * a1.toNatClampNeg + a2.toNatClampNeg))), (0, .ref (xa E 0)), (1, .int a1), (2, .int a2), (3, .int a3)]) hx hb dX0_change_33 hl (by decide) rfl (fun ls hl => ?_)
          refine lv_aload_n hx hb dX0_change_35 rfl (lv_at hl 1 rfl) ?_
          refine va_get (D := xD E) (ci := 0) (v := .ref (xa E (xwc 0 0))) (C := RX0) (T := TX0) (N := 15) hx hb hts in_X0 hown hK (xO_X hW) 0 rfl rfl 3 (by decide) (hts _ q416) (fun _ h9 => h9) rfl dX0_change_36 ?_
          refine va_getN (D := xD E) (ci := 4) (v := .ref (xa E (xwc 0 5))) (C := RX4) (T := TX4) (N := 8) hx hb hts in_X4 hown hK (xO_W hW 0 (by decide)) 0 rfl rfl 4 (by decide) (va_Nw.use rfl (F.2.1.2.1 _ q244 rfl)) (fun _ h9 => h9) rfl dX0_change_39 ?_
          refine lv_iload_n hx hb dX0_change_42 rfl (lv_at hl 3 rfl) ?_
          by_cases hi7 : xin a2 5
          · rw [if_pos hi7] at h
            refine x_aald (g := fun j => xa E (xwc 0 (6 + j))) (j := (a2.toNatClampNeg)) F 4 4 5 (xR_5 hW 0 (by decide)) rfl rfl hi7 rfl dX0_change_43 ?_
            refine lv_iload_n hx hb dX0_change_44 rfl (lv_at hl 2 rfl) ?_
            refine lv_iload_n hx hb dX0_change_45 rfl (lv_at hl 4 rfl) ?_
            by_cases hi8 : xin a1 8
            · rw [if_pos hi8] at h
              refine x_iast F hW hS (xwc 0 (6 + a2.toNatClampNeg)) 8 0 (fun j => 146 + 5 * j + a2.toNatClampNeg) (xw_lt 0 (by decide) _ (Nat.lt_of_lt_of_le (Nat.add_lt_add_left (x_lt hi7) 6 : 6 + a2.toNatClampNeg < 6 + 5) (by decide))) (xw_6 0 (by decide) a2.toNatClampNeg (x_lt hi7)).1 (xw_6 0 (by decide) a2.toNatClampNeg (x_lt hi7)).2 (by decide) hi8 dX0_change_46 (fun H locs hW hS => ?_)
              refine lv_iload hx hb dX0_change_47 (lv_at hl 0 rfl) ?_
              obtain ⟨h1, h2⟩ := Prod.mk.inj (Option.some.inj h); subst h1; subst h2
              exact x_iret F hr hlk hW hS dX0_change_49
            · rw [if_neg hi8] at h; cases h
          · rw [if_neg hi7] at h; cases h
        · rw [if_neg hi6] at h; cases h
      · rw [if_neg hi5] at h; cases h
    · rw [if_pos c4] at h
      refine lv_aload_n hx hb dX0_change_16 rfl (lv_at hl 0 rfl) ?_
      refine lv_iconst (v := 0) hx hb dX0_change_17 (by decide) ?_
      cases g9 : fX0_finding σ 0 with
      | none => rw [g9] at h; cases h
      | some r10 =>
        rw [g9, Option.bind_some] at h
        refine x_backi (va_runV (C := RX0) (b := (xa E 0)) (As := [.int 0]) (rest := []) F.1 (mX0_finding l E σ 0 r10.1 r10.2 g9) (cwV 1 hts (lw_V q469 q471 qs2 q99 q472) rfl rfl rfl (by decide +kernel) ⟨Nat.le_of_ble_eq_true rfl, Nat.le_of_ble_eq_true rfl⟩) ⟨xPc.blind, va_recv hK (xO_X hW) (ci := 0) (q0 := 0) rfl rfl, F.pre hW hS (.ref (xa E 0) :: [.int 0])⟩ rfl rfl hl.1 rfl (lv_room (Nat.le_of_ble_eq_true rfl)) dX0_change_18 ⟨Nat.le_refl _, Nat.le_refl _⟩) hS (fun H locs hW hS => ?_)
        obtain ⟨h1, h2⟩ := Prod.mk.inj (Option.some.inj h); subst h1; subst h2
        exact x_iret F hr hlk hW hS dX0_change_21
/-! WildBells.worth(II)I -/
def fX0_worth (σ : xM) (a1 : Int32) (a2 : Int32) : Option (Int32 × xM) :=
  if (fX0_isBell σ a1) = 0 then ((fX0_finding σ 0).bind (fun r3 => some (r3.1, r3.2))) else (if (fX0_isCell a2) = 0 then ((fX0_finding σ 0).bind (fun r6 => some (r6.1, r6.2))) else ((fX0_worthOf σ a1 a2).bind (fun r8 => some (r8, σ))))
set_option maxHeartbeats 4000000 in
theorem mX0_worth (l : Launch) (E : xE) (σ : xM) (a1 : Int32) (a2 : Int32) (r : Int32) (σ' : xM) (h : fX0_worth σ a1 a2 = some (r, σ')) : Met l yX0_worth (ws_ yX0_worth cX0_worth 3 (some .int)) ({ frames := 12, cells := 0, slots := 0, locals := 256 } : Room) (xPc E σ [.ref (xa E 0), .int a1, .int a2]) (xQc E (.returned (some (.int r))) σ') 0 0 (xA E) := by
  refine x_of (C := RX0) (n := "worth") (d := "(II)I") (r := (some .int)) (by decide) rfl (by first | decide | exact Nat.le_of_ble_eq_true rfl) ?_
  intro p e s m below meth c ls F hr hlk hW hS hl
  have hl : lv_has ls 3 [(0, .ref (xa E 0)), (1, .int a1), (2, .int a2)] := hl
  obtain ⟨hx, hb, hml, hown, hts⟩ := id F.1
  have hK := F.2.1.1
  unfold fX0_worth at h
  refine lv_aload_n hx hb dX0_worth_0 rfl (lv_at hl 0 rfl) ?_
  refine lv_iload_n hx hb dX0_worth_1 rfl (lv_at hl 1 rfl) ?_
  refine x_backi (va_runV (C := RX0) (b := (xa E 0)) (As := [.int a1]) (rest := []) F.1 (mX0_isBell l E σ a1) (cwV 1 hts (lw_V q537 q539 qs3 q99 q540) rfl rfl rfl (by decide +kernel) ⟨Nat.le_of_ble_eq_true rfl, Nat.le_of_ble_eq_true rfl⟩) ⟨xPc.blind, va_recv hK (xO_X hW) (ci := 0) (q0 := 0) rfl rfl, F.pre hW hS (.ref (xa E 0) :: [.int a1])⟩ rfl rfl hl.1 rfl (lv_room (Nat.le_of_ble_eq_true rfl)) dX0_worth_2 ⟨Nat.le_refl _, Nat.le_refl _⟩) hS (fun H locs hW hS => ?_)
  refine lv_if_eq (tgt := 24) hx hb dX0_worth_5 (by decide) (fun c1 => ?_) (fun c1 => ?_)
  · rw [if_pos c1] at h
    refine lv_aload_n hx hb dX0_worth_24 rfl (lv_at hl 0 rfl) ?_
    refine lv_iconst (v := 0) hx hb dX0_worth_25 (by decide) ?_
    cases g2 : fX0_finding σ 0 with
    | none => rw [g2] at h; cases h
    | some r3 =>
      rw [g2, Option.bind_some] at h
      refine x_backi (va_runV (C := RX0) (b := (xa E 0)) (As := [.int 0]) (rest := []) F.1 (mX0_finding l E σ 0 r3.1 r3.2 g2) (cwV 1 hts (lw_V q469 q471 qs2 q99 q472) rfl rfl rfl (by decide +kernel) ⟨Nat.le_of_ble_eq_true rfl, Nat.le_of_ble_eq_true rfl⟩) ⟨xPc.blind, va_recv hK (xO_X hW) (ci := 0) (q0 := 0) rfl rfl, F.pre hW hS (.ref (xa E 0) :: [.int 0])⟩ rfl rfl hl.1 rfl (lv_room (Nat.le_of_ble_eq_true rfl)) dX0_worth_26 ⟨Nat.le_refl _, Nat.le_refl _⟩) hS (fun H locs hW hS => ?_)
      obtain ⟨h1, h2⟩ := Prod.mk.inj (Option.some.inj h); subst h1; subst h2
      exact x_iret F hr hlk hW hS dX0_worth_29
  · rw [if_neg c1] at h
    refine lv_iload_n hx hb dX0_worth_8 rfl (lv_at hl 2 rfl) ?_
    refine x_backi (va_runS (As := [.int a2]) (rest := []) F.1 (mX0_isCell l E σ a2) (va_cwS 1 hts (lw_S q463 q464 q99 q465) rfl rfl rfl (by decide +kernel) ⟨Nat.le_of_ble_eq_true rfl, Nat.le_of_ble_eq_true rfl⟩) ⟨xPc.blind, F.pre hW hS [.int a2]⟩ rfl rfl hl.1 rfl (lv_room (Nat.le_of_ble_eq_true rfl)) dX0_worth_9 ⟨Nat.le_refl _, Nat.le_refl _⟩) hS (fun H locs hW hS => ?_)
    refine lv_if_eq (tgt := 24) hx hb dX0_worth_12 (by decide) (fun c4 => ?_) (fun c4 => ?_)
    · rw [if_pos c4] at h
      refine lv_aload_n hx hb dX0_worth_24 rfl (lv_at hl 0 rfl) ?_
      refine lv_iconst (v := 0) hx hb dX0_worth_25 (by decide) ?_
      cases g5 : fX0_finding σ 0 with
      | none => rw [g5] at h; cases h
      | some r6 =>
        rw [g5, Option.bind_some] at h
        refine x_backi (va_runV (C := RX0) (b := (xa E 0)) (As := [.int 0]) (rest := []) F.1 (mX0_finding l E σ 0 r6.1 r6.2 g5) (cwV 1 hts (lw_V q469 q471 qs2 q99 q472) rfl rfl rfl (by decide +kernel) ⟨Nat.le_of_ble_eq_true rfl, Nat.le_of_ble_eq_true rfl⟩) ⟨xPc.blind, va_recv hK (xO_X hW) (ci := 0) (q0 := 0) rfl rfl, F.pre hW hS (.ref (xa E 0) :: [.int 0])⟩ rfl rfl hl.1 rfl (lv_room (Nat.le_of_ble_eq_true rfl)) dX0_worth_26 ⟨Nat.le_refl _, Nat.le_refl _⟩) hS (fun H locs hW hS => ?_)
        obtain ⟨h1, h2⟩ := Prod.mk.inj (Option.some.inj h); subst h1; subst h2
        exact x_iret F hr hlk hW hS dX0_worth_29
    · rw [if_neg c4] at h
      refine lv_aload_n hx hb dX0_worth_15 rfl (lv_at hl 0 rfl) ?_
      refine lv_iload_n hx hb dX0_worth_16 rfl (lv_at hl 1 rfl) ?_
      refine lv_iload_n hx hb dX0_worth_17 rfl (lv_at hl 2 rfl) ?_
      cases g7 : fX0_worthOf σ a1 a2 with
      | none => rw [g7] at h; cases h
      | some r8 =>
        rw [g7, Option.bind_some] at h
        refine x_backi (va_runV (C := RX0) (b := (xa E 0)) (As := [.int a1, .int a2]) (rest := []) F.1 (mX0_worthOf l E σ a1 a2 r8 g7) (cwV 2 hts (lw_V q578 q580 qs6 q99 q581) rfl rfl rfl (by decide +kernel) ⟨Nat.le_of_ble_eq_true rfl, Nat.le_of_ble_eq_true rfl⟩) ⟨xPc.blind, va_recv hK (xO_X hW) (ci := 0) (q0 := 0) rfl rfl, F.pre hW hS (.ref (xa E 0) :: [.int a1, .int a2])⟩ rfl rfl hl.1 rfl (lv_room (Nat.le_of_ble_eq_true rfl)) dX0_worth_18 ⟨Nat.le_refl _, Nat.le_refl _⟩) hS (fun H locs hW hS => ?_)
        refine lv_goto (tgt := 29) hx hb dX0_worth_21 (by decide) ?_
        obtain ⟨h1, h2⟩ := Prod.mk.inj (Option.some.inj h); subst h1; subst h2
        exact x_iret F hr hlk hW hS dX0_worth_29
/-! WildBells.goesOn(I)I -/
def fX0_goesOn (σ : xM) (a1 : Int32) : Option (Int32 × xM) :=
  (fX0_passes σ a1).bind (fun r2 => (fX4_whoIsCaught r2 0).bind (fun r4 => some ((fX0_ones r4), r2)))
set_option maxHeartbeats 4000000 in
theorem mX0_goesOn (l : Launch) (E : xE) (σ : xM) (a1 : Int32) (r : Int32) (σ' : xM) (h : fX0_goesOn σ a1 = some (r, σ')) : Met l yX0_goesOn (ws_ yX0_goesOn cX0_goesOn 2 (some .int)) ({ frames := 15, cells := 0, slots := 0, locals := 326 } : Room) (xPc E σ [.ref (xa E 0), .int a1]) (xQc E (.returned (some (.int r))) σ') 0 0 (xA E) := by
  refine x_of (C := RX0) (n := "goesOn") (d := "(I)I") (r := (some .int)) (by decide) rfl (by first | decide | exact Nat.le_of_ble_eq_true rfl) ?_
  intro p e s m below meth c ls F hr hlk hW hS hl
  have hl : lv_has ls 2 [(0, .ref (xa E 0)), (1, .int a1)] := hl
  obtain ⟨hx, hb, hml, hown, hts⟩ := id F.1
  have hK := F.2.1.1
  unfold fX0_goesOn at h
  refine lv_aload_n hx hb dX0_goesOn_0 rfl (lv_at hl 0 rfl) ?_
  refine lv_iload_n hx hb dX0_goesOn_1 rfl (lv_at hl 1 rfl) ?_
  cases g1 : fX0_passes σ a1 with
  | none => rw [g1] at h; cases h
  | some r2 =>
    rw [g1, Option.bind_some] at h
    refine x_backv (va_runV (C := RX0) (b := (xa E 0)) (As := [.int a1]) (rest := []) F.1 (mX0_passes l E σ a1 r2 g1) (cwV 1 hts (lw_V q709 q711 qs9 q99 q712) rfl rfl rfl (by decide +kernel) ⟨Nat.le_of_ble_eq_true rfl, Nat.le_of_ble_eq_true rfl⟩) ⟨xPc.blind, va_recv hK (xO_X hW) (ci := 0) (q0 := 0) rfl rfl, F.pre hW hS (.ref (xa E 0) :: [.int a1])⟩ rfl rfl hl.1 rfl (lv_room (Nat.le_of_ble_eq_true rfl)) dX0_goesOn_2 ⟨Nat.le_refl _, Nat.le_refl _⟩) hS (fun H locs hW hS => ?_)
    refine lv_aload_n hx hb dX0_goesOn_5 rfl (lv_at hl 0 rfl) ?_
    refine va_get (D := xD E) (ci := 0) (v := .ref (xa E (xwc 0 0))) (C := RX0) (T := TX0) (N := 15) hx hb hts in_X0 hown hK (xO_X hW) 0 rfl rfl 3 (by decide) (hts _ q416) (fun _ h9 => h9) rfl dX0_goesOn_6 ?_
    cases g3 : fX4_whoIsCaught r2 0 with
    | none => rw [g3] at h; cases h
    | some r4 =>
      rw [g3, Option.bind_some] at h
      refine x_backi (va_runV (C := RX4) (b := (xa E (xwc 0 0))) (As := []) (rest := []) F.1 (mX4_whoIsCaught l E r2 0 (by decide) r4 g3) (cwV 0 hts (lw_V q717 q718 q719 q106 q720) rfl rfl rfl (by decide +kernel) ⟨Nat.le_of_ble_eq_true rfl, Nat.le_of_ble_eq_true rfl⟩) ⟨xPc.blind, va_recv hK (xO_W hW 0 (by decide)) (ci := 4) (q0 := 0) rfl rfl, F.pre hW hS (.ref (xa E (xwc 0 0)) :: [])⟩ rfl rfl hl.1 rfl (lv_room (Nat.le_of_ble_eq_true rfl)) dX0_goesOn_9 ⟨Nat.le_refl _, Nat.le_refl _⟩) hS (fun H locs hW hS => ?_)
      refine x_backi (va_runS (As := [.int r4]) (rest := []) F.1 (mX0_ones l E r2 r4) (va_cwS 1 hts (lw_S q721 q722 q99 q723) rfl rfl rfl (by decide +kernel) ⟨Nat.le_of_ble_eq_true rfl, Nat.le_of_ble_eq_true rfl⟩) ⟨xPc.blind, F.pre hW hS [.int r4]⟩ rfl rfl hl.1 rfl (lv_room (Nat.le_of_ble_eq_true rfl)) dX0_goesOn_12 ⟨Nat.le_refl _, Nat.le_refl _⟩) hS (fun H locs hW hS => ?_)
      obtain ⟨h1, h2⟩ := Prod.mk.inj (Option.some.inj h); subst h1; subst h2
      exact x_iret F hr hlk hW hS dX0_goesOn_15
/-! WildBells.go(I)I -/
def fX0_go (σ : xM) (a1 : Int32) : Option (Int32 × xM) :=
  if (fX0_in a1 1 24) = 0 then ((fX0_finding σ 0).bind (fun r8 => some (r8.1, r8.2))) else (if (fX4_isLate σ 0 a1) = 0 then ((fX0_goesOn σ a1).bind (fun r4 => some (r4.1, r4.2))) else ((fX0_finding σ 4).bind (fun r6 => some (r6.1, r6.2))))
set_option maxHeartbeats 4000000 in
theorem mX0_go (l : Launch) (E : xE) (σ : xM) (a1 : Int32) (r : Int32) (σ' : xM) (h : fX0_go σ a1 = some (r, σ')) : Met l yX0_go (ws_ yX0_go cX0_go 2 (some .int)) ({ frames := 16, cells := 0, slots := 0, locals := 347 } : Room) (xPc E σ [.ref (xa E 0), .int a1]) (xQc E (.returned (some (.int r))) σ') 0 0 (xA E) := by
  refine x_of (C := RX0) (n := "go") (d := "(I)I") (r := (some .int)) (by decide) rfl (by first | decide | exact Nat.le_of_ble_eq_true rfl) ?_
  intro p e s m below meth c ls F hr hlk hW hS hl
  have hl : lv_has ls 2 [(0, .ref (xa E 0)), (1, .int a1)] := hl
  obtain ⟨hx, hb, hml, hown, hts⟩ := id F.1
  have hK := F.2.1.1
  unfold fX0_go at h
  refine lv_iload_n hx hb dX0_go_0 rfl (lv_at hl 1 rfl) ?_
  refine lv_iconst (v := 1) hx hb dX0_go_1 (by decide) ?_
  refine lv_bipush (v := 24) hx hb dX0_go_2 (by decide) ?_
  refine x_backi (va_runS (As := [.int a1, .int 1, .int 24]) (rest := []) F.1 (mX0_in l E σ a1 1 24) (va_cwS 3 hts (lw_S q466 q467 q99 q468) rfl rfl rfl (by decide +kernel) ⟨Nat.le_of_ble_eq_true rfl, Nat.le_of_ble_eq_true rfl⟩) ⟨xPc.blind, F.pre hW hS [.int a1, .int 1, .int 24]⟩ rfl rfl hl.1 rfl (lv_room (Nat.le_of_ble_eq_true rfl)) dX0_go_4 ⟨Nat.le_refl _, Nat.le_refl _⟩) hS (fun H locs hW hS => ?_)
  refine lv_if_ne (tgt := 16) hx hb dX0_go_7 (by decide) (fun c1 => ?_) (fun c1 => ?_)
  · rw [if_neg c1] at h
    refine lv_aload_n hx hb dX0_go_16 rfl (lv_at hl 0 rfl) ?_
    refine va_get (D := xD E) (ci := 0) (v := .ref (xa E (xwc 0 0))) (C := RX0) (T := TX0) (N := 15) hx hb hts in_X0 hown hK (xO_X hW) 0 rfl rfl 3 (by decide) (hts _ q416) (fun _ h9 => h9) rfl dX0_go_17 ?_
    refine lv_iload_n hx hb dX0_go_20 rfl (lv_at hl 1 rfl) ?_
    refine x_backi (va_runV (C := RX4) (b := (xa E (xwc 0 0))) (As := [.int a1]) (rest := []) F.1 (mX4_isLate l E σ 0 (by decide) a1) (cwV 1 hts (lw_V q700 q701 q702 q106 q703) rfl rfl rfl (by decide +kernel) ⟨Nat.le_of_ble_eq_true rfl, Nat.le_of_ble_eq_true rfl⟩) ⟨xPc.blind, va_recv hK (xO_W hW 0 (by decide)) (ci := 4) (q0 := 0) rfl rfl, F.pre hW hS (.ref (xa E (xwc 0 0)) :: [.int a1])⟩ rfl rfl hl.1 rfl (lv_room (Nat.le_of_ble_eq_true rfl)) dX0_go_21 ⟨Nat.le_refl _, Nat.le_refl _⟩) hS (fun H locs hW hS => ?_)
    refine lv_if_eq (tgt := 35) hx hb dX0_go_24 (by decide) (fun c2 => ?_) (fun c2 => ?_)
    · rw [if_pos c2] at h
      refine lv_aload_n hx hb dX0_go_35 rfl (lv_at hl 0 rfl) ?_
      refine lv_iload_n hx hb dX0_go_36 rfl (lv_at hl 1 rfl) ?_
      cases g3 : fX0_goesOn σ a1 with
      | none => rw [g3] at h; cases h
      | some r4 =>
        rw [g3, Option.bind_some] at h
        refine x_backi (va_runV (C := RX0) (b := (xa E 0)) (As := [.int a1]) (rest := []) F.1 (mX0_goesOn l E σ a1 r4.1 r4.2 g3) (cwV 1 hts (lw_V q705 q707 qs8 q99 q708) rfl rfl rfl (by decide +kernel) ⟨Nat.le_of_ble_eq_true rfl, Nat.le_of_ble_eq_true rfl⟩) ⟨xPc.blind, va_recv hK (xO_X hW) (ci := 0) (q0 := 0) rfl rfl, F.pre hW hS (.ref (xa E 0) :: [.int a1])⟩ rfl rfl hl.1 rfl (lv_room (Nat.le_of_ble_eq_true rfl)) dX0_go_37 ⟨Nat.le_refl _, Nat.le_refl _⟩) hS (fun H locs hW hS => ?_)
        obtain ⟨h1, h2⟩ := Prod.mk.inj (Option.some.inj h); subst h1; subst h2
        exact x_iret F hr hlk hW hS dX0_go_40
    · rw [if_neg c2] at h
      refine lv_aload_n hx hb dX0_go_27 rfl (lv_at hl 0 rfl) ?_
      refine lv_iconst (v := 4) hx hb dX0_go_28 (by decide) ?_
      cases g5 : fX0_finding σ 4 with
      | none => rw [g5] at h; cases h
      | some r6 =>
        rw [g5, Option.bind_some] at h
        refine x_backi (va_runV (C := RX0) (b := (xa E 0)) (As := [.int 4]) (rest := []) F.1 (mX0_finding l E σ 4 r6.1 r6.2 g5) (cwV 1 hts (lw_V q469 q471 qs2 q99 q472) rfl rfl rfl (by decide +kernel) ⟨Nat.le_of_ble_eq_true rfl, Nat.le_of_ble_eq_true rfl⟩) ⟨xPc.blind, va_recv hK (xO_X hW) (ci := 0) (q0 := 0) rfl rfl, F.pre hW hS (.ref (xa E 0) :: [.int 4])⟩ rfl rfl hl.1 rfl (lv_room (Nat.le_of_ble_eq_true rfl)) dX0_go_29 ⟨Nat.le_refl _, Nat.le_refl _⟩) hS (fun H locs hW hS => ?_)
        refine lv_goto (tgt := 40) hx hb dX0_go_32 (by decide) ?_
        obtain ⟨h1, h2⟩ := Prod.mk.inj (Option.some.inj h); subst h1; subst h2
        exact x_iret F hr hlk hW hS dX0_go_40
  · rw [if_pos c1] at h
    refine lv_aload_n hx hb dX0_go_10 rfl (lv_at hl 0 rfl) ?_
    refine lv_iconst (v := 0) hx hb dX0_go_11 (by decide) ?_
    cases g7 : fX0_finding σ 0 with
    | none => rw [g7] at h; cases h
    | some r8 =>
      rw [g7, Option.bind_some] at h
      refine x_backi (va_runV (C := RX0) (b := (xa E 0)) (As := [.int 0]) (rest := []) F.1 (mX0_finding l E σ 0 r8.1 r8.2 g7) (cwV 1 hts (lw_V q469 q471 qs2 q99 q472) rfl rfl rfl (by decide +kernel) ⟨Nat.le_of_ble_eq_true rfl, Nat.le_of_ble_eq_true rfl⟩) ⟨xPc.blind, va_recv hK (xO_X hW) (ci := 0) (q0 := 0) rfl rfl, F.pre hW hS (.ref (xa E 0) :: [.int 0])⟩ rfl rfl hl.1 rfl (lv_room (Nat.le_of_ble_eq_true rfl)) dX0_go_12 ⟨Nat.le_refl _, Nat.le_refl _⟩) hS (fun H locs hW hS => ?_)
      obtain ⟨h1, h2⟩ := Prod.mk.inj (Option.some.inj h); subst h1; subst h2
      exact x_iret F hr hlk hW hS dX0_go_15
/-! WildBells.now(I)I -/
def fX0_now (σ : xM) (a1 : Int32) : Option (Int32 × xM) :=
  (if a1 = 0 then (some ((σ 0 0), σ)) else (if a1 = 1 then ((fX4_whoIsCaught σ 0).bind (fun r4 => some (r4, σ))) else (if a1 = 2 then ((fX4_nets σ 0).bind (fun r7 => some (r7, σ))) else (if a1 = 3 then (some ((σ 0 1), σ)) else (if a1 = 4 then ((fX4_weights σ 0 0).bind (fun r11 => some (r11, σ))) else ((fX0_finding σ 0).bind (fun r13 => some (r13.1, r13.2))))))))
set_option maxHeartbeats 4000000 in
theorem mX0_now (l : Launch) (E : xE) (σ : xM) (a1 : Int32) (r : Int32) (σ' : xM) (h : fX0_now σ a1 = some (r, σ')) : Met l yX0_now (ws_ yX0_now cX0_now 2 (some .int)) ({ frames := 2, cells := 0, slots := 0, locals := 44 } : Room) (xPc E σ [.ref (xa E 0), .int a1]) (xQc E (.returned (some (.int r))) σ') 0 0 (xA E) := by
  refine x_of (C := RX0) (n := "now") (d := "(I)I") (r := (some .int)) (by decide) rfl (by first | decide | exact Nat.le_of_ble_eq_true rfl) ?_
  intro p e s m below meth c ls F hr hlk hW hS hl
  have hl : lv_has ls 2 [(0, .ref (xa E 0)), (1, .int a1)] := hl
  obtain ⟨hx, hb, hml, hown, hts⟩ := id F.1
  have hK := F.2.1.1
  unfold fX0_now at h
  refine lv_iload_n hx hb dX0_now_0 rfl (lv_at hl 1 rfl) ?_
  by_cases c1 : a1 = 0
  · rw [if_pos c1] at h
    refine lv_tableIn (tgt := 36) hx hb dX0_now_1 (by rw [c1]; decide) (by rw [c1]; decide) (by rw [c1]; rfl) (by decide) ?_
    refine lv_aload_n hx hb dX0_now_36 rfl (lv_at hl 0 rfl) ?_
    refine va_get (D := xD E) (ci := 0) (v := .ref (xa E (xwc 0 0))) (C := RX0) (T := TX0) (N := 15) hx hb hts in_X0 hown hK (xO_X hW) 0 rfl rfl 3 (by decide) (hts _ q416) (fun _ h9 => h9) rfl dX0_now_37 ?_
    refine va_getN (D := xD E) (ci := 4) (v := .int (σ 0 0)) (C := RX4) (T := TX4) (N := 8) hx hb hts in_X4 hown hK (xO_W hW 0 (by decide)) 0 rfl rfl 5 (by decide) (va_Nw.use rfl (F.2.1.2.1 _ q246 rfl)) (fun _ h9 => h9) rfl dX0_now_40 ?_
    obtain ⟨h1, h2⟩ := Prod.mk.inj (Option.some.inj h); subst h1; subst h2
    exact x_iret F hr hlk hW hS dX0_now_43
  · rw [if_neg c1] at h
    by_cases c2 : a1 = 1
    · rw [if_pos c2] at h
      refine lv_tableIn (tgt := 44) hx hb dX0_now_1 (by rw [c2]; decide) (by rw [c2]; decide) (by rw [c2]; rfl) (by decide) ?_
      refine lv_aload_n hx hb dX0_now_44 rfl (lv_at hl 0 rfl) ?_
      refine va_get (D := xD E) (ci := 0) (v := .ref (xa E (xwc 0 0))) (C := RX0) (T := TX0) (N := 15) hx hb hts in_X0 hown hK (xO_X hW) 0 rfl rfl 3 (by decide) (hts _ q416) (fun _ h9 => h9) rfl dX0_now_45 ?_
      cases g3 : fX4_whoIsCaught σ 0 with
      | none => rw [g3] at h; cases h
      | some r4 =>
        rw [g3, Option.bind_some] at h
        refine x_backi (va_runV (C := RX4) (b := (xa E (xwc 0 0))) (As := []) (rest := []) F.1 (mX4_whoIsCaught l E σ 0 (by decide) r4 g3) (cwV 0 hts (lw_V q717 q718 q719 q106 q720) rfl rfl rfl (by decide +kernel) ⟨Nat.le_of_ble_eq_true rfl, Nat.le_of_ble_eq_true rfl⟩) ⟨xPc.blind, va_recv hK (xO_W hW 0 (by decide)) (ci := 4) (q0 := 0) rfl rfl, F.pre hW hS (.ref (xa E (xwc 0 0)) :: [])⟩ rfl rfl hl.1 rfl (lv_room (Nat.le_of_ble_eq_true rfl)) dX0_now_48 ⟨Nat.le_refl _, Nat.le_refl _⟩) hS (fun H locs hW hS => ?_)
        obtain ⟨h1, h2⟩ := Prod.mk.inj (Option.some.inj h); subst h1; subst h2
        exact x_iret F hr hlk hW hS dX0_now_51
    · rw [if_neg c2] at h
      by_cases c5 : a1 = 2
      · rw [if_pos c5] at h
        refine lv_tableIn (tgt := 52) hx hb dX0_now_1 (by rw [c5]; decide) (by rw [c5]; decide) (by rw [c5]; rfl) (by decide) ?_
        refine lv_aload_n hx hb dX0_now_52 rfl (lv_at hl 0 rfl) ?_
        refine va_get (D := xD E) (ci := 0) (v := .ref (xa E (xwc 0 0))) (C := RX0) (T := TX0) (N := 15) hx hb hts in_X0 hown hK (xO_X hW) 0 rfl rfl 3 (by decide) (hts _ q416) (fun _ h9 => h9) rfl dX0_now_53 ?_
        cases g6 : fX4_nets σ 0 with
        | none => rw [g6] at h; cases h
        | some r7 =>
          rw [g6, Option.bind_some] at h
          refine x_backi (va_runV (C := RX4) (b := (xa E (xwc 0 0))) (As := []) (rest := []) F.1 (mX4_nets l E σ 0 (by decide) r7 g6) (cwV 0 hts (lw_V q734 q735 q736 q106 q737) rfl rfl rfl (by decide +kernel) ⟨Nat.le_of_ble_eq_true rfl, Nat.le_of_ble_eq_true rfl⟩) ⟨xPc.blind, va_recv hK (xO_W hW 0 (by decide)) (ci := 4) (q0 := 0) rfl rfl, F.pre hW hS (.ref (xa E (xwc 0 0)) :: [])⟩ rfl rfl hl.1 rfl (lv_room (Nat.le_of_ble_eq_true rfl)) dX0_now_56 ⟨Nat.le_refl _, Nat.le_refl _⟩) hS (fun H locs hW hS => ?_)
          obtain ⟨h1, h2⟩ := Prod.mk.inj (Option.some.inj h); subst h1; subst h2
          exact x_iret F hr hlk hW hS dX0_now_59
      · rw [if_neg c5] at h
        by_cases c8 : a1 = 3
        · rw [if_pos c8] at h
          refine lv_tableIn (tgt := 60) hx hb dX0_now_1 (by rw [c8]; decide) (by rw [c8]; decide) (by rw [c8]; rfl) (by decide) ?_
          refine lv_aload_n hx hb dX0_now_60 rfl (lv_at hl 0 rfl) ?_
          refine va_get (D := xD E) (ci := 0) (v := .ref (xa E (xwc 0 0))) (C := RX0) (T := TX0) (N := 15) hx hb hts in_X0 hown hK (xO_X hW) 0 rfl rfl 3 (by decide) (hts _ q416) (fun _ h9 => h9) rfl dX0_now_61 ?_
          refine va_getN (D := xD E) (ci := 4) (v := .int (σ 0 1)) (C := RX4) (T := TX4) (N := 8) hx hb hts in_X4 hown hK (xO_W hW 0 (by decide)) 0 rfl rfl 2 (by decide) (va_Nw.use rfl (F.2.1.2.1 _ q238 rfl)) (fun _ h9 => h9) rfl dX0_now_64 ?_
          obtain ⟨h1, h2⟩ := Prod.mk.inj (Option.some.inj h); subst h1; subst h2
          exact x_iret F hr hlk hW hS dX0_now_67
        · rw [if_neg c8] at h
          by_cases c9 : a1 = 4
          · rw [if_pos c9] at h
            refine lv_tableIn (tgt := 68) hx hb dX0_now_1 (by rw [c9]; decide) (by rw [c9]; decide) (by rw [c9]; rfl) (by decide) ?_
            refine lv_aload_n hx hb dX0_now_68 rfl (lv_at hl 0 rfl) ?_
            refine va_get (D := xD E) (ci := 0) (v := .ref (xa E (xwc 0 0))) (C := RX0) (T := TX0) (N := 15) hx hb hts in_X0 hown hK (xO_X hW) 0 rfl rfl 3 (by decide) (hts _ q416) (fun _ h9 => h9) rfl dX0_now_69 ?_
            refine lv_iconst (v := 0) hx hb dX0_now_72 (by decide) ?_
            cases g10 : fX4_weights σ 0 0 with
            | none => rw [g10] at h; cases h
            | some r11 =>
              rw [g10, Option.bind_some] at h
              refine x_backi (va_runV (C := RX4) (b := (xa E (xwc 0 0))) (As := [.int 0]) (rest := []) F.1 (mX4_weights l E σ 0 (by decide) 0 r11 g10) (cwV 1 hts (lw_V q738 q739 q740 q106 q741) rfl rfl rfl (by decide +kernel) ⟨Nat.le_of_ble_eq_true rfl, Nat.le_of_ble_eq_true rfl⟩) ⟨xPc.blind, va_recv hK (xO_W hW 0 (by decide)) (ci := 4) (q0 := 0) rfl rfl, F.pre hW hS (.ref (xa E (xwc 0 0)) :: [.int 0])⟩ rfl rfl hl.1 rfl (lv_room (Nat.le_of_ble_eq_true rfl)) dX0_now_73 ⟨Nat.le_refl _, Nat.le_refl _⟩) hS (fun H locs hW hS => ?_)
              obtain ⟨h1, h2⟩ := Prod.mk.inj (Option.some.inj h); subst h1; subst h2
              exact x_iret F hr hlk hW hS dX0_now_76
          · rw [if_neg c9] at h
            refine lv_tableOut (tgt := 77) hx hb dX0_now_1 (by have := lv_neT (a := 0) c1 rfl; have := lv_neT (a := 1) c2 rfl; have := lv_neT (a := 2) c5 rfl; have := lv_neT (a := 3) c8 rfl; have := lv_neT (a := 4) c9 rfl; omega) (by decide) ?_
            refine lv_aload_n hx hb dX0_now_77 rfl (lv_at hl 0 rfl) ?_
            refine lv_iconst (v := 0) hx hb dX0_now_78 (by decide) ?_
            cases g12 : fX0_finding σ 0 with
            | none => rw [g12] at h; cases h
            | some r13 =>
              rw [g12, Option.bind_some] at h
              refine x_backi (va_runV (C := RX0) (b := (xa E 0)) (As := [.int 0]) (rest := []) F.1 (mX0_finding l E σ 0 r13.1 r13.2 g12) (cwV 1 hts (lw_V q469 q471 qs2 q99 q472) rfl rfl rfl (by decide +kernel) ⟨Nat.le_of_ble_eq_true rfl, Nat.le_of_ble_eq_true rfl⟩) ⟨xPc.blind, va_recv hK (xO_X hW) (ci := 0) (q0 := 0) rfl rfl, F.pre hW hS (.ref (xa E 0) :: [.int 0])⟩ rfl rfl hl.1 rfl (lv_room (Nat.le_of_ble_eq_true rfl)) dX0_now_79 ⟨Nat.le_refl _, Nat.le_refl _⟩) hS (fun H locs hW hS => ?_)
              obtain ⟨h1, h2⟩ := Prod.mk.inj (Option.some.inj h); subst h1; subst h2
              exact x_iret F hr hlk hW hS dX0_now_82
/-! WildBells.loud(II)I -/
def fX0_loud (σ : xM) (a1 : Int32) (a2 : Int32) : Option (Int32 × xM) :=
  if (fX0_isBell σ a1) = 0 then ((fX0_finding σ 0).bind (fun r3 => some (r3.1, r3.2))) else (if (fX0_isCell a2) = 0 then ((fX0_finding σ 0).bind (fun r6 => some (r6.1, r6.2))) else ((fX4_loud σ 0 a1 a2).bind (fun r8 => some (r8, σ))))
set_option maxHeartbeats 4000000 in
theorem mX0_loud (l : Launch) (E : xE) (σ : xM) (a1 : Int32) (a2 : Int32) (r : Int32) (σ' : xM) (h : fX0_loud σ a1 a2 = some (r, σ')) : Met l yX0_loud (ws_ yX0_loud cX0_loud 3 (some .int)) ({ frames := 3, cells := 0, slots := 0, locals := 64 } : Room) (xPc E σ [.ref (xa E 0), .int a1, .int a2]) (xQc E (.returned (some (.int r))) σ') 0 0 (xA E) := by
  refine x_of (C := RX0) (n := "loud") (d := "(II)I") (r := (some .int)) (by decide) rfl (by first | decide | exact Nat.le_of_ble_eq_true rfl) ?_
  intro p e s m below meth c ls F hr hlk hW hS hl
  have hl : lv_has ls 3 [(0, .ref (xa E 0)), (1, .int a1), (2, .int a2)] := hl
  obtain ⟨hx, hb, hml, hown, hts⟩ := id F.1
  have hK := F.2.1.1
  unfold fX0_loud at h
  refine lv_aload_n hx hb dX0_loud_0 rfl (lv_at hl 0 rfl) ?_
  refine lv_iload_n hx hb dX0_loud_1 rfl (lv_at hl 1 rfl) ?_
  refine x_backi (va_runV (C := RX0) (b := (xa E 0)) (As := [.int a1]) (rest := []) F.1 (mX0_isBell l E σ a1) (cwV 1 hts (lw_V q537 q539 qs3 q99 q540) rfl rfl rfl (by decide +kernel) ⟨Nat.le_of_ble_eq_true rfl, Nat.le_of_ble_eq_true rfl⟩) ⟨xPc.blind, va_recv hK (xO_X hW) (ci := 0) (q0 := 0) rfl rfl, F.pre hW hS (.ref (xa E 0) :: [.int a1])⟩ rfl rfl hl.1 rfl (lv_room (Nat.le_of_ble_eq_true rfl)) dX0_loud_2 ⟨Nat.le_refl _, Nat.le_refl _⟩) hS (fun H locs hW hS => ?_)
  refine lv_if_eq (tgt := 27) hx hb dX0_loud_5 (by decide) (fun c1 => ?_) (fun c1 => ?_)
  · rw [if_pos c1] at h
    refine lv_aload_n hx hb dX0_loud_27 rfl (lv_at hl 0 rfl) ?_
    refine lv_iconst (v := 0) hx hb dX0_loud_28 (by decide) ?_
    cases g2 : fX0_finding σ 0 with
    | none => rw [g2] at h; cases h
    | some r3 =>
      rw [g2, Option.bind_some] at h
      refine x_backi (va_runV (C := RX0) (b := (xa E 0)) (As := [.int 0]) (rest := []) F.1 (mX0_finding l E σ 0 r3.1 r3.2 g2) (cwV 1 hts (lw_V q469 q471 qs2 q99 q472) rfl rfl rfl (by decide +kernel) ⟨Nat.le_of_ble_eq_true rfl, Nat.le_of_ble_eq_true rfl⟩) ⟨xPc.blind, va_recv hK (xO_X hW) (ci := 0) (q0 := 0) rfl rfl, F.pre hW hS (.ref (xa E 0) :: [.int 0])⟩ rfl rfl hl.1 rfl (lv_room (Nat.le_of_ble_eq_true rfl)) dX0_loud_29 ⟨Nat.le_refl _, Nat.le_refl _⟩) hS (fun H locs hW hS => ?_)
      obtain ⟨h1, h2⟩ := Prod.mk.inj (Option.some.inj h); subst h1; subst h2
      exact x_iret F hr hlk hW hS dX0_loud_32
  · rw [if_neg c1] at h
    refine lv_iload_n hx hb dX0_loud_8 rfl (lv_at hl 2 rfl) ?_
    refine x_backi (va_runS (As := [.int a2]) (rest := []) F.1 (mX0_isCell l E σ a2) (va_cwS 1 hts (lw_S q463 q464 q99 q465) rfl rfl rfl (by decide +kernel) ⟨Nat.le_of_ble_eq_true rfl, Nat.le_of_ble_eq_true rfl⟩) ⟨xPc.blind, F.pre hW hS [.int a2]⟩ rfl rfl hl.1 rfl (lv_room (Nat.le_of_ble_eq_true rfl)) dX0_loud_9 ⟨Nat.le_refl _, Nat.le_refl _⟩) hS (fun H locs hW hS => ?_)
    refine lv_if_eq (tgt := 27) hx hb dX0_loud_12 (by decide) (fun c4 => ?_) (fun c4 => ?_)
    · rw [if_pos c4] at h
      refine lv_aload_n hx hb dX0_loud_27 rfl (lv_at hl 0 rfl) ?_
      refine lv_iconst (v := 0) hx hb dX0_loud_28 (by decide) ?_
      cases g5 : fX0_finding σ 0 with
      | none => rw [g5] at h; cases h
      | some r6 =>
        rw [g5, Option.bind_some] at h
        refine x_backi (va_runV (C := RX0) (b := (xa E 0)) (As := [.int 0]) (rest := []) F.1 (mX0_finding l E σ 0 r6.1 r6.2 g5) (cwV 1 hts (lw_V q469 q471 qs2 q99 q472) rfl rfl rfl (by decide +kernel) ⟨Nat.le_of_ble_eq_true rfl, Nat.le_of_ble_eq_true rfl⟩) ⟨xPc.blind, va_recv hK (xO_X hW) (ci := 0) (q0 := 0) rfl rfl, F.pre hW hS (.ref (xa E 0) :: [.int 0])⟩ rfl rfl hl.1 rfl (lv_room (Nat.le_of_ble_eq_true rfl)) dX0_loud_29 ⟨Nat.le_refl _, Nat.le_refl _⟩) hS (fun H locs hW hS => ?_)
        obtain ⟨h1, h2⟩ := Prod.mk.inj (Option.some.inj h); subst h1; subst h2
        exact x_iret F hr hlk hW hS dX0_loud_32
    · rw [if_neg c4] at h
      refine lv_aload_n hx hb dX0_loud_15 rfl (lv_at hl 0 rfl) ?_
      refine va_get (D := xD E) (ci := 0) (v := .ref (xa E (xwc 0 0))) (C := RX0) (T := TX0) (N := 15) hx hb hts in_X0 hown hK (xO_X hW) 0 rfl rfl 3 (by decide) (hts _ q416) (fun _ h9 => h9) rfl dX0_loud_16 ?_
      refine lv_iload_n hx hb dX0_loud_19 rfl (lv_at hl 1 rfl) ?_
      refine lv_iload_n hx hb dX0_loud_20 rfl (lv_at hl 2 rfl) ?_
      cases g7 : fX4_loud σ 0 a1 a2 with
      | none => rw [g7] at h; cases h
      | some r8 =>
        rw [g7, Option.bind_some] at h
        refine x_backi (va_runV (C := RX4) (b := (xa E (xwc 0 0))) (As := [.int a1, .int a2]) (rest := []) F.1 (mX4_loud l E σ 0 (by decide) a1 a2 r8 g7) (cwV 2 hts (lw_V q746 q491 q492 q106 q493) rfl rfl rfl (by decide +kernel) ⟨Nat.le_of_ble_eq_true rfl, Nat.le_of_ble_eq_true rfl⟩) ⟨xPc.blind, va_recv hK (xO_W hW 0 (by decide)) (ci := 4) (q0 := 0) rfl rfl, F.pre hW hS (.ref (xa E (xwc 0 0)) :: [.int a1, .int a2])⟩ rfl rfl hl.1 rfl (lv_room (Nat.le_of_ble_eq_true rfl)) dX0_loud_21 ⟨Nat.le_refl _, Nat.le_refl _⟩) hS (fun H locs hW hS => ?_)
        refine lv_goto (tgt := 32) hx hb dX0_loud_24 (by decide) ?_
        obtain ⟨h1, h2⟩ := Prod.mk.inj (Option.some.inj h); subst h1; subst h2
        exact x_iret F hr hlk hW hS dX0_loud_32
/-! WildBells.ahead(II)I -/
def fX0_ahead (σ : xM) (a1 : Int32) (a2 : Int32) : Option (Int32 × xM) :=
  if (fX0_isBell σ a1) = 0 then ((fX0_finding σ 0).bind (fun r3 => some (r3.1, r3.2))) else (if (fX0_in a2 0 60) = 0 then ((fX0_finding σ 0).bind (fun r13 => some (r13.1, r13.2))) else ((fX4_become σ 2 0).bind (fun r6 => (fX0_passes r6 a2).bind (fun r8 => if xin a1 8 then ((fX4_become r8 0 2).bind (fun r11 => some ((r8 0 (146 + 5 * a1.toNatClampNeg + 1)), r11))) else none))))
set_option maxHeartbeats 4000000 in
theorem mX0_ahead (l : Launch) (E : xE) (σ : xM) (a1 : Int32) (a2 : Int32) (r : Int32) (σ' : xM) (h : fX0_ahead σ a1 a2 = some (r, σ')) : Met l yX0_ahead (wsW_ yX0_ahead cX0_ahead 5 (some .int) [(35, 52, 65, 0), (65, 67, 65, 0)]) ({ frames := 15, cells := 0, slots := 0, locals := 326 } : Room) (xPc E σ [.ref (xa E 0), .int a1, .int a2]) (xQc E (.returned (some (.int r))) σ') 0 0 (xA E) := by
  refine x_ofW (C := RX0) (n := "ahead") (d := "(II)I") (r := (some .int)) (hh := [(35, 52, 65, 0), (65, 67, 65, 0)]) (by decide) (by first | decide | exact Nat.le_of_ble_eq_true rfl) ?_
  intro p e s m below meth c ls F hr hlk htb hW hS hl
  have hl : lv_has ls 5 [(0, .ref (xa E 0)), (1, .int a1), (2, .int a2)] := hl
  obtain ⟨hx, hb, hml, hown, hts⟩ := id F.1
  have hK := F.2.1.1
  unfold fX0_ahead at h
  refine lv_aload_n hx hb dX0_ahead_0 rfl (lv_at hl 0 rfl) ?_
  refine lv_iload_n hx hb dX0_ahead_1 rfl (lv_at hl 1 rfl) ?_
  refine x_backi (va_runV (C := RX0) (b := (xa E 0)) (As := [.int a1]) (rest := []) F.1 (mX0_isBell l E σ a1) (cwV 1 hts (lw_V q537 q539 qs3 q99 q540) rfl rfl rfl (by decide +kernel) ⟨Nat.le_of_ble_eq_true rfl, Nat.le_of_ble_eq_true rfl⟩) ⟨xPc.blind, va_recv hK (xO_X hW) (ci := 0) (q0 := 0) rfl rfl, F.pre hW hS (.ref (xa E 0) :: [.int a1])⟩ rfl rfl hl.1 rfl (lv_room (Nat.le_of_ble_eq_true rfl)) dX0_ahead_2 ⟨Nat.le_refl _, Nat.le_refl _⟩) hS (fun H locs hW hS => ?_)
  refine lv_if_eq (tgt := 18) hx hb dX0_ahead_5 (by decide) (fun c1 => ?_) (fun c1 => ?_)
  · rw [if_pos c1] at h
    refine lv_aload_n hx hb dX0_ahead_18 rfl (lv_at hl 0 rfl) ?_
    refine lv_iconst (v := 0) hx hb dX0_ahead_19 (by decide) ?_
    cases g2 : fX0_finding σ 0 with
    | none => rw [g2] at h; cases h
    | some r3 =>
      rw [g2, Option.bind_some] at h
      refine x_backi (va_runV (C := RX0) (b := (xa E 0)) (As := [.int 0]) (rest := []) F.1 (mX0_finding l E σ 0 r3.1 r3.2 g2) (cwV 1 hts (lw_V q469 q471 qs2 q99 q472) rfl rfl rfl (by decide +kernel) ⟨Nat.le_of_ble_eq_true rfl, Nat.le_of_ble_eq_true rfl⟩) ⟨xPc.blind, va_recv hK (xO_X hW) (ci := 0) (q0 := 0) rfl rfl, F.pre hW hS (.ref (xa E 0) :: [.int 0])⟩ rfl rfl hl.1 rfl (lv_room (Nat.le_of_ble_eq_true rfl)) dX0_ahead_20 ⟨Nat.le_refl _, Nat.le_refl _⟩) hS (fun H locs hW hS => ?_)
      obtain ⟨h1, h2⟩ := Prod.mk.inj (Option.some.inj h); subst h1; subst h2
      exact x_iret F hr hlk hW hS dX0_ahead_23
  · rw [if_neg c1] at h
    refine lv_iload_n hx hb dX0_ahead_8 rfl (lv_at hl 2 rfl) ?_
    refine lv_iconst (v := 0) hx hb dX0_ahead_9 (by decide) ?_
    refine lv_bipush (v := 60) hx hb dX0_ahead_10 (by decide) ?_
    refine x_backi (va_runS (As := [.int a2, .int 0, .int 60]) (rest := []) F.1 (mX0_in l E σ a2 0 60) (va_cwS 3 hts (lw_S q466 q467 q99 q468) rfl rfl rfl (by decide +kernel) ⟨Nat.le_of_ble_eq_true rfl, Nat.le_of_ble_eq_true rfl⟩) ⟨xPc.blind, F.pre hW hS [.int a2, .int 0, .int 60]⟩ rfl rfl hl.1 rfl (lv_room (Nat.le_of_ble_eq_true rfl)) dX0_ahead_12 ⟨Nat.le_refl _, Nat.le_refl _⟩) hS (fun H locs hW hS => ?_)
    refine lv_if_ne (tgt := 24) hx hb dX0_ahead_15 (by decide) (fun c4 => ?_) (fun c4 => ?_)
    · rw [if_neg c4] at h
      refine lv_aload_n hx hb dX0_ahead_24 rfl (lv_at hl 0 rfl) ?_
      refine va_get (D := xD E) (ci := 0) (v := .ref (xa E (xwc 2 0))) (C := RX0) (T := TX0) (N := 15) hx hb hts in_X0 hown hK (xO_X hW) 0 rfl rfl 5 (by decide) (hts _ q418) (fun _ h9 => h9) rfl dX0_ahead_25 ?_
      refine lv_aload_n hx hb dX0_ahead_28 rfl (lv_at hl 0 rfl) ?_
      refine va_get (D := xD E) (ci := 0) (v := .ref (xa E (xwc 0 0))) (C := RX0) (T := TX0) (N := 15) hx hb hts in_X0 hown hK (xO_X hW) 0 rfl rfl 3 (by decide) (hts _ q416) (fun _ h9 => h9) rfl dX0_ahead_29 ?_
      cases g5 : fX4_become σ 2 0 with
      | none => rw [g5] at h; cases h
      | some r6 =>
        rw [g5, Option.bind_some] at h
        refine x_backv (va_runV (C := RX4) (b := (xa E (xwc 2 0))) (As := [.ref (xa E (xwc 0 0))]) (rest := []) F.1 (mX4_become l E σ 2 (by decide) 0 (by decide) (by decide) r6 g5) (cwV 1 hts (lw_V q751 q752 q753 q106 q754) rfl rfl rfl (by decide +kernel) ⟨Nat.le_of_ble_eq_true rfl, Nat.le_of_ble_eq_true rfl⟩) ⟨xPc.blind, va_recv hK (xO_W hW 2 (by decide)) (ci := 4) (q0 := 0) rfl rfl, F.pre hW hS (.ref (xa E (xwc 2 0)) :: [.ref (xa E (xwc 0 0))])⟩ rfl rfl hl.1 rfl (lv_room (Nat.le_of_ble_eq_true rfl)) dX0_ahead_32 ⟨Nat.le_refl _, Nat.le_refl _⟩) hS (fun H locs hW hS => ?_)
        refine lv_aload_n hx hb dX0_ahead_35 rfl (lv_at hl 0 rfl) ?_
        refine lv_iload_n hx hb dX0_ahead_36 rfl (lv_at hl 2 rfl) ?_
        cases g7 : fX0_passes r6 a2 with
        | none => rw [g7] at h; cases h
        | some r8 =>
          rw [g7, Option.bind_some] at h
          refine x_backv (va_runV (C := RX0) (b := (xa E 0)) (As := [.int a2]) (rest := []) F.1 (mX0_passes l E r6 a2 r8 g7) (cwV 1 hts (lw_V q709 q711 qs9 q99 q712) rfl rfl rfl (by decide +kernel) ⟨Nat.le_of_ble_eq_true rfl, Nat.le_of_ble_eq_true rfl⟩) ⟨xPc.blind, va_recv hK (xO_X hW) (ci := 0) (q0 := 0) rfl rfl, F.pre hW hS (.ref (xa E 0) :: [.int a2])⟩ rfl rfl hl.1 rfl (lv_room (Nat.le_of_ble_eq_true rfl)) dX0_ahead_37 ⟨Nat.le_refl _, Nat.le_refl _⟩) hS (fun H locs hW hS => ?_)
          refine lv_aload_n hx hb dX0_ahead_40 rfl (lv_at hl 0 rfl) ?_
          refine va_get (D := xD E) (ci := 0) (v := .ref (xa E (xwc 0 0))) (C := RX0) (T := TX0) (N := 15) hx hb hts in_X0 hown hK (xO_X hW) 0 rfl rfl 3 (by decide) (hts _ q416) (fun _ h9 => h9) rfl dX0_ahead_41 ?_
          refine va_getN (D := xD E) (ci := 4) (v := .ref (xa E (xwc 0 5))) (C := RX4) (T := TX4) (N := 8) hx hb hts in_X4 hown hK (xO_W hW 0 (by decide)) 0 rfl rfl 4 (by decide) (va_Nw.use rfl (F.2.1.2.1 _ q244 rfl)) (fun _ h9 => h9) rfl dX0_ahead_44 ?_
          refine lv_iconst (v := 1) hx hb dX0_ahead_47 (by decide) ?_
          refine x_aald (g := fun j => xa E (xwc 0 (6 + j))) (j := 1) F 4 4 5 (xR_5 hW 0 (by decide)) rfl rfl (x_lit (by decide)) (by decide) dX0_ahead_48 ?_
          refine lv_iload_n hx hb dX0_ahead_49 rfl (lv_at hl 1 rfl) ?_
          by_cases hi9 : xin a1 8
          · rw [if_pos hi9] at h
            refine va_iald hx hb hK (xV_6 hW 0 1 (by decide) (by decide)) 0 0 rfl rfl hi9 dX0_ahead_50 ?_
            refine lv_istore_n (lv' := [(3, .int (r8 0 (146 + 5 * a1.toNatClampNeg + 1))), (0, .ref (xa E 0)), (1, .int a1), (2, .int a2)]) hx hb dX0_ahead_51 rfl hl (by decide) rfl (fun ls hl => ?_)
            refine lv_aload_n hx hb dX0_ahead_52 rfl (lv_at hl 1 rfl) ?_
            refine va_get (D := xD E) (ci := 0) (v := .ref (xa E (xwc 0 0))) (C := RX0) (T := TX0) (N := 15) hx hb hts in_X0 hown hK (xO_X hW) 0 rfl rfl 3 (by decide) (hts _ q416) (fun _ h9 => h9) rfl dX0_ahead_53 ?_
            refine lv_aload_n hx hb dX0_ahead_56 rfl (lv_at hl 1 rfl) ?_
            refine va_get (D := xD E) (ci := 0) (v := .ref (xa E (xwc 2 0))) (C := RX0) (T := TX0) (N := 15) hx hb hts in_X0 hown hK (xO_X hW) 0 rfl rfl 5 (by decide) (hts _ q418) (fun _ h9 => h9) rfl dX0_ahead_57 ?_
            cases g10 : fX4_become r8 0 2 with
            | none => rw [g10] at h; cases h
            | some r11 =>
              rw [g10, Option.bind_some] at h
              refine x_backv (va_runV (C := RX4) (b := (xa E (xwc 0 0))) (As := [.ref (xa E (xwc 2 0))]) (rest := []) F.1 (mX4_become l E r8 0 (by decide) 2 (by decide) (by decide) r11 g10) (cwV 1 hts (lw_V q751 q752 q753 q106 q754) rfl rfl rfl (by decide +kernel) ⟨Nat.le_of_ble_eq_true rfl, Nat.le_of_ble_eq_true rfl⟩) ⟨xPc.blind, va_recv hK (xO_W hW 0 (by decide)) (ci := 4) (q0 := 0) rfl rfl, F.pre hW hS (.ref (xa E (xwc 0 0)) :: [.ref (xa E (xwc 2 0))])⟩ rfl rfl hl.1 rfl (lv_room (Nat.le_of_ble_eq_true rfl)) dX0_ahead_60 ⟨Nat.le_refl _, Nat.le_refl _⟩) hS (fun H locs hW hS => ?_)
              refine lv_iload_n hx hb dX0_ahead_63 rfl (lv_at hl 0 rfl) ?_
              obtain ⟨h1, h2⟩ := Prod.mk.inj (Option.some.inj h); subst h1; subst h2
              exact x_iret F hr hlk hW hS dX0_ahead_64
          · rw [if_neg hi9] at h; cases h
    · rw [if_pos c4] at h
      refine lv_aload_n hx hb dX0_ahead_18 rfl (lv_at hl 0 rfl) ?_
      refine lv_iconst (v := 0) hx hb dX0_ahead_19 (by decide) ?_
      cases g12 : fX0_finding σ 0 with
      | none => rw [g12] at h; cases h
      | some r13 =>
        rw [g12, Option.bind_some] at h
        refine x_backi (va_runV (C := RX0) (b := (xa E 0)) (As := [.int 0]) (rest := []) F.1 (mX0_finding l E σ 0 r13.1 r13.2 g12) (cwV 1 hts (lw_V q469 q471 qs2 q99 q472) rfl rfl rfl (by decide +kernel) ⟨Nat.le_of_ble_eq_true rfl, Nat.le_of_ble_eq_true rfl⟩) ⟨xPc.blind, va_recv hK (xO_X hW) (ci := 0) (q0 := 0) rfl rfl, F.pre hW hS (.ref (xa E 0) :: [.int 0])⟩ rfl rfl hl.1 rfl (lv_room (Nat.le_of_ble_eq_true rfl)) dX0_ahead_20 ⟨Nat.le_refl _, Nat.le_refl _⟩) hS (fun H locs hW hS => ?_)
        obtain ⟨h1, h2⟩ := Prod.mk.inj (Option.some.inj h); subst h1; subst h2
        exact x_iret F hr hlk hW hS dX0_ahead_23
/-! WildBells.whenIs(II)I -/
def gX0_whenIs_13 (b1 : Int32) (b2 : Int32) : Nat → Int32 → xM → Option (Int32 × xM)
  | 0, _, _ => none
  | n + 1, x3, σ => if b2 < x3 then (some (x3, σ)) else ((fX4_isCaught σ 0 b1).bind (fun r5 => if r5 = 0 then ((fX0_passes_2 σ).bind (fun r8 => gX0_whenIs_13 b1 b2 n (x3 + 1) r8)) else (some (x3, σ))))
def fX0_whenIs (σ : xM) (a1 : Int32) (a2 : Int32) : Option (Int32 × xM) :=
  (fX4_become σ 2 0).bind (fun r2 => (gX0_whenIs_13 a1 a2 xfu 0 r2).bind (fun q10 => if a2 < q10.1 then ((fX4_become q10.2 0 2).bind (fun r13 => some ((-1), r13))) else ((fX4_become q10.2 0 2).bind (fun r15 => some (q10.1, r15)))))
set_option maxHeartbeats 4000000 in
theorem lX0_whenIs_13 {p : Program} {l : Launch} {e : Env} {s : State} {m : MethodId} {av : Array Value} {below : List Frame} {meth : Method} {c : Code} {Q : State → Prop} {E : xE} {b1 : Int32} {b2 : Int32} (F : xFx p m c cX0_whenIs 6 s av RX0 E) : ∀ (n : Nat) (x3 : Int32) (σ : xM) (q : (Int32 × xM)), gX0_whenIs_13 b1 b2 n x3 σ = some q → ∀ (H : Heap) (locs : List Loc) (ls : Array Slot), xW E σ H → va_S (xA E) s.heap H locs → lv_has ls 6 [(3, .int x3), (0, .ref (xa E 0)), (1, .int b1), (2, .int b2)] → (∀ (H : Heap) (locs : List Loc) (ls : Array Slot), xW E q.2 H → va_S (xA E) s.heap H locs → lv_has ls 6 [(3, .int q.1), (0, .ref (xa E 0)), (1, .int b1), (2, .int b2)] → W p l e ({ frames := 14, cells := 0, slots := 0, locals := 304 } : Room) s m av below meth c H locs 0 0 Q (F0 m 39 ls [])) → W p l e ({ frames := 14, cells := 0, slots := 0, locals := 304 } : Room) s m av below meth c H locs 0 0 Q (F0 m 13 ls []) := by
  obtain ⟨hx, hb, hml, hown, hts⟩ := id F.1
  have hK := F.2.1.1
  intro n
  induction n with
  | zero =>
    intro x3 σ q h
    cases h
  | succ n ih =>
    intro x3 σ q h H locs ls hW hS hl kk
    rw [gX0_whenIs_13] at h
    refine lv_iload_n hx hb dX0_whenIs_13 rfl (lv_at hl 0 rfl) ?_
    refine lv_iload_n hx hb dX0_whenIs_14 rfl (lv_at hl 3 rfl) ?_
    refine lv_icmp_gt (tgt := 39) hx hb dX0_whenIs_15 (by decide) (fun c3 => ?_) (fun c3 => ?_)
    · rw [if_pos c3] at h
      have h := Option.some.inj h; subst h
      exact kk _ _ _ hW hS (lv_sub hl [0, 1, 2, 3] rfl)
    · rw [if_neg c3] at h
      refine lv_aload_n hx hb dX0_whenIs_18 rfl (lv_at hl 1 rfl) ?_
      refine va_get (D := xD E) (ci := 0) (v := .ref (xa E (xwc 0 0))) (C := RX0) (T := TX0) (N := 15) hx hb hts in_X0 hown hK (xO_X hW) 0 rfl rfl 3 (by decide) (hts _ q416) (fun _ h9 => h9) rfl dX0_whenIs_19 ?_
      refine lv_iload_n hx hb dX0_whenIs_22 rfl (lv_at hl 2 rfl) ?_
      cases g4 : fX4_isCaught σ 0 b1 with
      | none => rw [g4] at h; cases h
      | some r5 =>
        rw [g4, Option.bind_some] at h
        refine x_backi (va_runV (C := RX4) (b := (xa E (xwc 0 0))) (As := [.int b1]) (rest := []) F.1 (mX4_isCaught l E σ 0 (by decide) b1 r5 g4) (cwV 1 hts (lw_V q616 q487 q488 q106 q489) rfl rfl rfl (by decide +kernel) ⟨Nat.le_of_ble_eq_true rfl, Nat.le_of_ble_eq_true rfl⟩) ⟨xPc.blind, va_recv hK (xO_W hW 0 (by decide)) (ci := 4) (q0 := 0) rfl rfl, F.pre hW hS (.ref (xa E (xwc 0 0)) :: [.int b1])⟩ rfl rfl hl.1 rfl (lv_room (Nat.le_of_ble_eq_true rfl)) dX0_whenIs_23 ⟨Nat.le_refl _, Nat.le_refl _⟩) hS (fun H locs hW hS => ?_)
        refine lv_if_ne (tgt := 39) hx hb dX0_whenIs_26 (by decide) (fun c6 => ?_) (fun c6 => ?_)
        · rw [if_neg c6] at h
          have h := Option.some.inj h; subst h
          exact kk _ _ _ hW hS (lv_sub hl [0, 1, 2, 3] rfl)
        · rw [if_pos c6] at h
          refine lv_aload_n hx hb dX0_whenIs_29 rfl (lv_at hl 1 rfl) ?_
          cases g7 : fX0_passes_2 σ with
          | none => rw [g7] at h; cases h
          | some r8 =>
            rw [g7, Option.bind_some] at h
            refine x_backv (va_runV (C := RX0) (b := (xa E 0)) (As := []) (rest := []) F.1 (mX0_passes_2 l E σ r8 g7) (cwV 0 hts (lw_V q713 q715 qs10 q99 q716) rfl rfl rfl (by decide +kernel) ⟨Nat.le_of_ble_eq_true rfl, Nat.le_of_ble_eq_true rfl⟩) ⟨xPc.blind, va_recv hK (xO_X hW) (ci := 0) (q0 := 0) rfl rfl, F.pre hW hS (.ref (xa E 0) :: [])⟩ rfl rfl hl.1 rfl (lv_room (Nat.le_of_ble_eq_true rfl)) dX0_whenIs_30 ⟨Nat.le_refl _, Nat.le_refl _⟩) hS (fun H locs hW hS => ?_)
            refine lv_iinc (k := 0) (v := (x3 + 1)) (lv' := [(3, .int (x3 + 1)), (0, .ref (xa E 0)), (1, .int b1), (2, .int b2)]) hx hb dX0_whenIs_33 hl rfl rfl (by decide) rfl (fun ls hl => ?_)
            refine lv_goto (tgt := 13) hx hb dX0_whenIs_36 (by decide) ?_
            exact ih (x3 + 1) r8 _ h _ _ _ hW hS (lv_sub hl [0, 1, 2, 3] rfl) kk
set_option maxHeartbeats 4000000 in
theorem mX0_whenIs (l : Launch) (E : xE) (σ : xM) (a1 : Int32) (a2 : Int32) (r : Int32) (σ' : xM) (h : fX0_whenIs σ a1 a2 = some (r, σ')) : Met l yX0_whenIs (wsW_ yX0_whenIs cX0_whenIs 6 (some .int) [(11, 51, 65, 0), (65, 67, 65, 0)]) ({ frames := 14, cells := 0, slots := 0, locals := 304 } : Room) (xPc E σ [.ref (xa E 0), .int a1, .int a2]) (xQc E (.returned (some (.int r))) σ') 0 0 (xA E) := by
  refine x_ofW (C := RX0) (n := "whenIs") (d := "(II)I") (r := (some .int)) (hh := [(11, 51, 65, 0), (65, 67, 65, 0)]) (by decide) (by first | decide | exact Nat.le_of_ble_eq_true rfl) ?_
  intro p e s m below meth c ls F hr hlk htb hW hS hl
  have hl : lv_has ls 6 [(0, .ref (xa E 0)), (1, .int a1), (2, .int a2)] := hl
  obtain ⟨hx, hb, hml, hown, hts⟩ := id F.1
  have hK := F.2.1.1
  unfold fX0_whenIs at h
  refine lv_aload_n hx hb dX0_whenIs_0 rfl (lv_at hl 0 rfl) ?_
  refine va_get (D := xD E) (ci := 0) (v := .ref (xa E (xwc 2 0))) (C := RX0) (T := TX0) (N := 15) hx hb hts in_X0 hown hK (xO_X hW) 0 rfl rfl 5 (by decide) (hts _ q418) (fun _ h9 => h9) rfl dX0_whenIs_1 ?_
  refine lv_aload_n hx hb dX0_whenIs_4 rfl (lv_at hl 0 rfl) ?_
  refine va_get (D := xD E) (ci := 0) (v := .ref (xa E (xwc 0 0))) (C := RX0) (T := TX0) (N := 15) hx hb hts in_X0 hown hK (xO_X hW) 0 rfl rfl 3 (by decide) (hts _ q416) (fun _ h9 => h9) rfl dX0_whenIs_5 ?_
  cases g1 : fX4_become σ 2 0 with
  | none => rw [g1] at h; cases h
  | some r2 =>
    rw [g1, Option.bind_some] at h
    refine x_backv (va_runV (C := RX4) (b := (xa E (xwc 2 0))) (As := [.ref (xa E (xwc 0 0))]) (rest := []) F.1 (mX4_become l E σ 2 (by decide) 0 (by decide) (by decide) r2 g1) (cwV 1 hts (lw_V q751 q752 q753 q106 q754) rfl rfl rfl (by decide +kernel) ⟨Nat.le_of_ble_eq_true rfl, Nat.le_of_ble_eq_true rfl⟩) ⟨xPc.blind, va_recv hK (xO_W hW 2 (by decide)) (ci := 4) (q0 := 0) rfl rfl, F.pre hW hS (.ref (xa E (xwc 2 0)) :: [.ref (xa E (xwc 0 0))])⟩ rfl rfl hl.1 rfl (lv_room (Nat.le_of_ble_eq_true rfl)) dX0_whenIs_8 ⟨Nat.le_refl _, Nat.le_refl _⟩) hS (fun H locs hW hS => ?_)
    refine lv_iconst (v := 0) hx hb dX0_whenIs_11 (by decide) ?_
    refine lv_istore_n (lv' := [(3, .int 0), (0, .ref (xa E 0)), (1, .int a1), (2, .int a2)]) hx hb dX0_whenIs_12 rfl hl (by decide) rfl (fun ls hl => ?_)
    cases g9 : gX0_whenIs_13 a1 a2 xfu 0 r2 with
    | none => rw [g9] at h; cases h
    | some q10 =>
      rw [g9, Option.bind_some] at h
      refine lX0_whenIs_13 F xfu 0 r2 q10 g9 _ _ _ hW hS (lv_sub hl [0, 1, 2, 3] rfl) (fun H locs ls hW hS hl => ?_)
      refine lv_iload_n hx hb dX0_whenIs_39 rfl (lv_at hl 0 rfl) ?_
      refine lv_iload_n hx hb dX0_whenIs_40 rfl (lv_at hl 3 rfl) ?_
      refine lv_icmp_gt (tgt := 48) hx hb dX0_whenIs_41 (by decide) (fun c11 => ?_) (fun c11 => ?_)
      · rw [if_pos c11] at h
        refine lv_iconst (v := (-1)) hx hb dX0_whenIs_48 (by decide) ?_
        refine lv_istore (lv' := [(4, .int (-1)), (3, .int q10.1), (0, .ref (xa E 0)), (1, .int a1), (2, .int a2)]) hx hb dX0_whenIs_49 hl (by decide) rfl (fun ls hl => ?_)
        refine lv_aload_n hx hb dX0_whenIs_51 rfl (lv_at hl 2 rfl) ?_
        refine va_get (D := xD E) (ci := 0) (v := .ref (xa E (xwc 0 0))) (C := RX0) (T := TX0) (N := 15) hx hb hts in_X0 hown hK (xO_X hW) 0 rfl rfl 3 (by decide) (hts _ q416) (fun _ h9 => h9) rfl dX0_whenIs_52 ?_
        refine lv_aload_n hx hb dX0_whenIs_55 rfl (lv_at hl 2 rfl) ?_
        refine va_get (D := xD E) (ci := 0) (v := .ref (xa E (xwc 2 0))) (C := RX0) (T := TX0) (N := 15) hx hb hts in_X0 hown hK (xO_X hW) 0 rfl rfl 5 (by decide) (hts _ q418) (fun _ h9 => h9) rfl dX0_whenIs_56 ?_
        cases g12 : fX4_become q10.2 0 2 with
        | none => rw [g12] at h; cases h
        | some r13 =>
          rw [g12, Option.bind_some] at h
          refine x_backv (va_runV (C := RX4) (b := (xa E (xwc 0 0))) (As := [.ref (xa E (xwc 2 0))]) (rest := []) F.1 (mX4_become l E q10.2 0 (by decide) 2 (by decide) (by decide) r13 g12) (cwV 1 hts (lw_V q751 q752 q753 q106 q754) rfl rfl rfl (by decide +kernel) ⟨Nat.le_of_ble_eq_true rfl, Nat.le_of_ble_eq_true rfl⟩) ⟨xPc.blind, va_recv hK (xO_W hW 0 (by decide)) (ci := 4) (q0 := 0) rfl rfl, F.pre hW hS (.ref (xa E (xwc 0 0)) :: [.ref (xa E (xwc 2 0))])⟩ rfl rfl hl.1 rfl (lv_room (Nat.le_of_ble_eq_true rfl)) dX0_whenIs_59 ⟨Nat.le_refl _, Nat.le_refl _⟩) hS (fun H locs hW hS => ?_)
          refine lv_iload hx hb dX0_whenIs_62 (lv_at hl 0 rfl) ?_
          obtain ⟨h1, h2⟩ := Prod.mk.inj (Option.some.inj h); subst h1; subst h2
          exact x_iret F hr hlk hW hS dX0_whenIs_64
      · rw [if_neg c11] at h
        refine lv_iload_n hx hb dX0_whenIs_44 rfl (lv_at hl 0 rfl) ?_
        refine lv_goto (tgt := 49) hx hb dX0_whenIs_45 (by decide) ?_
        refine lv_istore (lv' := [(4, .int q10.1), (3, .int q10.1), (0, .ref (xa E 0)), (1, .int a1), (2, .int a2)]) hx hb dX0_whenIs_49 hl (by decide) rfl (fun ls hl => ?_)
        refine lv_aload_n hx hb dX0_whenIs_51 rfl (lv_at hl 2 rfl) ?_
        refine va_get (D := xD E) (ci := 0) (v := .ref (xa E (xwc 0 0))) (C := RX0) (T := TX0) (N := 15) hx hb hts in_X0 hown hK (xO_X hW) 0 rfl rfl 3 (by decide) (hts _ q416) (fun _ h9 => h9) rfl dX0_whenIs_52 ?_
        refine lv_aload_n hx hb dX0_whenIs_55 rfl (lv_at hl 2 rfl) ?_
        refine va_get (D := xD E) (ci := 0) (v := .ref (xa E (xwc 2 0))) (C := RX0) (T := TX0) (N := 15) hx hb hts in_X0 hown hK (xO_X hW) 0 rfl rfl 5 (by decide) (hts _ q418) (fun _ h9 => h9) rfl dX0_whenIs_56 ?_
        cases g14 : fX4_become q10.2 0 2 with
        | none => rw [g14] at h; cases h
        | some r15 =>
          rw [g14, Option.bind_some] at h
          refine x_backv (va_runV (C := RX4) (b := (xa E (xwc 0 0))) (As := [.ref (xa E (xwc 2 0))]) (rest := []) F.1 (mX4_become l E q10.2 0 (by decide) 2 (by decide) (by decide) r15 g14) (cwV 1 hts (lw_V q751 q752 q753 q106 q754) rfl rfl rfl (by decide +kernel) ⟨Nat.le_of_ble_eq_true rfl, Nat.le_of_ble_eq_true rfl⟩) ⟨xPc.blind, va_recv hK (xO_W hW 0 (by decide)) (ci := 4) (q0 := 0) rfl rfl, F.pre hW hS (.ref (xa E (xwc 0 0)) :: [.ref (xa E (xwc 2 0))])⟩ rfl rfl hl.1 rfl (lv_room (Nat.le_of_ble_eq_true rfl)) dX0_whenIs_59 ⟨Nat.le_refl _, Nat.le_refl _⟩) hS (fun H locs hW hS => ?_)
          refine lv_iload hx hb dX0_whenIs_62 (lv_at hl 0 rfl) ?_
          obtain ⟨h1, h2⟩ := Prod.mk.inj (Option.some.inj h); subst h1; subst h2
          exact x_iret F hr hlk hW hS dX0_whenIs_64
/-! WildBells.when(I)I -/
def fX0_when (σ : xM) (a1 : Int32) : Option (Int32 × xM) :=
  if (fX0_isBell σ a1) = 0 then ((fX0_finding σ 0).bind (fun r3 => some (r3.1, r3.2))) else ((fX0_whenIs σ a1 60).bind (fun r5 => (fX0_orNone r5.2 r5.1).bind (fun r7 => some (r7.1, r7.2))))
set_option maxHeartbeats 4000000 in
theorem mX0_when (l : Launch) (E : xE) (σ : xM) (a1 : Int32) (r : Int32) (σ' : xM) (h : fX0_when σ a1 = some (r, σ')) : Met l yX0_when (ws_ yX0_when cX0_when 2 (some .int)) ({ frames := 15, cells := 0, slots := 0, locals := 329 } : Room) (xPc E σ [.ref (xa E 0), .int a1]) (xQc E (.returned (some (.int r))) σ') 0 0 (xA E) := by
  refine x_of (C := RX0) (n := "when") (d := "(I)I") (r := (some .int)) (by decide) rfl (by first | decide | exact Nat.le_of_ble_eq_true rfl) ?_
  intro p e s m below meth c ls F hr hlk hW hS hl
  have hl : lv_has ls 2 [(0, .ref (xa E 0)), (1, .int a1)] := hl
  obtain ⟨hx, hb, hml, hown, hts⟩ := id F.1
  have hK := F.2.1.1
  unfold fX0_when at h
  refine lv_aload_n hx hb dX0_when_0 rfl (lv_at hl 0 rfl) ?_
  refine lv_iload_n hx hb dX0_when_1 rfl (lv_at hl 1 rfl) ?_
  refine x_backi (va_runV (C := RX0) (b := (xa E 0)) (As := [.int a1]) (rest := []) F.1 (mX0_isBell l E σ a1) (cwV 1 hts (lw_V q537 q539 qs3 q99 q540) rfl rfl rfl (by decide +kernel) ⟨Nat.le_of_ble_eq_true rfl, Nat.le_of_ble_eq_true rfl⟩) ⟨xPc.blind, va_recv hK (xO_X hW) (ci := 0) (q0 := 0) rfl rfl, F.pre hW hS (.ref (xa E 0) :: [.int a1])⟩ rfl rfl hl.1 rfl (lv_room (Nat.le_of_ble_eq_true rfl)) dX0_when_2 ⟨Nat.le_refl _, Nat.le_refl _⟩) hS (fun H locs hW hS => ?_)
  refine lv_if_eq (tgt := 22) hx hb dX0_when_5 (by decide) (fun c1 => ?_) (fun c1 => ?_)
  · rw [if_pos c1] at h
    refine lv_aload_n hx hb dX0_when_22 rfl (lv_at hl 0 rfl) ?_
    refine lv_iconst (v := 0) hx hb dX0_when_23 (by decide) ?_
    cases g2 : fX0_finding σ 0 with
    | none => rw [g2] at h; cases h
    | some r3 =>
      rw [g2, Option.bind_some] at h
      refine x_backi (va_runV (C := RX0) (b := (xa E 0)) (As := [.int 0]) (rest := []) F.1 (mX0_finding l E σ 0 r3.1 r3.2 g2) (cwV 1 hts (lw_V q469 q471 qs2 q99 q472) rfl rfl rfl (by decide +kernel) ⟨Nat.le_of_ble_eq_true rfl, Nat.le_of_ble_eq_true rfl⟩) ⟨xPc.blind, va_recv hK (xO_X hW) (ci := 0) (q0 := 0) rfl rfl, F.pre hW hS (.ref (xa E 0) :: [.int 0])⟩ rfl rfl hl.1 rfl (lv_room (Nat.le_of_ble_eq_true rfl)) dX0_when_24 ⟨Nat.le_refl _, Nat.le_refl _⟩) hS (fun H locs hW hS => ?_)
      obtain ⟨h1, h2⟩ := Prod.mk.inj (Option.some.inj h); subst h1; subst h2
      exact x_iret F hr hlk hW hS dX0_when_27
  · rw [if_neg c1] at h
    refine lv_aload_n hx hb dX0_when_8 rfl (lv_at hl 0 rfl) ?_
    refine lv_aload_n hx hb dX0_when_9 rfl (lv_at hl 0 rfl) ?_
    refine lv_iload_n hx hb dX0_when_10 rfl (lv_at hl 1 rfl) ?_
    refine lv_bipush (v := 60) hx hb dX0_when_11 (by decide) ?_
    cases g4 : fX0_whenIs σ a1 60 with
    | none => rw [g4] at h; cases h
    | some r5 =>
      rw [g4, Option.bind_some] at h
      refine x_backi (x_runVW (C := RX0) (n := 2) (b := (xa E 0)) (As := [.int a1, .int 60]) (rest := [.ref (xa E 0)]) F.1 (mX0_whenIs l E σ a1 60 r5.1 r5.2 g4) q768 q770 qs11 q771 q99 rfl rfl (by decide +kernel) ⟨Nat.le_of_ble_eq_true rfl, Nat.le_of_ble_eq_true rfl⟩ ⟨xPc.blind, va_recv hK (xO_X hW) (ci := 0) (q0 := 0) rfl rfl, F.pre hW hS (.ref (xa E 0) :: [.int a1, .int 60])⟩ rfl rfl hl.1 rfl (lv_room (Nat.le_of_ble_eq_true rfl)) dX0_when_13 ⟨Nat.le_refl _, Nat.le_refl _⟩) hS (fun H locs hW hS => ?_)
      cases g6 : fX0_orNone r5.2 r5.1 with
      | none => rw [g6] at h; cases h
      | some r7 =>
        rw [g6, Option.bind_some] at h
        refine x_backi (va_runV (C := RX0) (b := (xa E 0)) (As := [.int r5.1]) (rest := []) F.1 (mX0_orNone l E r5.2 r5.1 r7.1 r7.2 g6) (cwV 1 hts (lw_V q772 q774 qs12 q99 q775) rfl rfl rfl (by decide +kernel) ⟨Nat.le_of_ble_eq_true rfl, Nat.le_of_ble_eq_true rfl⟩) ⟨xPc.blind, va_recv hK (xO_X hW) (ci := 0) (q0 := 0) rfl rfl, F.pre hW hS (.ref (xa E 0) :: [.int r5.1])⟩ rfl rfl hl.1 rfl (lv_room (Nat.le_of_ble_eq_true rfl)) dX0_when_16 ⟨Nat.le_refl _, Nat.le_refl _⟩) hS (fun H locs hW hS => ?_)
        refine lv_goto (tgt := 27) hx hb dX0_when_19 (by decide) ?_
        obtain ⟨h1, h2⟩ := Prod.mk.inj (Option.some.inj h); subst h1; subst h2
        exact x_iret F hr hlk hW hS dX0_when_27
/-! WildBells.areAsTheyWere(I)Z -/
def gX0_areAsTheyWere_19 (σ : xM) : Nat → Int32 → Int32 → Option (Int32 × Int32)
  | 0, _, _ => none
  | n + 1, x2, x3 => if (σ 0 2) ≤ x3 then (some (x2, x3)) else (if x2 = 0 then (gX0_areAsTheyWere_19 σ n 0 (x3 + 1)) else (if xin x3 8 then (if xin x3 8 then (if (σ 8 (x3.toNatClampNeg)) = (σ 0 (146 + 5 * x3.toNatClampNeg + 1)) then (gX0_areAsTheyWere_19 σ n 1 (x3 + 1)) else (gX0_areAsTheyWere_19 σ n 0 (x3 + 1))) else none) else none))
def fX0_areAsTheyWere (σ : xM) (a1 : Int32) : Option Int32 :=
  (fX4_whoIsCaught σ 0).bind (fun r2 => if r2 = a1 then ((gX0_areAsTheyWere_19 σ xfu 1 0).bind (fun q13 => if q13.1 = 0 ∨ q13.1 = 1 then (some q13.1) else none)) else ((gX0_areAsTheyWere_19 σ xfu 0 0).bind (fun q10 => if q10.1 = 0 ∨ q10.1 = 1 then (some q10.1) else none)))
set_option maxHeartbeats 4000000 in
theorem lX0_areAsTheyWere_19 {p : Program} {l : Launch} {e : Env} {s : State} {m : MethodId} {av : Array Value} {below : List Frame} {meth : Method} {c : Code} {Q : State → Prop} {E : xE} {σ : xM} {b1 : Int32} (F : xFx p m c cX0_areAsTheyWere 4 s av RX0 E) : ∀ (n : Nat) (x2 : Int32) (x3 : Int32) (q : (Int32 × Int32)), gX0_areAsTheyWere_19 σ n x2 x3 = some q → ∀ (H : Heap) (locs : List Loc) (ls : Array Slot), xW E σ H → va_S (xA E) s.heap H locs → lv_has ls 4 [(3, .int x3), (2, .int x2), (0, .ref (xa E 0)), (1, .int b1)] → (∀ (H : Heap) (locs : List Loc) (ls : Array Slot), xW E σ H → va_S (xA E) s.heap H locs → lv_has ls 4 [(3, .int q.2), (2, .int q.1), (0, .ref (xa E 0)), (1, .int b1)] → W p l e ({ frames := 2, cells := 0, slots := 0, locals := 43 } : Room) s m av below meth c H locs 0 0 Q (F0 m 66 ls [])) → W p l e ({ frames := 2, cells := 0, slots := 0, locals := 43 } : Room) s m av below meth c H locs 0 0 Q (F0 m 19 ls []) := by
  obtain ⟨hx, hb, hml, hown, hts⟩ := id F.1
  have hK := F.2.1.1
  intro n
  induction n with
  | zero =>
    intro x2 x3 q h
    cases h
  | succ n ih =>
    intro x2 x3 q h H locs ls hW hS hl kk
    rw [gX0_areAsTheyWere_19] at h
    refine lv_iload_n hx hb dX0_areAsTheyWere_19 rfl (lv_at hl 0 rfl) ?_
    refine lv_aload_n hx hb dX0_areAsTheyWere_20 rfl (lv_at hl 2 rfl) ?_
    refine va_get (D := xD E) (ci := 0) (v := .ref (xa E (xwc 0 0))) (C := RX0) (T := TX0) (N := 15) hx hb hts in_X0 hown hK (xO_X hW) 0 rfl rfl 3 (by decide) (hts _ q416) (fun _ h9 => h9) rfl dX0_areAsTheyWere_21 ?_
    refine va_getN (D := xD E) (ci := 4) (v := .int (σ 0 2)) (C := RX4) (T := TX4) (N := 8) hx hb hts in_X4 hown hK (xO_W hW 0 (by decide)) 0 rfl rfl 3 (by decide) (va_Nw.use rfl (F.2.1.2.1 _ q241 rfl)) (fun _ h9 => h9) rfl dX0_areAsTheyWere_24 ?_
    refine lv_icmp_ge (tgt := 66) hx hb dX0_areAsTheyWere_27 (by decide) (fun c4 => ?_) (fun c4 => ?_)
    · rw [if_pos c4] at h
      have h := Option.some.inj h; subst h
      exact kk _ _ _ hW hS (lv_sub hl [0, 1, 2, 3] rfl)
    · rw [if_neg c4] at h
      refine lv_iload_n hx hb dX0_areAsTheyWere_30 rfl (lv_at hl 1 rfl) ?_
      refine lv_if_eq (tgt := 58) hx hb dX0_areAsTheyWere_31 (by decide) (fun c5 => ?_) (fun c5 => ?_)
      · rw [if_pos c5] at h
        refine lv_iconst (v := 0) hx hb dX0_areAsTheyWere_58 (by decide) ?_
        refine lv_istore_n (lv' := [(2, .int 0), (3, .int x3), (0, .ref (xa E 0)), (1, .int b1)]) hx hb dX0_areAsTheyWere_59 rfl hl (by decide) rfl (fun ls hl => ?_)
        refine lv_iinc (k := 1) (v := (x3 + 1)) (lv' := [(3, .int (x3 + 1)), (2, .int 0), (0, .ref (xa E 0)), (1, .int b1)]) hx hb dX0_areAsTheyWere_60 hl rfl rfl (by decide) rfl (fun ls hl => ?_)
        refine lv_goto (tgt := 19) hx hb dX0_areAsTheyWere_63 (by decide) ?_
        exact ih 0 (x3 + 1) _ h _ _ _ hW hS (lv_sub hl [0, 1, 2, 3] rfl) kk
      · rw [if_neg c5] at h
        refine lv_aload_n hx hb dX0_areAsTheyWere_34 rfl (lv_at hl 2 rfl) ?_
        refine va_get (D := xD E) (ci := 0) (v := .ref (xa E 57)) (C := RX0) (T := TX0) (N := 15) hx hb hts in_X0 hown hK (xO_X hW) 0 rfl rfl 11 (by decide) (hts _ q424) (fun _ h9 => h9) rfl dX0_areAsTheyWere_35 ?_
        refine lv_iload_n hx hb dX0_areAsTheyWere_38 rfl (lv_at hl 0 rfl) ?_
        by_cases hi6 : xin x3 8
        · rw [if_pos hi6] at h
          refine va_iald hx hb hK (xV_p hW xp_57) 0 0 rfl rfl hi6 dX0_areAsTheyWere_39 ?_
          refine lv_aload_n hx hb dX0_areAsTheyWere_40 rfl (lv_at hl 2 rfl) ?_
          refine va_get (D := xD E) (ci := 0) (v := .ref (xa E (xwc 0 0))) (C := RX0) (T := TX0) (N := 15) hx hb hts in_X0 hown hK (xO_X hW) 0 rfl rfl 3 (by decide) (hts _ q416) (fun _ h9 => h9) rfl dX0_areAsTheyWere_41 ?_
          refine va_getN (D := xD E) (ci := 4) (v := .ref (xa E (xwc 0 5))) (C := RX4) (T := TX4) (N := 8) hx hb hts in_X4 hown hK (xO_W hW 0 (by decide)) 0 rfl rfl 4 (by decide) (va_Nw.use rfl (F.2.1.2.1 _ q244 rfl)) (fun _ h9 => h9) rfl dX0_areAsTheyWere_44 ?_
          refine lv_iconst (v := 1) hx hb dX0_areAsTheyWere_47 (by decide) ?_
          refine x_aald (g := fun j => xa E (xwc 0 (6 + j))) (j := 1) F 4 4 5 (xR_5 hW 0 (by decide)) rfl rfl (x_lit (by decide)) (by decide) dX0_areAsTheyWere_48 ?_
          refine lv_iload_n hx hb dX0_areAsTheyWere_49 rfl (lv_at hl 0 rfl) ?_
          by_cases hi7 : xin x3 8
          · rw [if_pos hi7] at h
            refine va_iald hx hb hK (xV_6 hW 0 1 (by decide) (by decide)) 0 0 rfl rfl hi7 dX0_areAsTheyWere_50 ?_
            refine lv_icmp_ne (tgt := 58) hx hb dX0_areAsTheyWere_51 (by decide) (fun c8 => ?_) (fun c8 => ?_)
            · rw [if_neg c8] at h
              refine lv_iconst (v := 0) hx hb dX0_areAsTheyWere_58 (by decide) ?_
              refine lv_istore_n (lv' := [(2, .int 0), (3, .int x3), (0, .ref (xa E 0)), (1, .int b1)]) hx hb dX0_areAsTheyWere_59 rfl hl (by decide) rfl (fun ls hl => ?_)
              refine lv_iinc (k := 1) (v := (x3 + 1)) (lv' := [(3, .int (x3 + 1)), (2, .int 0), (0, .ref (xa E 0)), (1, .int b1)]) hx hb dX0_areAsTheyWere_60 hl rfl rfl (by decide) rfl (fun ls hl => ?_)
              refine lv_goto (tgt := 19) hx hb dX0_areAsTheyWere_63 (by decide) ?_
              exact ih 0 (x3 + 1) _ h _ _ _ hW hS (lv_sub hl [0, 1, 2, 3] rfl) kk
            · rw [if_pos c8] at h
              refine lv_iconst (v := 1) hx hb dX0_areAsTheyWere_54 (by decide) ?_
              refine lv_goto (tgt := 59) hx hb dX0_areAsTheyWere_55 (by decide) ?_
              refine lv_istore_n (lv' := [(2, .int 1), (3, .int x3), (0, .ref (xa E 0)), (1, .int b1)]) hx hb dX0_areAsTheyWere_59 rfl hl (by decide) rfl (fun ls hl => ?_)
              refine lv_iinc (k := 1) (v := (x3 + 1)) (lv' := [(3, .int (x3 + 1)), (2, .int 1), (0, .ref (xa E 0)), (1, .int b1)]) hx hb dX0_areAsTheyWere_60 hl rfl rfl (by decide) rfl (fun ls hl => ?_)
              refine lv_goto (tgt := 19) hx hb dX0_areAsTheyWere_63 (by decide) ?_
              exact ih 1 (x3 + 1) _ h _ _ _ hW hS (lv_sub hl [0, 1, 2, 3] rfl) kk
          · rw [if_neg hi7] at h; cases h
        · rw [if_neg hi6] at h; cases h
set_option maxHeartbeats 4000000 in
theorem mX0_areAsTheyWere (l : Launch) (E : xE) (σ : xM) (a1 : Int32) (r : Int32) (h : fX0_areAsTheyWere σ a1 = some r) : Met l yX0_areAsTheyWere (ws_ yX0_areAsTheyWere cX0_areAsTheyWere 4 (some .boolean)) ({ frames := 2, cells := 0, slots := 0, locals := 43 } : Room) (xPc E σ [.ref (xa E 0), .int a1]) (xQc E (.returned (some (.int r))) σ) 0 0 (xA E) := by
  refine x_of (C := RX0) (n := "areAsTheyWere") (d := "(I)Z") (r := (some .boolean)) (by decide) rfl (by first | decide | exact Nat.le_of_ble_eq_true rfl) ?_
  intro p e s m below meth c ls F hr hlk hW hS hl
  have hl : lv_has ls 4 [(0, .ref (xa E 0)), (1, .int a1)] := hl
  obtain ⟨hx, hb, hml, hown, hts⟩ := id F.1
  have hK := F.2.1.1
  unfold fX0_areAsTheyWere at h
  refine lv_aload_n hx hb dX0_areAsTheyWere_0 rfl (lv_at hl 0 rfl) ?_
  refine va_get (D := xD E) (ci := 0) (v := .ref (xa E (xwc 0 0))) (C := RX0) (T := TX0) (N := 15) hx hb hts in_X0 hown hK (xO_X hW) 0 rfl rfl 3 (by decide) (hts _ q416) (fun _ h9 => h9) rfl dX0_areAsTheyWere_1 ?_
  cases g1 : fX4_whoIsCaught σ 0 with
  | none => rw [g1] at h; cases h
  | some r2 =>
    rw [g1, Option.bind_some] at h
    refine x_backi (va_runV (C := RX4) (b := (xa E (xwc 0 0))) (As := []) (rest := []) F.1 (mX4_whoIsCaught l E σ 0 (by decide) r2 g1) (cwV 0 hts (lw_V q717 q718 q719 q106 q720) rfl rfl rfl (by decide +kernel) ⟨Nat.le_of_ble_eq_true rfl, Nat.le_of_ble_eq_true rfl⟩) ⟨xPc.blind, va_recv hK (xO_W hW 0 (by decide)) (ci := 4) (q0 := 0) rfl rfl, F.pre hW hS (.ref (xa E (xwc 0 0)) :: [])⟩ rfl rfl hl.1 rfl (lv_room (Nat.le_of_ble_eq_true rfl)) dX0_areAsTheyWere_4 ⟨Nat.le_refl _, Nat.le_refl _⟩) hS (fun H locs hW hS => ?_)
    refine lv_iload_n hx hb dX0_areAsTheyWere_7 rfl (lv_at hl 1 rfl) ?_
    refine lv_icmp_ne (tgt := 15) hx hb dX0_areAsTheyWere_8 (by decide) (fun c3 => ?_) (fun c3 => ?_)
    · rw [if_neg c3] at h
      refine lv_iconst (v := 0) hx hb dX0_areAsTheyWere_15 (by decide) ?_
      refine lv_istore_n (lv' := [(2, .int 0), (0, .ref (xa E 0)), (1, .int a1)]) hx hb dX0_areAsTheyWere_16 rfl hl (by decide) rfl (fun ls hl => ?_)
      refine lv_iconst (v := 0) hx hb dX0_areAsTheyWere_17 (by decide) ?_
      refine lv_istore_n (lv' := [(3, .int 0), (2, .int 0), (0, .ref (xa E 0)), (1, .int a1)]) hx hb dX0_areAsTheyWere_18 rfl hl (by decide) rfl (fun ls hl => ?_)
      cases g9 : gX0_areAsTheyWere_19 σ xfu 0 0 with
      | none => rw [g9] at h; cases h
      | some q10 =>
        rw [g9, Option.bind_some] at h
        refine lX0_areAsTheyWere_19 F xfu 0 0 q10 g9 _ _ _ hW hS (lv_sub hl [0, 1, 2, 3] rfl) (fun H locs ls hW hS hl => ?_)
        refine lv_iload_n hx hb dX0_areAsTheyWere_66 rfl (lv_at hl 1 rfl) ?_
        by_cases hz11 : q10.1 = 0 ∨ q10.1 = 1
        · rw [if_pos hz11] at h
          have h := Option.some.inj h; subst h
          exact x_zret F hr hlk hW hS (x_b01 hz11) dX0_areAsTheyWere_67
        · rw [if_neg hz11] at h; cases h
    · rw [if_pos c3] at h
      refine lv_iconst (v := 1) hx hb dX0_areAsTheyWere_11 (by decide) ?_
      refine lv_goto (tgt := 16) hx hb dX0_areAsTheyWere_12 (by decide) ?_
      refine lv_istore_n (lv' := [(2, .int 1), (0, .ref (xa E 0)), (1, .int a1)]) hx hb dX0_areAsTheyWere_16 rfl hl (by decide) rfl (fun ls hl => ?_)
      refine lv_iconst (v := 0) hx hb dX0_areAsTheyWere_17 (by decide) ?_
      refine lv_istore_n (lv' := [(3, .int 0), (2, .int 1), (0, .ref (xa E 0)), (1, .int a1)]) hx hb dX0_areAsTheyWere_18 rfl hl (by decide) rfl (fun ls hl => ?_)
      cases g12 : gX0_areAsTheyWere_19 σ xfu 1 0 with
      | none => rw [g12] at h; cases h
      | some q13 =>
        rw [g12, Option.bind_some] at h
        refine lX0_areAsTheyWere_19 F xfu 1 0 q13 g12 _ _ _ hW hS (lv_sub hl [0, 1, 2, 3] rfl) (fun H locs ls hW hS hl => ?_)
        refine lv_iload_n hx hb dX0_areAsTheyWere_66 rfl (lv_at hl 1 rfl) ?_
        by_cases hz14 : q13.1 = 0 ∨ q13.1 = 1
        · rw [if_pos hz14] at h
          have h := Option.some.inj h; subst h
          exact x_zret F hr hlk hW hS (x_b01 hz14) dX0_areAsTheyWere_67
        · rw [if_neg hz14] at h; cases h
/-! WildBells.stays()Z -/
def fX0_stays (σ : xM) : Option (Int32 × xM) :=
  (fX4_whoIsCaught σ 0).bind (fun r2 => (fX0_passes_2 (xcp σ 57 8 0 (fun j => 146 + 5 * j + 1))).bind (fun r4 => (fX0_areAsTheyWere r4 r2).bind (fun r6 => if r6 = 0 ∨ r6 = 1 then (some (r6, r4)) else none)))
set_option maxHeartbeats 4000000 in
theorem mX0_stays (l : Launch) (E : xE) (σ : xM) (r : Int32) (σ' : xM) (h : fX0_stays σ = some (r, σ')) : Met l yX0_stays (ws_ yX0_stays cX0_stays 2 (some .boolean)) ({ frames := 14, cells := 0, slots := 0, locals := 304 } : Room) (xPc E σ [.ref (xa E 0)]) (xQc E (.returned (some (.int r))) σ') 0 0 (xA E) := by
  refine x_of (C := RX0) (n := "stays") (d := "()Z") (r := (some .boolean)) (by decide) rfl (by first | decide | exact Nat.le_of_ble_eq_true rfl) ?_
  intro p e s m below meth c ls F hr hlk hW hS hl
  have hl : lv_has ls 2 [(0, .ref (xa E 0))] := hl
  obtain ⟨hx, hb, hml, hown, hts⟩ := id F.1
  have hK := F.2.1.1
  unfold fX0_stays at h
  refine lv_aload_n hx hb dX0_stays_0 rfl (lv_at hl 0 rfl) ?_
  refine va_get (D := xD E) (ci := 0) (v := .ref (xa E (xwc 0 0))) (C := RX0) (T := TX0) (N := 15) hx hb hts in_X0 hown hK (xO_X hW) 0 rfl rfl 3 (by decide) (hts _ q416) (fun _ h9 => h9) rfl dX0_stays_1 ?_
  cases g1 : fX4_whoIsCaught σ 0 with
  | none => rw [g1] at h; cases h
  | some r2 =>
    rw [g1, Option.bind_some] at h
    refine x_backi (va_runV (C := RX4) (b := (xa E (xwc 0 0))) (As := []) (rest := []) F.1 (mX4_whoIsCaught l E σ 0 (by decide) r2 g1) (cwV 0 hts (lw_V q717 q718 q719 q106 q720) rfl rfl rfl (by decide +kernel) ⟨Nat.le_of_ble_eq_true rfl, Nat.le_of_ble_eq_true rfl⟩) ⟨xPc.blind, va_recv hK (xO_W hW 0 (by decide)) (ci := 4) (q0 := 0) rfl rfl, F.pre hW hS (.ref (xa E (xwc 0 0)) :: [])⟩ rfl rfl hl.1 rfl (lv_room (Nat.le_of_ble_eq_true rfl)) dX0_stays_4 ⟨Nat.le_refl _, Nat.le_refl _⟩) hS (fun H locs hW hS => ?_)
    refine lv_istore_n (lv' := [(1, .int r2), (0, .ref (xa E 0))]) hx hb dX0_stays_7 rfl hl (by decide) rfl (fun ls hl => ?_)
    refine lv_aload_n hx hb dX0_stays_8 rfl (lv_at hl 1 rfl) ?_
    refine va_get (D := xD E) (ci := 0) (v := .ref (xa E (xwc 0 0))) (C := RX0) (T := TX0) (N := 15) hx hb hts in_X0 hown hK (xO_X hW) 0 rfl rfl 3 (by decide) (hts _ q416) (fun _ h9 => h9) rfl dX0_stays_9 ?_
    refine va_getN (D := xD E) (ci := 4) (v := .ref (xa E (xwc 0 5))) (C := RX4) (T := TX4) (N := 8) hx hb hts in_X4 hown hK (xO_W hW 0 (by decide)) 0 rfl rfl 4 (by decide) (va_Nw.use rfl (F.2.1.2.1 _ q244 rfl)) (fun _ h9 => h9) rfl dX0_stays_12 ?_
    refine lv_iconst (v := 1) hx hb dX0_stays_15 (by decide) ?_
    refine x_aald (g := fun j => xa E (xwc 0 (6 + j))) (j := 1) F 4 4 5 (xR_5 hW 0 (by decide)) rfl rfl (x_lit (by decide)) (by decide) dX0_stays_16 ?_
    refine lv_aload_n hx hb dX0_stays_17 rfl (lv_at hl 1 rfl) ?_
    refine va_get (D := xD E) (ci := 0) (v := .ref (xa E 57)) (C := RX0) (T := TX0) (N := 15) hx hb hts in_X0 hown hK (xO_X hW) 0 rfl rfl 11 (by decide) (hts _ q424) (fun _ h9 => h9) rfl dX0_stays_18 ?_
    refine x_backv (va_runSN (host := "WildBells") (As := [.ref (xa E (xwc 0 (6 + 1))), .ref (xa E 57)]) (rest := []) F.1 (mX4_copy l E σ (xwc 0 (6 + 1)) 8 0 (fun j => 146 + 5 * j + 1) 57 8 (fun j => j) ⟨(xw_lt 0 (by decide) _ (Nat.lt_of_lt_of_le (Nat.add_lt_add_left (by decide) 6 : 6 + 1 < 6 + 5) (by decide))), (xw_6 0 (by decide) 1 (by decide)).1, (xw_6 0 (by decide) 1 (by decide)).2, (by decide)⟩ ⟨xp_57.1, xp_57.2.1, xp_57.2.2.1, xp_57.2.2.2⟩ (by decide) (by decide)) ⟨va_cnB 2 hts (lw_meth q760) rfl rfl rfl (F.2.1.2.1 _ q788 rfl) (hts _ q106) (by decide +kernel) ⟨Nat.le_of_ble_eq_true rfl, Nat.le_of_ble_eq_true rfl⟩, hts _ q759, trivial⟩ ⟨xPc.blind, F.pre hW hS [.ref (xa E (xwc 0 (6 + 1))), .ref (xa E 57)]⟩ rfl rfl hl.1 rfl (lv_room (Nat.le_of_ble_eq_true rfl)) dX0_stays_21 ⟨Nat.le_refl _, Nat.le_refl _⟩) hS (fun H locs hW hS => ?_)
    refine lv_aload_n hx hb dX0_stays_24 rfl (lv_at hl 1 rfl) ?_
    cases g3 : fX0_passes_2 (xcp σ 57 8 0 (fun j => 146 + 5 * j + 1)) with
    | none => rw [g3] at h; cases h
    | some r4 =>
      rw [g3, Option.bind_some] at h
      refine x_backv (va_runV (C := RX0) (b := (xa E 0)) (As := []) (rest := []) F.1 (mX0_passes_2 l E (xcp σ 57 8 0 (fun j => 146 + 5 * j + 1)) r4 g3) (cwV 0 hts (lw_V q713 q715 qs10 q99 q716) rfl rfl rfl (by decide +kernel) ⟨Nat.le_of_ble_eq_true rfl, Nat.le_of_ble_eq_true rfl⟩) ⟨xPc.blind, va_recv hK (xO_X hW) (ci := 0) (q0 := 0) rfl rfl, F.pre hW hS (.ref (xa E 0) :: [])⟩ rfl rfl hl.1 rfl (lv_room (Nat.le_of_ble_eq_true rfl)) dX0_stays_25 ⟨Nat.le_refl _, Nat.le_refl _⟩) hS (fun H locs hW hS => ?_)
      refine lv_aload_n hx hb dX0_stays_28 rfl (lv_at hl 1 rfl) ?_
      refine lv_iload_n hx hb dX0_stays_29 rfl (lv_at hl 0 rfl) ?_
      cases g5 : fX0_areAsTheyWere r4 r2 with
      | none => rw [g5] at h; cases h
      | some r6 =>
        rw [g5, Option.bind_some] at h
        refine x_backi (va_runV (C := RX0) (b := (xa E 0)) (As := [.int r2]) (rest := []) F.1 (mX0_areAsTheyWere l E r4 r2 r6 g5) (cwV 1 hts (lw_V q789 q791 qs15 q99 q792) rfl rfl rfl (by decide +kernel) ⟨Nat.le_of_ble_eq_true rfl, Nat.le_of_ble_eq_true rfl⟩) ⟨xPc.blind, va_recv hK (xO_X hW) (ci := 0) (q0 := 0) rfl rfl, F.pre hW hS (.ref (xa E 0) :: [.int r2])⟩ rfl rfl hl.1 rfl (lv_room (Nat.le_of_ble_eq_true rfl)) dX0_stays_30 ⟨Nat.le_refl _, Nat.le_refl _⟩) hS (fun H locs hW hS => ?_)
        by_cases hz7 : r6 = 0 ∨ r6 = 1
        · rw [if_pos hz7] at h
          obtain ⟨h1, h2⟩ := Prod.mk.inj (Option.some.inj h); subst h1; subst h2
          exact x_zret F hr hlk hW hS (x_b01 hz7) dX0_stays_33
        · rw [if_neg hz7] at h; cases h
/-! WildBells.stillBehind()I -/
def gX0_stillBehind_13  : Nat → Int32 → xM → Option (Int32 × xM)
  | 0, _, _ => none
  | n + 1, x1, σ => if 60 < x1 then (some (x1, σ)) else ((fX0_stays σ).bind (fun r5 => if r5.1 = 0 then (gX0_stillBehind_13 n (x1 + 1) r5.2) else (some (x1, r5.2))))
def fX0_stillBehind (σ : xM) : Option (Int32 × xM) :=
  (fX4_become σ 2 0).bind (fun r2 => (gX0_stillBehind_13 xfu 0 r2).bind (fun q8 => if 60 < q8.1 then ((fX4_become q8.2 0 2).bind (fun r11 => some ((-1), r11))) else ((fX4_become q8.2 0 2).bind (fun r13 => some (q8.1, r13)))))
set_option maxHeartbeats 4000000 in
theorem lX0_stillBehind_13 {p : Program} {l : Launch} {e : Env} {s : State} {m : MethodId} {av : Array Value} {below : List Frame} {meth : Method} {c : Code} {Q : State → Prop} {E : xE} (F : xFx p m c cX0_stillBehind 4 s av RX0 E) : ∀ (n : Nat) (x1 : Int32) (σ : xM) (q : (Int32 × xM)), gX0_stillBehind_13 n x1 σ = some q → ∀ (H : Heap) (locs : List Loc) (ls : Array Slot), xW E σ H → va_S (xA E) s.heap H locs → lv_has ls 4 [(1, .int x1), (0, .ref (xa E 0))] → (∀ (H : Heap) (locs : List Loc) (ls : Array Slot), xW E q.2 H → va_S (xA E) s.heap H locs → lv_has ls 4 [(1, .int q.1), (0, .ref (xa E 0))] → W p l e ({ frames := 15, cells := 0, slots := 0, locals := 325 } : Room) s m av below meth c H locs 0 0 Q (F0 m 32 ls [])) → W p l e ({ frames := 15, cells := 0, slots := 0, locals := 325 } : Room) s m av below meth c H locs 0 0 Q (F0 m 13 ls []) := by
  obtain ⟨hx, hb, hml, hown, hts⟩ := id F.1
  have hK := F.2.1.1
  intro n
  induction n with
  | zero =>
    intro x1 σ q h
    cases h
  | succ n ih =>
    intro x1 σ q h H locs ls hW hS hl kk
    rw [gX0_stillBehind_13] at h
    refine lv_iload_n hx hb dX0_stillBehind_13 rfl (lv_at hl 0 rfl) ?_
    refine lv_bipush (v := 60) hx hb dX0_stillBehind_14 (by decide) ?_
    refine lv_icmp_gt (tgt := 32) hx hb dX0_stillBehind_16 (by decide) (fun c3 => ?_) (fun c3 => ?_)
    · rw [if_pos c3] at h
      have h := Option.some.inj h; subst h
      exact kk _ _ _ hW hS (lv_sub hl [0, 1] rfl)
    · rw [if_neg c3] at h
      refine lv_aload_n hx hb dX0_stillBehind_19 rfl (lv_at hl 1 rfl) ?_
      cases g4 : fX0_stays σ with
      | none => rw [g4] at h; cases h
      | some r5 =>
        rw [g4, Option.bind_some] at h
        refine x_backi (va_runV (C := RX0) (b := (xa E 0)) (As := []) (rest := []) F.1 (mX0_stays l E σ r5.1 r5.2 g4) (cwV 0 hts (lw_V q784 q786 qs14 q99 q787) rfl rfl rfl (by decide +kernel) ⟨Nat.le_of_ble_eq_true rfl, Nat.le_of_ble_eq_true rfl⟩) ⟨xPc.blind, va_recv hK (xO_X hW) (ci := 0) (q0 := 0) rfl rfl, F.pre hW hS (.ref (xa E 0) :: [])⟩ rfl rfl hl.1 rfl (lv_room (Nat.le_of_ble_eq_true rfl)) dX0_stillBehind_20 ⟨Nat.le_refl _, Nat.le_refl _⟩) hS (fun H locs hW hS => ?_)
        refine lv_if_ne (tgt := 32) hx hb dX0_stillBehind_23 (by decide) (fun c6 => ?_) (fun c6 => ?_)
        · rw [if_neg c6] at h
          have h := Option.some.inj h; subst h
          exact kk _ _ _ hW hS (lv_sub hl [0, 1] rfl)
        · rw [if_pos c6] at h
          refine lv_iinc (k := 0) (v := (x1 + 1)) (lv' := [(1, .int (x1 + 1)), (0, .ref (xa E 0))]) hx hb dX0_stillBehind_26 hl rfl rfl (by decide) rfl (fun ls hl => ?_)
          refine lv_goto (tgt := 13) hx hb dX0_stillBehind_29 (by decide) ?_
          exact ih (x1 + 1) r5.2 _ h _ _ _ hW hS (lv_sub hl [0, 1] rfl) kk
set_option maxHeartbeats 4000000 in
theorem mX0_stillBehind (l : Launch) (E : xE) (σ : xM) (r : Int32) (σ' : xM) (h : fX0_stillBehind σ = some (r, σ')) : Met l yX0_stillBehind (wsW_ yX0_stillBehind cX0_stillBehind 4 (some .int) [(11, 44, 57, 0)]) ({ frames := 15, cells := 0, slots := 0, locals := 325 } : Room) (xPc E σ [.ref (xa E 0)]) (xQc E (.returned (some (.int r))) σ') 0 0 (xA E) := by
  refine x_ofW (C := RX0) (n := "stillBehind") (d := "()I") (r := (some .int)) (hh := [(11, 44, 57, 0)]) (by decide) (by first | decide | exact Nat.le_of_ble_eq_true rfl) ?_
  intro p e s m below meth c ls F hr hlk htb hW hS hl
  have hl : lv_has ls 4 [(0, .ref (xa E 0))] := hl
  obtain ⟨hx, hb, hml, hown, hts⟩ := id F.1
  have hK := F.2.1.1
  unfold fX0_stillBehind at h
  refine lv_aload_n hx hb dX0_stillBehind_0 rfl (lv_at hl 0 rfl) ?_
  refine va_get (D := xD E) (ci := 0) (v := .ref (xa E (xwc 2 0))) (C := RX0) (T := TX0) (N := 15) hx hb hts in_X0 hown hK (xO_X hW) 0 rfl rfl 5 (by decide) (hts _ q418) (fun _ h9 => h9) rfl dX0_stillBehind_1 ?_
  refine lv_aload_n hx hb dX0_stillBehind_4 rfl (lv_at hl 0 rfl) ?_
  refine va_get (D := xD E) (ci := 0) (v := .ref (xa E (xwc 0 0))) (C := RX0) (T := TX0) (N := 15) hx hb hts in_X0 hown hK (xO_X hW) 0 rfl rfl 3 (by decide) (hts _ q416) (fun _ h9 => h9) rfl dX0_stillBehind_5 ?_
  cases g1 : fX4_become σ 2 0 with
  | none => rw [g1] at h; cases h
  | some r2 =>
    rw [g1, Option.bind_some] at h
    refine x_backv (va_runV (C := RX4) (b := (xa E (xwc 2 0))) (As := [.ref (xa E (xwc 0 0))]) (rest := []) F.1 (mX4_become l E σ 2 (by decide) 0 (by decide) (by decide) r2 g1) (cwV 1 hts (lw_V q751 q752 q753 q106 q754) rfl rfl rfl (by decide +kernel) ⟨Nat.le_of_ble_eq_true rfl, Nat.le_of_ble_eq_true rfl⟩) ⟨xPc.blind, va_recv hK (xO_W hW 2 (by decide)) (ci := 4) (q0 := 0) rfl rfl, F.pre hW hS (.ref (xa E (xwc 2 0)) :: [.ref (xa E (xwc 0 0))])⟩ rfl rfl hl.1 rfl (lv_room (Nat.le_of_ble_eq_true rfl)) dX0_stillBehind_8 ⟨Nat.le_refl _, Nat.le_refl _⟩) hS (fun H locs hW hS => ?_)
    refine lv_iconst (v := 0) hx hb dX0_stillBehind_11 (by decide) ?_
    refine lv_istore_n (lv' := [(1, .int 0), (0, .ref (xa E 0))]) hx hb dX0_stillBehind_12 rfl hl (by decide) rfl (fun ls hl => ?_)
    cases g7 : gX0_stillBehind_13 xfu 0 r2 with
    | none => rw [g7] at h; cases h
    | some q8 =>
      rw [g7, Option.bind_some] at h
      refine lX0_stillBehind_13 F xfu 0 r2 q8 g7 _ _ _ hW hS (lv_sub hl [0, 1] rfl) (fun H locs ls hW hS hl => ?_)
      refine lv_iload_n hx hb dX0_stillBehind_32 rfl (lv_at hl 0 rfl) ?_
      refine lv_bipush (v := 60) hx hb dX0_stillBehind_33 (by decide) ?_
      refine lv_icmp_gt (tgt := 42) hx hb dX0_stillBehind_35 (by decide) (fun c9 => ?_) (fun c9 => ?_)
      · rw [if_pos c9] at h
        refine lv_iconst (v := (-1)) hx hb dX0_stillBehind_42 (by decide) ?_
        refine lv_istore_n (lv' := [(2, .int (-1)), (1, .int q8.1), (0, .ref (xa E 0))]) hx hb dX0_stillBehind_43 rfl hl (by decide) rfl (fun ls hl => ?_)
        refine lv_aload_n hx hb dX0_stillBehind_44 rfl (lv_at hl 2 rfl) ?_
        refine va_get (D := xD E) (ci := 0) (v := .ref (xa E (xwc 0 0))) (C := RX0) (T := TX0) (N := 15) hx hb hts in_X0 hown hK (xO_X hW) 0 rfl rfl 3 (by decide) (hts _ q416) (fun _ h9 => h9) rfl dX0_stillBehind_45 ?_
        refine lv_aload_n hx hb dX0_stillBehind_48 rfl (lv_at hl 2 rfl) ?_
        refine va_get (D := xD E) (ci := 0) (v := .ref (xa E (xwc 2 0))) (C := RX0) (T := TX0) (N := 15) hx hb hts in_X0 hown hK (xO_X hW) 0 rfl rfl 5 (by decide) (hts _ q418) (fun _ h9 => h9) rfl dX0_stillBehind_49 ?_
        cases g10 : fX4_become q8.2 0 2 with
        | none => rw [g10] at h; cases h
        | some r11 =>
          rw [g10, Option.bind_some] at h
          refine x_backv (va_runV (C := RX4) (b := (xa E (xwc 0 0))) (As := [.ref (xa E (xwc 2 0))]) (rest := []) F.1 (mX4_become l E q8.2 0 (by decide) 2 (by decide) (by decide) r11 g10) (cwV 1 hts (lw_V q751 q752 q753 q106 q754) rfl rfl rfl (by decide +kernel) ⟨Nat.le_of_ble_eq_true rfl, Nat.le_of_ble_eq_true rfl⟩) ⟨xPc.blind, va_recv hK (xO_W hW 0 (by decide)) (ci := 4) (q0 := 0) rfl rfl, F.pre hW hS (.ref (xa E (xwc 0 0)) :: [.ref (xa E (xwc 2 0))])⟩ rfl rfl hl.1 rfl (lv_room (Nat.le_of_ble_eq_true rfl)) dX0_stillBehind_52 ⟨Nat.le_refl _, Nat.le_refl _⟩) hS (fun H locs hW hS => ?_)
          refine lv_iload_n hx hb dX0_stillBehind_55 rfl (lv_at hl 0 rfl) ?_
          obtain ⟨h1, h2⟩ := Prod.mk.inj (Option.some.inj h); subst h1; subst h2
          exact x_iret F hr hlk hW hS dX0_stillBehind_56
      · rw [if_neg c9] at h
        refine lv_iload_n hx hb dX0_stillBehind_38 rfl (lv_at hl 0 rfl) ?_
        refine lv_goto (tgt := 43) hx hb dX0_stillBehind_39 (by decide) ?_
        refine lv_istore_n (lv' := [(2, .int q8.1), (1, .int q8.1), (0, .ref (xa E 0))]) hx hb dX0_stillBehind_43 rfl hl (by decide) rfl (fun ls hl => ?_)
        refine lv_aload_n hx hb dX0_stillBehind_44 rfl (lv_at hl 2 rfl) ?_
        refine va_get (D := xD E) (ci := 0) (v := .ref (xa E (xwc 0 0))) (C := RX0) (T := TX0) (N := 15) hx hb hts in_X0 hown hK (xO_X hW) 0 rfl rfl 3 (by decide) (hts _ q416) (fun _ h9 => h9) rfl dX0_stillBehind_45 ?_
        refine lv_aload_n hx hb dX0_stillBehind_48 rfl (lv_at hl 2 rfl) ?_
        refine va_get (D := xD E) (ci := 0) (v := .ref (xa E (xwc 2 0))) (C := RX0) (T := TX0) (N := 15) hx hb hts in_X0 hown hK (xO_X hW) 0 rfl rfl 5 (by decide) (hts _ q418) (fun _ h9 => h9) rfl dX0_stillBehind_49 ?_
        cases g12 : fX4_become q8.2 0 2 with
        | none => rw [g12] at h; cases h
        | some r13 =>
          rw [g12, Option.bind_some] at h
          refine x_backv (va_runV (C := RX4) (b := (xa E (xwc 0 0))) (As := [.ref (xa E (xwc 2 0))]) (rest := []) F.1 (mX4_become l E q8.2 0 (by decide) 2 (by decide) (by decide) r13 g12) (cwV 1 hts (lw_V q751 q752 q753 q106 q754) rfl rfl rfl (by decide +kernel) ⟨Nat.le_of_ble_eq_true rfl, Nat.le_of_ble_eq_true rfl⟩) ⟨xPc.blind, va_recv hK (xO_W hW 0 (by decide)) (ci := 4) (q0 := 0) rfl rfl, F.pre hW hS (.ref (xa E (xwc 0 0)) :: [.ref (xa E (xwc 2 0))])⟩ rfl rfl hl.1 rfl (lv_room (Nat.le_of_ble_eq_true rfl)) dX0_stillBehind_52 ⟨Nat.le_refl _, Nat.le_refl _⟩) hS (fun H locs hW hS => ?_)
          refine lv_iload_n hx hb dX0_stillBehind_55 rfl (lv_at hl 0 rfl) ?_
          obtain ⟨h1, h2⟩ := Prod.mk.inj (Option.some.inj h); subst h1; subst h2
          exact x_iret F hr hlk hW hS dX0_stillBehind_56
/-! WildBells.still()I -/
def fX0_still (σ : xM) : Option (Int32 × xM) :=
  (fX0_stillBehind σ).bind (fun r2 => (fX0_orNone r2.2 r2.1).bind (fun r4 => some (r4.1, r4.2)))
set_option maxHeartbeats 4000000 in
theorem mX0_still (l : Launch) (E : xE) (σ : xM) (r : Int32) (σ' : xM) (h : fX0_still σ = some (r, σ')) : Met l yX0_still (ws_ yX0_still cX0_still 1 (some .int)) ({ frames := 16, cells := 0, slots := 0, locals := 348 } : Room) (xPc E σ [.ref (xa E 0)]) (xQc E (.returned (some (.int r))) σ') 0 0 (xA E) := by
  refine x_of (C := RX0) (n := "still") (d := "()I") (r := (some .int)) (by decide) rfl (by first | decide | exact Nat.le_of_ble_eq_true rfl) ?_
  intro p e s m below meth c ls F hr hlk hW hS hl
  have hl : lv_has ls 1 [(0, .ref (xa E 0))] := hl
  obtain ⟨hx, hb, hml, hown, hts⟩ := id F.1
  have hK := F.2.1.1
  unfold fX0_still at h
  refine lv_aload_n hx hb dX0_still_0 rfl (lv_at hl 0 rfl) ?_
  refine lv_aload_n hx hb dX0_still_1 rfl (lv_at hl 0 rfl) ?_
  cases g1 : fX0_stillBehind σ with
  | none => rw [g1] at h; cases h
  | some r2 =>
    rw [g1, Option.bind_some] at h
    refine x_backi (x_runVW (C := RX0) (n := 0) (b := (xa E 0)) (As := []) (rest := [.ref (xa E 0)]) F.1 (mX0_stillBehind l E σ r2.1 r2.2 g1) q780 q782 qs13 q783 q99 rfl rfl (by decide +kernel) ⟨Nat.le_of_ble_eq_true rfl, Nat.le_of_ble_eq_true rfl⟩ ⟨xPc.blind, va_recv hK (xO_X hW) (ci := 0) (q0 := 0) rfl rfl, F.pre hW hS (.ref (xa E 0) :: [])⟩ rfl rfl hl.1 rfl (lv_room (Nat.le_of_ble_eq_true rfl)) dX0_still_2 ⟨Nat.le_refl _, Nat.le_refl _⟩) hS (fun H locs hW hS => ?_)
    cases g3 : fX0_orNone r2.2 r2.1 with
    | none => rw [g3] at h; cases h
    | some r4 =>
      rw [g3, Option.bind_some] at h
      refine x_backi (va_runV (C := RX0) (b := (xa E 0)) (As := [.int r2.1]) (rest := []) F.1 (mX0_orNone l E r2.2 r2.1 r4.1 r4.2 g3) (cwV 1 hts (lw_V q772 q774 qs12 q99 q775) rfl rfl rfl (by decide +kernel) ⟨Nat.le_of_ble_eq_true rfl, Nat.le_of_ble_eq_true rfl⟩) ⟨xPc.blind, va_recv hK (xO_X hW) (ci := 0) (q0 := 0) rfl rfl, F.pre hW hS (.ref (xa E 0) :: [.int r2.1])⟩ rfl rfl hl.1 rfl (lv_room (Nat.le_of_ble_eq_true rfl)) dX0_still_5 ⟨Nat.le_refl _, Nat.le_refl _⟩) hS (fun H locs hW hS => ?_)
      obtain ⟨h1, h2⟩ := Prod.mk.inj (Option.some.inj h); subst h1; subst h2
      exact x_iret F hr hlk hW hS dX0_still_8
/-! WildBells.caughtBehind(I)I -/
def fX0_caughtBehind (σ : xM) (a1 : Int32) : Option (Int32 × xM) :=
  (fX4_become σ 2 0).bind (fun r2 => (fX0_passes r2 a1).bind (fun r4 => (fX4_whoIsCaught r4 0).bind (fun r6 => (fX4_become r4 0 2).bind (fun r8 => some (r6, r8)))))
set_option maxHeartbeats 4000000 in
theorem mX0_caughtBehind (l : Launch) (E : xE) (σ : xM) (a1 : Int32) (r : Int32) (σ' : xM) (h : fX0_caughtBehind σ a1 = some (r, σ')) : Met l yX0_caughtBehind (wsW_ yX0_caughtBehind cX0_caughtBehind 4 (some .int) [(11, 24, 37, 0)]) ({ frames := 15, cells := 0, slots := 0, locals := 326 } : Room) (xPc E σ [.ref (xa E 0), .int a1]) (xQc E (.returned (some (.int r))) σ') 0 0 (xA E) := by
  refine x_ofW (C := RX0) (n := "caughtBehind") (d := "(I)I") (r := (some .int)) (hh := [(11, 24, 37, 0)]) (by decide) (by first | decide | exact Nat.le_of_ble_eq_true rfl) ?_
  intro p e s m below meth c ls F hr hlk htb hW hS hl
  have hl : lv_has ls 4 [(0, .ref (xa E 0)), (1, .int a1)] := hl
  obtain ⟨hx, hb, hml, hown, hts⟩ := id F.1
  have hK := F.2.1.1
  unfold fX0_caughtBehind at h
  refine lv_aload_n hx hb dX0_caughtBehind_0 rfl (lv_at hl 0 rfl) ?_
  refine va_get (D := xD E) (ci := 0) (v := .ref (xa E (xwc 2 0))) (C := RX0) (T := TX0) (N := 15) hx hb hts in_X0 hown hK (xO_X hW) 0 rfl rfl 5 (by decide) (hts _ q418) (fun _ h9 => h9) rfl dX0_caughtBehind_1 ?_
  refine lv_aload_n hx hb dX0_caughtBehind_4 rfl (lv_at hl 0 rfl) ?_
  refine va_get (D := xD E) (ci := 0) (v := .ref (xa E (xwc 0 0))) (C := RX0) (T := TX0) (N := 15) hx hb hts in_X0 hown hK (xO_X hW) 0 rfl rfl 3 (by decide) (hts _ q416) (fun _ h9 => h9) rfl dX0_caughtBehind_5 ?_
  cases g1 : fX4_become σ 2 0 with
  | none => rw [g1] at h; cases h
  | some r2 =>
    rw [g1, Option.bind_some] at h
    refine x_backv (va_runV (C := RX4) (b := (xa E (xwc 2 0))) (As := [.ref (xa E (xwc 0 0))]) (rest := []) F.1 (mX4_become l E σ 2 (by decide) 0 (by decide) (by decide) r2 g1) (cwV 1 hts (lw_V q751 q752 q753 q106 q754) rfl rfl rfl (by decide +kernel) ⟨Nat.le_of_ble_eq_true rfl, Nat.le_of_ble_eq_true rfl⟩) ⟨xPc.blind, va_recv hK (xO_W hW 2 (by decide)) (ci := 4) (q0 := 0) rfl rfl, F.pre hW hS (.ref (xa E (xwc 2 0)) :: [.ref (xa E (xwc 0 0))])⟩ rfl rfl hl.1 rfl (lv_room (Nat.le_of_ble_eq_true rfl)) dX0_caughtBehind_8 ⟨Nat.le_refl _, Nat.le_refl _⟩) hS (fun H locs hW hS => ?_)
    refine lv_aload_n hx hb dX0_caughtBehind_11 rfl (lv_at hl 0 rfl) ?_
    refine lv_iload_n hx hb dX0_caughtBehind_12 rfl (lv_at hl 1 rfl) ?_
    cases g3 : fX0_passes r2 a1 with
    | none => rw [g3] at h; cases h
    | some r4 =>
      rw [g3, Option.bind_some] at h
      refine x_backv (va_runV (C := RX0) (b := (xa E 0)) (As := [.int a1]) (rest := []) F.1 (mX0_passes l E r2 a1 r4 g3) (cwV 1 hts (lw_V q709 q711 qs9 q99 q712) rfl rfl rfl (by decide +kernel) ⟨Nat.le_of_ble_eq_true rfl, Nat.le_of_ble_eq_true rfl⟩) ⟨xPc.blind, va_recv hK (xO_X hW) (ci := 0) (q0 := 0) rfl rfl, F.pre hW hS (.ref (xa E 0) :: [.int a1])⟩ rfl rfl hl.1 rfl (lv_room (Nat.le_of_ble_eq_true rfl)) dX0_caughtBehind_13 ⟨Nat.le_refl _, Nat.le_refl _⟩) hS (fun H locs hW hS => ?_)
      refine lv_aload_n hx hb dX0_caughtBehind_16 rfl (lv_at hl 0 rfl) ?_
      refine va_get (D := xD E) (ci := 0) (v := .ref (xa E (xwc 0 0))) (C := RX0) (T := TX0) (N := 15) hx hb hts in_X0 hown hK (xO_X hW) 0 rfl rfl 3 (by decide) (hts _ q416) (fun _ h9 => h9) rfl dX0_caughtBehind_17 ?_
      cases g5 : fX4_whoIsCaught r4 0 with
      | none => rw [g5] at h; cases h
      | some r6 =>
        rw [g5, Option.bind_some] at h
        refine x_backi (va_runV (C := RX4) (b := (xa E (xwc 0 0))) (As := []) (rest := []) F.1 (mX4_whoIsCaught l E r4 0 (by decide) r6 g5) (cwV 0 hts (lw_V q717 q718 q719 q106 q720) rfl rfl rfl (by decide +kernel) ⟨Nat.le_of_ble_eq_true rfl, Nat.le_of_ble_eq_true rfl⟩) ⟨xPc.blind, va_recv hK (xO_W hW 0 (by decide)) (ci := 4) (q0 := 0) rfl rfl, F.pre hW hS (.ref (xa E (xwc 0 0)) :: [])⟩ rfl rfl hl.1 rfl (lv_room (Nat.le_of_ble_eq_true rfl)) dX0_caughtBehind_20 ⟨Nat.le_refl _, Nat.le_refl _⟩) hS (fun H locs hW hS => ?_)
        refine lv_istore_n (lv' := [(2, .int r6), (0, .ref (xa E 0)), (1, .int a1)]) hx hb dX0_caughtBehind_23 rfl hl (by decide) rfl (fun ls hl => ?_)
        refine lv_aload_n hx hb dX0_caughtBehind_24 rfl (lv_at hl 1 rfl) ?_
        refine va_get (D := xD E) (ci := 0) (v := .ref (xa E (xwc 0 0))) (C := RX0) (T := TX0) (N := 15) hx hb hts in_X0 hown hK (xO_X hW) 0 rfl rfl 3 (by decide) (hts _ q416) (fun _ h9 => h9) rfl dX0_caughtBehind_25 ?_
        refine lv_aload_n hx hb dX0_caughtBehind_28 rfl (lv_at hl 1 rfl) ?_
        refine va_get (D := xD E) (ci := 0) (v := .ref (xa E (xwc 2 0))) (C := RX0) (T := TX0) (N := 15) hx hb hts in_X0 hown hK (xO_X hW) 0 rfl rfl 5 (by decide) (hts _ q418) (fun _ h9 => h9) rfl dX0_caughtBehind_29 ?_
        cases g7 : fX4_become r4 0 2 with
        | none => rw [g7] at h; cases h
        | some r8 =>
          rw [g7, Option.bind_some] at h
          refine x_backv (va_runV (C := RX4) (b := (xa E (xwc 0 0))) (As := [.ref (xa E (xwc 2 0))]) (rest := []) F.1 (mX4_become l E r4 0 (by decide) 2 (by decide) (by decide) r8 g7) (cwV 1 hts (lw_V q751 q752 q753 q106 q754) rfl rfl rfl (by decide +kernel) ⟨Nat.le_of_ble_eq_true rfl, Nat.le_of_ble_eq_true rfl⟩) ⟨xPc.blind, va_recv hK (xO_W hW 0 (by decide)) (ci := 4) (q0 := 0) rfl rfl, F.pre hW hS (.ref (xa E (xwc 0 0)) :: [.ref (xa E (xwc 2 0))])⟩ rfl rfl hl.1 rfl (lv_room (Nat.le_of_ble_eq_true rfl)) dX0_caughtBehind_32 ⟨Nat.le_refl _, Nat.le_refl _⟩) hS (fun H locs hW hS => ?_)
          refine lv_iload_n hx hb dX0_caughtBehind_35 rfl (lv_at hl 0 rfl) ?_
          obtain ⟨h1, h2⟩ := Prod.mk.inj (Option.some.inj h); subst h1; subst h2
          exact x_iret F hr hlk hW hS dX0_caughtBehind_36
/-! WildBells.caught(I)I -/
def fX0_caught (σ : xM) (a1 : Int32) : Option (Int32 × xM) :=
  if (fX0_in a1 0 60) = 0 then ((fX0_finding σ 0).bind (fun r3 => some (r3.1, r3.2))) else ((fX0_caughtBehind σ a1).bind (fun r5 => some (r5.1, r5.2)))
set_option maxHeartbeats 4000000 in
theorem mX0_caught (l : Launch) (E : xE) (σ : xM) (a1 : Int32) (r : Int32) (σ' : xM) (h : fX0_caught σ a1 = some (r, σ')) : Met l yX0_caught (ws_ yX0_caught cX0_caught 2 (some .int)) ({ frames := 16, cells := 0, slots := 0, locals := 349 } : Room) (xPc E σ [.ref (xa E 0), .int a1]) (xQc E (.returned (some (.int r))) σ') 0 0 (xA E) := by
  refine x_of (C := RX0) (n := "caught") (d := "(I)I") (r := (some .int)) (by decide) rfl (by first | decide | exact Nat.le_of_ble_eq_true rfl) ?_
  intro p e s m below meth c ls F hr hlk hW hS hl
  have hl : lv_has ls 2 [(0, .ref (xa E 0)), (1, .int a1)] := hl
  obtain ⟨hx, hb, hml, hown, hts⟩ := id F.1
  have hK := F.2.1.1
  unfold fX0_caught at h
  refine lv_iload_n hx hb dX0_caught_0 rfl (lv_at hl 1 rfl) ?_
  refine lv_iconst (v := 0) hx hb dX0_caught_1 (by decide) ?_
  refine lv_bipush (v := 60) hx hb dX0_caught_2 (by decide) ?_
  refine x_backi (va_runS (As := [.int a1, .int 0, .int 60]) (rest := []) F.1 (mX0_in l E σ a1 0 60) (va_cwS 3 hts (lw_S q466 q467 q99 q468) rfl rfl rfl (by decide +kernel) ⟨Nat.le_of_ble_eq_true rfl, Nat.le_of_ble_eq_true rfl⟩) ⟨xPc.blind, F.pre hW hS [.int a1, .int 0, .int 60]⟩ rfl rfl hl.1 rfl (lv_room (Nat.le_of_ble_eq_true rfl)) dX0_caught_4 ⟨Nat.le_refl _, Nat.le_refl _⟩) hS (fun H locs hW hS => ?_)
  refine lv_if_eq (tgt := 18) hx hb dX0_caught_7 (by decide) (fun c1 => ?_) (fun c1 => ?_)
  · rw [if_pos c1] at h
    refine lv_aload_n hx hb dX0_caught_18 rfl (lv_at hl 0 rfl) ?_
    refine lv_iconst (v := 0) hx hb dX0_caught_19 (by decide) ?_
    cases g2 : fX0_finding σ 0 with
    | none => rw [g2] at h; cases h
    | some r3 =>
      rw [g2, Option.bind_some] at h
      refine x_backi (va_runV (C := RX0) (b := (xa E 0)) (As := [.int 0]) (rest := []) F.1 (mX0_finding l E σ 0 r3.1 r3.2 g2) (cwV 1 hts (lw_V q469 q471 qs2 q99 q472) rfl rfl rfl (by decide +kernel) ⟨Nat.le_of_ble_eq_true rfl, Nat.le_of_ble_eq_true rfl⟩) ⟨xPc.blind, va_recv hK (xO_X hW) (ci := 0) (q0 := 0) rfl rfl, F.pre hW hS (.ref (xa E 0) :: [.int 0])⟩ rfl rfl hl.1 rfl (lv_room (Nat.le_of_ble_eq_true rfl)) dX0_caught_20 ⟨Nat.le_refl _, Nat.le_refl _⟩) hS (fun H locs hW hS => ?_)
      obtain ⟨h1, h2⟩ := Prod.mk.inj (Option.some.inj h); subst h1; subst h2
      exact x_iret F hr hlk hW hS dX0_caught_23
  · rw [if_neg c1] at h
    refine lv_aload_n hx hb dX0_caught_10 rfl (lv_at hl 0 rfl) ?_
    refine lv_iload_n hx hb dX0_caught_11 rfl (lv_at hl 1 rfl) ?_
    cases g4 : fX0_caughtBehind σ a1 with
    | none => rw [g4] at h; cases h
    | some r5 =>
      rw [g4, Option.bind_some] at h
      refine x_backi (x_runVW (C := RX0) (n := 1) (b := (xa E 0)) (As := [.int a1]) (rest := []) F.1 (mX0_caughtBehind l E σ a1 r5.1 r5.2 g4) q797 q799 qs16 q800 q99 rfl rfl (by decide +kernel) ⟨Nat.le_of_ble_eq_true rfl, Nat.le_of_ble_eq_true rfl⟩ ⟨xPc.blind, va_recv hK (xO_X hW) (ci := 0) (q0 := 0) rfl rfl, F.pre hW hS (.ref (xa E 0) :: [.int a1])⟩ rfl rfl hl.1 rfl (lv_room (Nat.le_of_ble_eq_true rfl)) dX0_caught_12 ⟨Nat.le_refl _, Nat.le_refl _⟩) hS (fun H locs hW hS => ?_)
      refine lv_goto (tgt := 23) hx hb dX0_caught_15 (by decide) ?_
      obtain ⟨h1, h2⟩ := Prod.mk.inj (Option.some.inj h); subst h1; subst h2
      exact x_iret F hr hlk hW hS dX0_caught_23
/-! WildBells.bestNet(I)I -/
def gX0_bestNet_7 (b1 : Int32) : Nat → Int32 → Int32 → Int32 → xM → Option (Int32 × Int32 × Int32 × xM)
  | 0, _, _, _, _ => none
  | n + 1, x2, x3, x4, σ => if 64 ≤ x4 then (some (x2, x3, x4, σ)) else (if xin x4 64 then (if xin x4 64 then (if (σ 0 (18 + 64 * 0 + x4.toNatClampNeg)) = 1 then (if xin x4 64 then (gX0_bestNet_7 b1 n x2 x3 (x4 + 1) (xup (xup σ 0 (18 + 64 * 0 + x4.toNatClampNeg) 1) 0 (18 + 64 * 0 + x4.toNatClampNeg) (σ 0 (18 + 64 * 0 + x4.toNatClampNeg)))) else none) else ((fX0_whenIs (xup σ 0 (18 + 64 * 0 + x4.toNatClampNeg) 1) b1 20).bind (fun r6 => if xin x4 64 then (if r6.1 = (-1) then (gX0_bestNet_7 b1 n x2 x3 (x4 + 1) (xup r6.2 0 (18 + 64 * 0 + x4.toNatClampNeg) (σ 0 (18 + 64 * 0 + x4.toNatClampNeg)))) else (if x2 = (-1) then (gX0_bestNet_7 b1 n x4 r6.1 (x4 + 1) (xup r6.2 0 (18 + 64 * 0 + x4.toNatClampNeg) (σ 0 (18 + 64 * 0 + x4.toNatClampNeg)))) else (if x3 ≤ r6.1 then (gX0_bestNet_7 b1 n x2 x3 (x4 + 1) (xup r6.2 0 (18 + 64 * 0 + x4.toNatClampNeg) (σ 0 (18 + 64 * 0 + x4.toNatClampNeg)))) else (gX0_bestNet_7 b1 n x4 r6.1 (x4 + 1) (xup r6.2 0 (18 + 64 * 0 + x4.toNatClampNeg) (σ 0 (18 + 64 * 0 + x4.toNatClampNeg))))))) else none))) else none) else none)
def fX0_bestNet (σ : xM) (a1 : Int32) : Option (Int32 × xM) :=
  (gX0_bestNet_7 a1 xfu (-1) 0 0 σ).bind (fun q13 => some (q13.1, q13.2.2.2))
set_option maxHeartbeats 4000000 in
theorem lX0_bestNet_7 {p : Program} {l : Launch} {e : Env} {s : State} {m : MethodId} {av : Array Value} {below : List Frame} {meth : Method} {c : Code} {Q : State → Prop} {E : xE} {b1 : Int32} (F : xFx p m c cX0_bestNet 8 s av RX0 E) : ∀ (n : Nat) (x2 : Int32) (x3 : Int32) (x4 : Int32) (σ : xM) (q : (Int32 × Int32 × Int32 × xM)), gX0_bestNet_7 b1 n x2 x3 x4 σ = some q → ∀ (H : Heap) (locs : List Loc) (ls : Array Slot), xW E σ H → va_S (xA E) s.heap H locs → lv_has ls 8 [(4, .int x4), (3, .int x3), (2, .int x2), (0, .ref (xa E 0)), (1, .int b1)] → (∀ (H : Heap) (locs : List Loc) (ls : Array Slot), xW E q.2.2.2 H → va_S (xA E) s.heap H locs → lv_has ls 8 [(4, .int q.2.2.1), (3, .int q.2.1), (2, .int q.1), (0, .ref (xa E 0)), (1, .int b1)] → W p l e ({ frames := 15, cells := 0, slots := 0, locals := 329 } : Room) s m av below meth c H locs 0 0 Q (F0 m 128 ls [])) → W p l e ({ frames := 15, cells := 0, slots := 0, locals := 329 } : Room) s m av below meth c H locs 0 0 Q (F0 m 7 ls []) := by
  obtain ⟨hx, hb, hml, hown, hts⟩ := id F.1
  have hK := F.2.1.1
  intro n
  induction n with
  | zero =>
    intro x2 x3 x4 σ q h
    cases h
  | succ n ih =>
    intro x2 x3 x4 σ q h H locs ls hW hS hl kk
    rw [gX0_bestNet_7] at h
    refine lv_iload hx hb dX0_bestNet_7 (lv_at hl 0 rfl) ?_
    refine lv_bipush (v := 64) hx hb dX0_bestNet_9 (by decide) ?_
    refine lv_icmp_ge (tgt := 128) hx hb dX0_bestNet_11 (by decide) (fun c1 => ?_) (fun c1 => ?_)
    · rw [if_pos c1] at h
      have h := Option.some.inj h; subst h
      exact kk _ _ _ hW hS (lv_sub hl [0, 1, 2, 3, 4] rfl)
    · rw [if_neg c1] at h
      refine lv_aload_n hx hb dX0_bestNet_14 rfl (lv_at hl 3 rfl) ?_
      refine va_get (D := xD E) (ci := 0) (v := .ref (xa E (xwc 0 0))) (C := RX0) (T := TX0) (N := 15) hx hb hts in_X0 hown hK (xO_X hW) 0 rfl rfl 3 (by decide) (hts _ q416) (fun _ h9 => h9) rfl dX0_bestNet_15 ?_
      refine va_getN (D := xD E) (ci := 4) (v := .ref (xa E (xwc 0 1))) (C := RX4) (T := TX4) (N := 8) hx hb hts in_X4 hown hK (xO_W hW 0 (by decide)) 0 rfl rfl 0 (by decide) (va_Nw.use rfl (F.2.1.2.1 _ q232 rfl)) (fun _ h9 => h9) rfl dX0_bestNet_18 ?_
      refine lv_iconst (v := 0) hx hb dX0_bestNet_21 (by decide) ?_
      refine x_aald (g := fun j => xa E (xwc 0 (2 + j))) (j := 0) F 4 4 2 (xR_1 hW 0 (by decide)) rfl rfl (x_lit (by decide)) (by decide) dX0_bestNet_22 ?_
      refine lv_iload hx hb dX0_bestNet_23 (lv_at hl 0 rfl) ?_
      by_cases hi2 : xin x4 64
      · rw [if_pos hi2] at h
        refine va_iald hx hb hK (xV_2 hW 0 0 (by decide) (by decide)) 0 0 rfl rfl hi2 dX0_bestNet_25 ?_
        refine lv_istore (lv' := [(5, .int (σ 0 (18 + 64 * 0 + x4.toNatClampNeg))), (4, .int x4), (3, .int x3), (2, .int x2), (0, .ref (xa E 0)), (1, .int b1)]) hx hb dX0_bestNet_26 hl (by decide) rfl (fun ls hl => ?_)
        refine lv_aload_n hx hb dX0_bestNet_28 rfl (lv_at hl 4 rfl) ?_
        refine va_get (D := xD E) (ci := 0) (v := .ref (xa E (xwc 0 0))) (C := RX0) (T := TX0) (N := 15) hx hb hts in_X0 hown hK (xO_X hW) 0 rfl rfl 3 (by decide) (hts _ q416) (fun _ h9 => h9) rfl dX0_bestNet_29 ?_
        refine va_getN (D := xD E) (ci := 4) (v := .ref (xa E (xwc 0 1))) (C := RX4) (T := TX4) (N := 8) hx hb hts in_X4 hown hK (xO_W hW 0 (by decide)) 0 rfl rfl 0 (by decide) (va_Nw.use rfl (F.2.1.2.1 _ q232 rfl)) (fun _ h9 => h9) rfl dX0_bestNet_32 ?_
        refine lv_iconst (v := 0) hx hb dX0_bestNet_35 (by decide) ?_
        refine x_aald (g := fun j => xa E (xwc 0 (2 + j))) (j := 0) F 4 4 2 (xR_1 hW 0 (by decide)) rfl rfl (x_lit (by decide)) (by decide) dX0_bestNet_36 ?_
        refine lv_iload hx hb dX0_bestNet_37 (lv_at hl 1 rfl) ?_
        refine lv_iconst (v := 1) hx hb dX0_bestNet_39 (by decide) ?_
        by_cases hi3 : xin x4 64
        · rw [if_pos hi3] at h
          refine x_iast F hW hS (xwc 0 (2 + 0)) 64 0 (fun j => 18 + 64 * 0 + j) (xw_lt 0 (by decide) _ (Nat.lt_of_lt_of_le (Nat.add_lt_add_left (by decide) 2 : 2 + 0 < 2 + 2) (by decide))) (xw_2 0 (by decide) 0 (by decide)).1 (xw_2 0 (by decide) 0 (by decide)).2 (by decide) hi3 dX0_bestNet_40 (fun H locs hW hS => ?_)
          refine lv_iload hx hb dX0_bestNet_41 (lv_at hl 0 rfl) ?_
          refine lv_iconst (v := 1) hx hb dX0_bestNet_43 (by decide) ?_
          refine lv_icmp_ne (tgt := 51) hx hb dX0_bestNet_44 (by decide) (fun c4 => ?_) (fun c4 => ?_)
          · rw [if_neg c4] at h
            refine lv_aload_n hx hb dX0_bestNet_51 rfl (lv_at hl 4 rfl) ?_
            refine lv_iload_n hx hb dX0_bestNet_52 rfl (lv_at hl 5 rfl) ?_
            refine lv_bipush (v := 20) hx hb dX0_bestNet_53 (by decide) ?_
            cases g5 : fX0_whenIs (xup σ 0 (18 + 64 * 0 + x4.toNatClampNeg) 1) b1 20 with
            | none => rw [g5] at h; cases h
            | some r6 =>
              rw [g5, Option.bind_some] at h
              refine x_backi (x_runVW (C := RX0) (n := 2) (b := (xa E 0)) (As := [.int b1, .int 20]) (rest := []) F.1 (mX0_whenIs l E (xup σ 0 (18 + 64 * 0 + x4.toNatClampNeg) 1) b1 20 r6.1 r6.2 g5) q768 q770 qs11 q771 q99 rfl rfl (by decide +kernel) ⟨Nat.le_of_ble_eq_true rfl, Nat.le_of_ble_eq_true rfl⟩ ⟨xPc.blind, va_recv hK (xO_X hW) (ci := 0) (q0 := 0) rfl rfl, F.pre hW hS (.ref (xa E 0) :: [.int b1, .int 20])⟩ rfl rfl hl.1 rfl (lv_room (Nat.le_of_ble_eq_true rfl)) dX0_bestNet_55 ⟨Nat.le_refl _, Nat.le_refl _⟩) hS (fun H locs hW hS => ?_)
              refine lv_istore (lv' := [(6, .int r6.1), (5, .int (σ 0 (18 + 64 * 0 + x4.toNatClampNeg))), (4, .int x4), (3, .int x3), (2, .int x2), (0, .ref (xa E 0)), (1, .int b1)]) hx hb dX0_bestNet_58 hl (by decide) rfl (fun ls hl => ?_)
              refine lv_aload_n hx hb dX0_bestNet_60 rfl (lv_at hl 5 rfl) ?_
              refine va_get (D := xD E) (ci := 0) (v := .ref (xa E (xwc 0 0))) (C := RX0) (T := TX0) (N := 15) hx hb hts in_X0 hown hK (xO_X hW) 0 rfl rfl 3 (by decide) (hts _ q416) (fun _ h9 => h9) rfl dX0_bestNet_61 ?_
              refine va_getN (D := xD E) (ci := 4) (v := .ref (xa E (xwc 0 1))) (C := RX4) (T := TX4) (N := 8) hx hb hts in_X4 hown hK (xO_W hW 0 (by decide)) 0 rfl rfl 0 (by decide) (va_Nw.use rfl (F.2.1.2.1 _ q232 rfl)) (fun _ h9 => h9) rfl dX0_bestNet_64 ?_
              refine lv_iconst (v := 0) hx hb dX0_bestNet_67 (by decide) ?_
              refine x_aald (g := fun j => xa E (xwc 0 (2 + j))) (j := 0) F 4 4 2 (xR_1 hW 0 (by decide)) rfl rfl (x_lit (by decide)) (by decide) dX0_bestNet_68 ?_
              refine lv_iload hx hb dX0_bestNet_69 (lv_at hl 2 rfl) ?_
              refine lv_iload hx hb dX0_bestNet_71 (lv_at hl 1 rfl) ?_
              by_cases hi7 : xin x4 64
              · rw [if_pos hi7] at h
                refine x_iast F hW hS (xwc 0 (2 + 0)) 64 0 (fun j => 18 + 64 * 0 + j) (xw_lt 0 (by decide) _ (Nat.lt_of_lt_of_le (Nat.add_lt_add_left (by decide) 2 : 2 + 0 < 2 + 2) (by decide))) (xw_2 0 (by decide) 0 (by decide)).1 (xw_2 0 (by decide) 0 (by decide)).2 (by decide) hi7 dX0_bestNet_73 (fun H locs hW hS => ?_)
                refine lv_iload hx hb dX0_bestNet_74 (lv_at hl 0 rfl) ?_
                refine lv_iconst (v := (-1)) hx hb dX0_bestNet_76 (by decide) ?_
                refine lv_icmp_eq (tgt := 95) hx hb dX0_bestNet_77 (by decide) (fun c8 => ?_) (fun c8 => ?_)
                · rw [if_pos c8] at h
                  refine lv_iconst (v := 0) hx hb dX0_bestNet_95 (by decide) ?_
                  refine lv_istore (lv' := [(7, .int 0), (6, .int r6.1), (5, .int (σ 0 (18 + 64 * 0 + x4.toNatClampNeg))), (4, .int x4), (3, .int x3), (2, .int x2), (0, .ref (xa E 0)), (1, .int b1)]) hx hb dX0_bestNet_96 hl (by decide) rfl (fun ls hl => ?_)
                  refine lv_iload hx hb dX0_bestNet_98 (lv_at hl 0 rfl) ?_
                  refine lv_if_eq (tgt := 108) hx hb dX0_bestNet_100 (by decide) (fun c => ?_) (fun c => absurd c (by decide))
                  refine lv_iload_n hx hb dX0_bestNet_108 rfl (lv_at hl 5 rfl) ?_
                  refine lv_istore_n (lv' := [(2, .int x2), (7, .int 0), (6, .int r6.1), (5, .int (σ 0 (18 + 64 * 0 + x4.toNatClampNeg))), (4, .int x4), (3, .int x3), (0, .ref (xa E 0)), (1, .int b1)]) hx hb dX0_bestNet_109 rfl hl (by decide) rfl (fun ls hl => ?_)
                  refine lv_iload hx hb dX0_bestNet_110 (lv_at hl 1 rfl) ?_
                  refine lv_if_eq (tgt := 120) hx hb dX0_bestNet_112 (by decide) (fun c => ?_) (fun c => absurd c (by decide))
                  refine lv_iload_n hx hb dX0_bestNet_120 rfl (lv_at hl 5 rfl) ?_
                  refine lv_istore_n (lv' := [(3, .int x3), (2, .int x2), (7, .int 0), (6, .int r6.1), (5, .int (σ 0 (18 + 64 * 0 + x4.toNatClampNeg))), (4, .int x4), (0, .ref (xa E 0)), (1, .int b1)]) hx hb dX0_bestNet_121 rfl hl (by decide) rfl (fun ls hl => ?_)
                  refine lv_iinc (k := 5) (v := (x4 + 1)) (lv' := [(4, .int (x4 + 1)), (3, .int x3), (2, .int x2), (7, .int 0), (6, .int r6.1), (5, .int (σ 0 (18 + 64 * 0 + x4.toNatClampNeg))), (0, .ref (xa E 0)), (1, .int b1)]) hx hb dX0_bestNet_122 hl rfl rfl (by decide) rfl (fun ls hl => ?_)
                  refine lv_goto (tgt := 7) hx hb dX0_bestNet_125 (by decide) ?_
                  exact ih x2 x3 (x4 + 1) (xup r6.2 0 (18 + 64 * 0 + x4.toNatClampNeg) (σ 0 (18 + 64 * 0 + x4.toNatClampNeg))) _ h _ _ _ hW hS (lv_sub hl [0, 1, 2, 6, 7] rfl) kk
                · rw [if_neg c8] at h
                  refine lv_iload_n hx hb dX0_bestNet_80 rfl (lv_at hl 4 rfl) ?_
                  refine lv_iconst (v := (-1)) hx hb dX0_bestNet_81 (by decide) ?_
                  refine lv_icmp_eq (tgt := 91) hx hb dX0_bestNet_82 (by decide) (fun c9 => ?_) (fun c9 => ?_)
                  · rw [if_pos c9] at h
                    refine lv_iconst (v := 1) hx hb dX0_bestNet_91 (by decide) ?_
                    refine lv_goto (tgt := 96) hx hb dX0_bestNet_92 (by decide) ?_
                    refine lv_istore (lv' := [(7, .int 1), (6, .int r6.1), (5, .int (σ 0 (18 + 64 * 0 + x4.toNatClampNeg))), (4, .int x4), (3, .int x3), (2, .int x2), (0, .ref (xa E 0)), (1, .int b1)]) hx hb dX0_bestNet_96 hl (by decide) rfl (fun ls hl => ?_)
                    refine lv_iload hx hb dX0_bestNet_98 (lv_at hl 0 rfl) ?_
                    refine lv_if_eq (tgt := 108) hx hb dX0_bestNet_100 (by decide) (fun c => absurd c (by decide)) (fun c => ?_)
                    refine lv_iload hx hb dX0_bestNet_103 (lv_at hl 3 rfl) ?_
                    refine lv_goto (tgt := 109) hx hb dX0_bestNet_105 (by decide) ?_
                    refine lv_istore_n (lv' := [(2, .int x4), (7, .int 1), (6, .int r6.1), (5, .int (σ 0 (18 + 64 * 0 + x4.toNatClampNeg))), (4, .int x4), (3, .int x3), (0, .ref (xa E 0)), (1, .int b1)]) hx hb dX0_bestNet_109 rfl hl (by decide) rfl (fun ls hl => ?_)
                    refine lv_iload hx hb dX0_bestNet_110 (lv_at hl 1 rfl) ?_
                    refine lv_if_eq (tgt := 120) hx hb dX0_bestNet_112 (by decide) (fun c => absurd c (by decide)) (fun c => ?_)
                    refine lv_iload hx hb dX0_bestNet_115 (lv_at hl 2 rfl) ?_
                    refine lv_goto (tgt := 121) hx hb dX0_bestNet_117 (by decide) ?_
                    refine lv_istore_n (lv' := [(3, .int r6.1), (2, .int x4), (7, .int 1), (6, .int r6.1), (5, .int (σ 0 (18 + 64 * 0 + x4.toNatClampNeg))), (4, .int x4), (0, .ref (xa E 0)), (1, .int b1)]) hx hb dX0_bestNet_121 rfl hl (by decide) rfl (fun ls hl => ?_)
                    refine lv_iinc (k := 5) (v := (x4 + 1)) (lv' := [(4, .int (x4 + 1)), (3, .int r6.1), (2, .int x4), (7, .int 1), (6, .int r6.1), (5, .int (σ 0 (18 + 64 * 0 + x4.toNatClampNeg))), (0, .ref (xa E 0)), (1, .int b1)]) hx hb dX0_bestNet_122 hl rfl rfl (by decide) rfl (fun ls hl => ?_)
                    refine lv_goto (tgt := 7) hx hb dX0_bestNet_125 (by decide) ?_
                    exact ih x4 r6.1 (x4 + 1) (xup r6.2 0 (18 + 64 * 0 + x4.toNatClampNeg) (σ 0 (18 + 64 * 0 + x4.toNatClampNeg))) _ h _ _ _ hW hS (lv_sub hl [0, 1, 2, 6, 7] rfl) kk
                  · rw [if_neg c9] at h
                    refine lv_iload hx hb dX0_bestNet_85 (lv_at hl 0 rfl) ?_
                    refine lv_iload_n hx hb dX0_bestNet_87 rfl (lv_at hl 3 rfl) ?_
                    refine lv_icmp_ge (tgt := 95) hx hb dX0_bestNet_88 (by decide) (fun c10 => ?_) (fun c10 => ?_)
                    · rw [if_pos c10] at h
                      refine lv_iconst (v := 0) hx hb dX0_bestNet_95 (by decide) ?_
                      refine lv_istore (lv' := [(7, .int 0), (6, .int r6.1), (5, .int (σ 0 (18 + 64 * 0 + x4.toNatClampNeg))), (4, .int x4), (3, .int x3), (2, .int x2), (0, .ref (xa E 0)), (1, .int b1)]) hx hb dX0_bestNet_96 hl (by decide) rfl (fun ls hl => ?_)
                      refine lv_iload hx hb dX0_bestNet_98 (lv_at hl 0 rfl) ?_
                      refine lv_if_eq (tgt := 108) hx hb dX0_bestNet_100 (by decide) (fun c => ?_) (fun c => absurd c (by decide))
                      refine lv_iload_n hx hb dX0_bestNet_108 rfl (lv_at hl 5 rfl) ?_
                      refine lv_istore_n (lv' := [(2, .int x2), (7, .int 0), (6, .int r6.1), (5, .int (σ 0 (18 + 64 * 0 + x4.toNatClampNeg))), (4, .int x4), (3, .int x3), (0, .ref (xa E 0)), (1, .int b1)]) hx hb dX0_bestNet_109 rfl hl (by decide) rfl (fun ls hl => ?_)
                      refine lv_iload hx hb dX0_bestNet_110 (lv_at hl 1 rfl) ?_
                      refine lv_if_eq (tgt := 120) hx hb dX0_bestNet_112 (by decide) (fun c => ?_) (fun c => absurd c (by decide))
                      refine lv_iload_n hx hb dX0_bestNet_120 rfl (lv_at hl 5 rfl) ?_
                      refine lv_istore_n (lv' := [(3, .int x3), (2, .int x2), (7, .int 0), (6, .int r6.1), (5, .int (σ 0 (18 + 64 * 0 + x4.toNatClampNeg))), (4, .int x4), (0, .ref (xa E 0)), (1, .int b1)]) hx hb dX0_bestNet_121 rfl hl (by decide) rfl (fun ls hl => ?_)
                      refine lv_iinc (k := 5) (v := (x4 + 1)) (lv' := [(4, .int (x4 + 1)), (3, .int x3), (2, .int x2), (7, .int 0), (6, .int r6.1), (5, .int (σ 0 (18 + 64 * 0 + x4.toNatClampNeg))), (0, .ref (xa E 0)), (1, .int b1)]) hx hb dX0_bestNet_122 hl rfl rfl (by decide) rfl (fun ls hl => ?_)
                      refine lv_goto (tgt := 7) hx hb dX0_bestNet_125 (by decide) ?_
                      exact ih x2 x3 (x4 + 1) (xup r6.2 0 (18 + 64 * 0 + x4.toNatClampNeg) (σ 0 (18 + 64 * 0 + x4.toNatClampNeg))) _ h _ _ _ hW hS (lv_sub hl [0, 1, 2, 6, 7] rfl) kk
                    · rw [if_neg c10] at h
                      refine lv_iconst (v := 1) hx hb dX0_bestNet_91 (by decide) ?_
                      refine lv_goto (tgt := 96) hx hb dX0_bestNet_92 (by decide) ?_
                      refine lv_istore (lv' := [(7, .int 1), (6, .int r6.1), (5, .int (σ 0 (18 + 64 * 0 + x4.toNatClampNeg))), (4, .int x4), (3, .int x3), (2, .int x2), (0, .ref (xa E 0)), (1, .int b1)]) hx hb dX0_bestNet_96 hl (by decide) rfl (fun ls hl => ?_)
                      refine lv_iload hx hb dX0_bestNet_98 (lv_at hl 0 rfl) ?_
                      refine lv_if_eq (tgt := 108) hx hb dX0_bestNet_100 (by decide) (fun c => absurd c (by decide)) (fun c => ?_)
                      refine lv_iload hx hb dX0_bestNet_103 (lv_at hl 3 rfl) ?_
                      refine lv_goto (tgt := 109) hx hb dX0_bestNet_105 (by decide) ?_
                      refine lv_istore_n (lv' := [(2, .int x4), (7, .int 1), (6, .int r6.1), (5, .int (σ 0 (18 + 64 * 0 + x4.toNatClampNeg))), (4, .int x4), (3, .int x3), (0, .ref (xa E 0)), (1, .int b1)]) hx hb dX0_bestNet_109 rfl hl (by decide) rfl (fun ls hl => ?_)
                      refine lv_iload hx hb dX0_bestNet_110 (lv_at hl 1 rfl) ?_
                      refine lv_if_eq (tgt := 120) hx hb dX0_bestNet_112 (by decide) (fun c => absurd c (by decide)) (fun c => ?_)
                      refine lv_iload hx hb dX0_bestNet_115 (lv_at hl 2 rfl) ?_
                      refine lv_goto (tgt := 121) hx hb dX0_bestNet_117 (by decide) ?_
                      refine lv_istore_n (lv' := [(3, .int r6.1), (2, .int x4), (7, .int 1), (6, .int r6.1), (5, .int (σ 0 (18 + 64 * 0 + x4.toNatClampNeg))), (4, .int x4), (0, .ref (xa E 0)), (1, .int b1)]) hx hb dX0_bestNet_121 rfl hl (by decide) rfl (fun ls hl => ?_)
                      refine lv_iinc (k := 5) (v := (x4 + 1)) (lv' := [(4, .int (x4 + 1)), (3, .int r6.1), (2, .int x4), (7, .int 1), (6, .int r6.1), (5, .int (σ 0 (18 + 64 * 0 + x4.toNatClampNeg))), (0, .ref (xa E 0)), (1, .int b1)]) hx hb dX0_bestNet_122 hl rfl rfl (by decide) rfl (fun ls hl => ?_)
                      refine lv_goto (tgt := 7) hx hb dX0_bestNet_125 (by decide) ?_
                      exact ih x4 r6.1 (x4 + 1) (xup r6.2 0 (18 + 64 * 0 + x4.toNatClampNeg) (σ 0 (18 + 64 * 0 + x4.toNatClampNeg))) _ h _ _ _ hW hS (lv_sub hl [0, 1, 2, 6, 7] rfl) kk
              · rw [if_neg hi7] at h; cases h
          · rw [if_pos c4] at h
            refine lv_iconst (v := (-1)) hx hb dX0_bestNet_47 (by decide) ?_
            refine lv_goto (tgt := 58) hx hb dX0_bestNet_48 (by decide) ?_
            refine lv_istore (lv' := [(6, .int (-1)), (5, .int (σ 0 (18 + 64 * 0 + x4.toNatClampNeg))), (4, .int x4), (3, .int x3), (2, .int x2), (0, .ref (xa E 0)), (1, .int b1)]) hx hb dX0_bestNet_58 hl (by decide) rfl (fun ls hl => ?_)
            refine lv_aload_n hx hb dX0_bestNet_60 rfl (lv_at hl 5 rfl) ?_
            refine va_get (D := xD E) (ci := 0) (v := .ref (xa E (xwc 0 0))) (C := RX0) (T := TX0) (N := 15) hx hb hts in_X0 hown hK (xO_X hW) 0 rfl rfl 3 (by decide) (hts _ q416) (fun _ h9 => h9) rfl dX0_bestNet_61 ?_
            refine va_getN (D := xD E) (ci := 4) (v := .ref (xa E (xwc 0 1))) (C := RX4) (T := TX4) (N := 8) hx hb hts in_X4 hown hK (xO_W hW 0 (by decide)) 0 rfl rfl 0 (by decide) (va_Nw.use rfl (F.2.1.2.1 _ q232 rfl)) (fun _ h9 => h9) rfl dX0_bestNet_64 ?_
            refine lv_iconst (v := 0) hx hb dX0_bestNet_67 (by decide) ?_
            refine x_aald (g := fun j => xa E (xwc 0 (2 + j))) (j := 0) F 4 4 2 (xR_1 hW 0 (by decide)) rfl rfl (x_lit (by decide)) (by decide) dX0_bestNet_68 ?_
            refine lv_iload hx hb dX0_bestNet_69 (lv_at hl 2 rfl) ?_
            refine lv_iload hx hb dX0_bestNet_71 (lv_at hl 1 rfl) ?_
            by_cases hi11 : xin x4 64
            · rw [if_pos hi11] at h
              refine x_iast F hW hS (xwc 0 (2 + 0)) 64 0 (fun j => 18 + 64 * 0 + j) (xw_lt 0 (by decide) _ (Nat.lt_of_lt_of_le (Nat.add_lt_add_left (by decide) 2 : 2 + 0 < 2 + 2) (by decide))) (xw_2 0 (by decide) 0 (by decide)).1 (xw_2 0 (by decide) 0 (by decide)).2 (by decide) hi11 dX0_bestNet_73 (fun H locs hW hS => ?_)
              refine lv_iload hx hb dX0_bestNet_74 (lv_at hl 0 rfl) ?_
              refine lv_iconst (v := (-1)) hx hb dX0_bestNet_76 (by decide) ?_
              refine lv_icmp_eq (tgt := 95) hx hb dX0_bestNet_77 (by decide) (fun c => ?_) (fun c => absurd c (by decide))
              refine lv_iconst (v := 0) hx hb dX0_bestNet_95 (by decide) ?_
              refine lv_istore (lv' := [(7, .int 0), (6, .int (-1)), (5, .int (σ 0 (18 + 64 * 0 + x4.toNatClampNeg))), (4, .int x4), (3, .int x3), (2, .int x2), (0, .ref (xa E 0)), (1, .int b1)]) hx hb dX0_bestNet_96 hl (by decide) rfl (fun ls hl => ?_)
              refine lv_iload hx hb dX0_bestNet_98 (lv_at hl 0 rfl) ?_
              refine lv_if_eq (tgt := 108) hx hb dX0_bestNet_100 (by decide) (fun c => ?_) (fun c => absurd c (by decide))
              refine lv_iload_n hx hb dX0_bestNet_108 rfl (lv_at hl 5 rfl) ?_
              refine lv_istore_n (lv' := [(2, .int x2), (7, .int 0), (6, .int (-1)), (5, .int (σ 0 (18 + 64 * 0 + x4.toNatClampNeg))), (4, .int x4), (3, .int x3), (0, .ref (xa E 0)), (1, .int b1)]) hx hb dX0_bestNet_109 rfl hl (by decide) rfl (fun ls hl => ?_)
              refine lv_iload hx hb dX0_bestNet_110 (lv_at hl 1 rfl) ?_
              refine lv_if_eq (tgt := 120) hx hb dX0_bestNet_112 (by decide) (fun c => ?_) (fun c => absurd c (by decide))
              refine lv_iload_n hx hb dX0_bestNet_120 rfl (lv_at hl 5 rfl) ?_
              refine lv_istore_n (lv' := [(3, .int x3), (2, .int x2), (7, .int 0), (6, .int (-1)), (5, .int (σ 0 (18 + 64 * 0 + x4.toNatClampNeg))), (4, .int x4), (0, .ref (xa E 0)), (1, .int b1)]) hx hb dX0_bestNet_121 rfl hl (by decide) rfl (fun ls hl => ?_)
              refine lv_iinc (k := 5) (v := (x4 + 1)) (lv' := [(4, .int (x4 + 1)), (3, .int x3), (2, .int x2), (7, .int 0), (6, .int (-1)), (5, .int (σ 0 (18 + 64 * 0 + x4.toNatClampNeg))), (0, .ref (xa E 0)), (1, .int b1)]) hx hb dX0_bestNet_122 hl rfl rfl (by decide) rfl (fun ls hl => ?_)
              refine lv_goto (tgt := 7) hx hb dX0_bestNet_125 (by decide) ?_
              exact ih x2 x3 (x4 + 1) (xup (xup σ 0 (18 + 64 * 0 + x4.toNatClampNeg) 1) 0 (18 + 64 * 0 + x4.toNatClampNeg) (σ 0 (18 + 64 * 0 + x4.toNatClampNeg))) _ h _ _ _ hW hS (lv_sub hl [0, 1, 2, 6, 7] rfl) kk
            · rw [if_neg hi11] at h; cases h
        · rw [if_neg hi3] at h; cases h
      · rw [if_neg hi2] at h; cases h
set_option maxHeartbeats 4000000 in
theorem mX0_bestNet (l : Launch) (E : xE) (σ : xM) (a1 : Int32) (r : Int32) (σ' : xM) (h : fX0_bestNet σ a1 = some (r, σ')) : Met l yX0_bestNet (ws_ yX0_bestNet cX0_bestNet 8 (some .int)) ({ frames := 15, cells := 0, slots := 0, locals := 329 } : Room) (xPc E σ [.ref (xa E 0), .int a1]) (xQc E (.returned (some (.int r))) σ') 0 0 (xA E) := by
  refine x_of (C := RX0) (n := "bestNet") (d := "(I)I") (r := (some .int)) (by decide) rfl (by first | decide | exact Nat.le_of_ble_eq_true rfl) ?_
  intro p e s m below meth c ls F hr hlk hW hS hl
  have hl : lv_has ls 8 [(0, .ref (xa E 0)), (1, .int a1)] := hl
  obtain ⟨hx, hb, hml, hown, hts⟩ := id F.1
  have hK := F.2.1.1
  unfold fX0_bestNet at h
  refine lv_iconst (v := (-1)) hx hb dX0_bestNet_0 (by decide) ?_
  refine lv_istore_n (lv' := [(2, .int (-1)), (0, .ref (xa E 0)), (1, .int a1)]) hx hb dX0_bestNet_1 rfl hl (by decide) rfl (fun ls hl => ?_)
  refine lv_iconst (v := 0) hx hb dX0_bestNet_2 (by decide) ?_
  refine lv_istore_n (lv' := [(3, .int 0), (2, .int (-1)), (0, .ref (xa E 0)), (1, .int a1)]) hx hb dX0_bestNet_3 rfl hl (by decide) rfl (fun ls hl => ?_)
  refine lv_iconst (v := 0) hx hb dX0_bestNet_4 (by decide) ?_
  refine lv_istore (lv' := [(4, .int 0), (3, .int 0), (2, .int (-1)), (0, .ref (xa E 0)), (1, .int a1)]) hx hb dX0_bestNet_5 hl (by decide) rfl (fun ls hl => ?_)
  cases g12 : gX0_bestNet_7 a1 xfu (-1) 0 0 σ with
  | none => rw [g12] at h; cases h
  | some q13 =>
    rw [g12, Option.bind_some] at h
    refine lX0_bestNet_7 F xfu (-1) 0 0 σ q13 g12 _ _ _ hW hS (lv_sub hl [0, 1, 2, 3, 4] rfl) (fun H locs ls hW hS hl => ?_)
    refine lv_iload_n hx hb dX0_bestNet_128 rfl (lv_at hl 2 rfl) ?_
    obtain ⟨h1, h2⟩ := Prod.mk.inj (Option.some.inj h); subst h1; subst h2
    exact x_iret F hr hlk hW hS dX0_bestNet_129
/-! WildBells.netFor(I)I -/
def fX0_netFor (σ : xM) (a1 : Int32) : Option (Int32 × xM) :=
  if (fX0_isBell σ a1) = 0 then ((fX0_finding σ 0).bind (fun r3 => some (r3.1, r3.2))) else ((fX0_bestNet σ a1).bind (fun r5 => (fX0_orNone r5.2 r5.1).bind (fun r7 => some (r7.1, r7.2))))
set_option maxHeartbeats 4000000 in
theorem mX0_netFor (l : Launch) (E : xE) (σ : xM) (a1 : Int32) (r : Int32) (σ' : xM) (h : fX0_netFor σ a1 = some (r, σ')) : Met l yX0_netFor (ws_ yX0_netFor cX0_netFor 2 (some .int)) ({ frames := 16, cells := 0, slots := 0, locals := 356 } : Room) (xPc E σ [.ref (xa E 0), .int a1]) (xQc E (.returned (some (.int r))) σ') 0 0 (xA E) := by
  refine x_of (C := RX0) (n := "netFor") (d := "(I)I") (r := (some .int)) (by decide) rfl (by first | decide | exact Nat.le_of_ble_eq_true rfl) ?_
  intro p e s m below meth c ls F hr hlk hW hS hl
  have hl : lv_has ls 2 [(0, .ref (xa E 0)), (1, .int a1)] := hl
  obtain ⟨hx, hb, hml, hown, hts⟩ := id F.1
  have hK := F.2.1.1
  unfold fX0_netFor at h
  refine lv_aload_n hx hb dX0_netFor_0 rfl (lv_at hl 0 rfl) ?_
  refine lv_iload_n hx hb dX0_netFor_1 rfl (lv_at hl 1 rfl) ?_
  refine x_backi (va_runV (C := RX0) (b := (xa E 0)) (As := [.int a1]) (rest := []) F.1 (mX0_isBell l E σ a1) (cwV 1 hts (lw_V q537 q539 qs3 q99 q540) rfl rfl rfl (by decide +kernel) ⟨Nat.le_of_ble_eq_true rfl, Nat.le_of_ble_eq_true rfl⟩) ⟨xPc.blind, va_recv hK (xO_X hW) (ci := 0) (q0 := 0) rfl rfl, F.pre hW hS (.ref (xa E 0) :: [.int a1])⟩ rfl rfl hl.1 rfl (lv_room (Nat.le_of_ble_eq_true rfl)) dX0_netFor_2 ⟨Nat.le_refl _, Nat.le_refl _⟩) hS (fun H locs hW hS => ?_)
  refine lv_if_eq (tgt := 20) hx hb dX0_netFor_5 (by decide) (fun c1 => ?_) (fun c1 => ?_)
  · rw [if_pos c1] at h
    refine lv_aload_n hx hb dX0_netFor_20 rfl (lv_at hl 0 rfl) ?_
    refine lv_iconst (v := 0) hx hb dX0_netFor_21 (by decide) ?_
    cases g2 : fX0_finding σ 0 with
    | none => rw [g2] at h; cases h
    | some r3 =>
      rw [g2, Option.bind_some] at h
      refine x_backi (va_runV (C := RX0) (b := (xa E 0)) (As := [.int 0]) (rest := []) F.1 (mX0_finding l E σ 0 r3.1 r3.2 g2) (cwV 1 hts (lw_V q469 q471 qs2 q99 q472) rfl rfl rfl (by decide +kernel) ⟨Nat.le_of_ble_eq_true rfl, Nat.le_of_ble_eq_true rfl⟩) ⟨xPc.blind, va_recv hK (xO_X hW) (ci := 0) (q0 := 0) rfl rfl, F.pre hW hS (.ref (xa E 0) :: [.int 0])⟩ rfl rfl hl.1 rfl (lv_room (Nat.le_of_ble_eq_true rfl)) dX0_netFor_22 ⟨Nat.le_refl _, Nat.le_refl _⟩) hS (fun H locs hW hS => ?_)
      obtain ⟨h1, h2⟩ := Prod.mk.inj (Option.some.inj h); subst h1; subst h2
      exact x_iret F hr hlk hW hS dX0_netFor_25
  · rw [if_neg c1] at h
    refine lv_aload_n hx hb dX0_netFor_8 rfl (lv_at hl 0 rfl) ?_
    refine lv_aload_n hx hb dX0_netFor_9 rfl (lv_at hl 0 rfl) ?_
    refine lv_iload_n hx hb dX0_netFor_10 rfl (lv_at hl 1 rfl) ?_
    cases g4 : fX0_bestNet σ a1 with
    | none => rw [g4] at h; cases h
    | some r5 =>
      rw [g4, Option.bind_some] at h
      refine x_backi (va_runV (C := RX0) (b := (xa E 0)) (As := [.int a1]) (rest := [.ref (xa E 0)]) F.1 (mX0_bestNet l E σ a1 r5.1 r5.2 g4) (cwV 1 hts (lw_V q805 q807 qs17 q99 q808) rfl rfl rfl (by decide +kernel) ⟨Nat.le_of_ble_eq_true rfl, Nat.le_of_ble_eq_true rfl⟩) ⟨xPc.blind, va_recv hK (xO_X hW) (ci := 0) (q0 := 0) rfl rfl, F.pre hW hS (.ref (xa E 0) :: [.int a1])⟩ rfl rfl hl.1 rfl (lv_room (Nat.le_of_ble_eq_true rfl)) dX0_netFor_11 ⟨Nat.le_refl _, Nat.le_refl _⟩) hS (fun H locs hW hS => ?_)
      cases g6 : fX0_orNone r5.2 r5.1 with
      | none => rw [g6] at h; cases h
      | some r7 =>
        rw [g6, Option.bind_some] at h
        refine x_backi (va_runV (C := RX0) (b := (xa E 0)) (As := [.int r5.1]) (rest := []) F.1 (mX0_orNone l E r5.2 r5.1 r7.1 r7.2 g6) (cwV 1 hts (lw_V q772 q774 qs12 q99 q775) rfl rfl rfl (by decide +kernel) ⟨Nat.le_of_ble_eq_true rfl, Nat.le_of_ble_eq_true rfl⟩) ⟨xPc.blind, va_recv hK (xO_X hW) (ci := 0) (q0 := 0) rfl rfl, F.pre hW hS (.ref (xa E 0) :: [.int r5.1])⟩ rfl rfl hl.1 rfl (lv_room (Nat.le_of_ble_eq_true rfl)) dX0_netFor_14 ⟨Nat.le_refl _, Nat.le_refl _⟩) hS (fun H locs hW hS => ?_)
        refine lv_goto (tgt := 25) hx hb dX0_netFor_17 (by decide) ?_
        obtain ⟨h1, h2⟩ := Prod.mk.inj (Option.some.inj h); subst h1; subst h2
        exact x_iret F hr hlk hW hS dX0_netFor_25
/-! WildBells.bestOfAll(I)I -/
def gX0_bestOfAll_7 (b1 : Int32) : Nat → Int32 → Int32 → Int32 → xM → Option (Int32 × Int32 × Int32 × xM)
  | 0, _, _, _, _ => none
  | n + 1, x2, x3, x4, σ => if 64 ≤ x4 then (some (x2, x3, x4, σ)) else (if xin x4 64 then (if xin x4 64 then (if (σ 0 (18 + 64 * 0 + x4.toNatClampNeg)) = 1 then (if xin x4 64 then (if (-1) ≤ x3 then (gX0_bestOfAll_7 b1 n x2 (fJ3_max x3 (-1)) (x4 + 1) (xup (xup σ 0 (18 + 64 * 0 + x4.toNatClampNeg) 1) 0 (18 + 64 * 0 + x4.toNatClampNeg) (σ 0 (18 + 64 * 0 + x4.toNatClampNeg)))) else (gX0_bestOfAll_7 b1 n x4 (fJ3_max x3 (-1)) (x4 + 1) (xup (xup σ 0 (18 + 64 * 0 + x4.toNatClampNeg) 1) 0 (18 + 64 * 0 + x4.toNatClampNeg) (σ 0 (18 + 64 * 0 + x4.toNatClampNeg))))) else none) else ((fX0_caughtBehind (xup σ 0 (18 + 64 * 0 + x4.toNatClampNeg) 1) b1).bind (fun r6 => if xin x4 64 then (if (fX0_ones r6.1) ≤ x3 then (gX0_bestOfAll_7 b1 n x2 (fJ3_max x3 (fX0_ones r6.1)) (x4 + 1) (xup r6.2 0 (18 + 64 * 0 + x4.toNatClampNeg) (σ 0 (18 + 64 * 0 + x4.toNatClampNeg)))) else (gX0_bestOfAll_7 b1 n x4 (fJ3_max x3 (fX0_ones r6.1)) (x4 + 1) (xup r6.2 0 (18 + 64 * 0 + x4.toNatClampNeg) (σ 0 (18 + 64 * 0 + x4.toNatClampNeg))))) else none))) else none) else none)
def fX0_bestOfAll (σ : xM) (a1 : Int32) : Option (Int32 × xM) :=
  (gX0_bestOfAll_7 a1 xfu (-1) (-1) 0 σ).bind (fun q12 => some (q12.1, q12.2.2.2))
set_option maxHeartbeats 4000000 in
theorem lX0_bestOfAll_7 {p : Program} {l : Launch} {e : Env} {s : State} {m : MethodId} {av : Array Value} {below : List Frame} {meth : Method} {c : Code} {Q : State → Prop} {E : xE} {b1 : Int32} (F : xFx p m c cX0_bestOfAll 7 s av RX0 E) : ∀ (n : Nat) (x2 : Int32) (x3 : Int32) (x4 : Int32) (σ : xM) (q : (Int32 × Int32 × Int32 × xM)), gX0_bestOfAll_7 b1 n x2 x3 x4 σ = some q → ∀ (H : Heap) (locs : List Loc) (ls : Array Slot), xW E σ H → va_S (xA E) s.heap H locs → lv_has ls 7 [(4, .int x4), (3, .int x3), (2, .int x2), (0, .ref (xa E 0)), (1, .int b1)] → (∀ (H : Heap) (locs : List Loc) (ls : Array Slot), xW E q.2.2.2 H → va_S (xA E) s.heap H locs → lv_has ls 7 [(4, .int q.2.2.1), (3, .int q.2.1), (2, .int q.1), (0, .ref (xa E 0)), (1, .int b1)] → W p l e ({ frames := 16, cells := 0, slots := 0, locals := 349 } : Room) s m av below meth c H locs 0 0 Q (F0 m 101 ls [])) → W p l e ({ frames := 16, cells := 0, slots := 0, locals := 349 } : Room) s m av below meth c H locs 0 0 Q (F0 m 7 ls []) := by
  obtain ⟨hx, hb, hml, hown, hts⟩ := id F.1
  have hK := F.2.1.1
  intro n
  induction n with
  | zero =>
    intro x2 x3 x4 σ q h
    cases h
  | succ n ih =>
    intro x2 x3 x4 σ q h H locs ls hW hS hl kk
    rw [gX0_bestOfAll_7] at h
    refine lv_iload hx hb dX0_bestOfAll_7 (lv_at hl 0 rfl) ?_
    refine lv_bipush (v := 64) hx hb dX0_bestOfAll_9 (by decide) ?_
    refine lv_icmp_ge (tgt := 101) hx hb dX0_bestOfAll_11 (by decide) (fun c1 => ?_) (fun c1 => ?_)
    · rw [if_pos c1] at h
      have h := Option.some.inj h; subst h
      exact kk _ _ _ hW hS (lv_sub hl [0, 1, 2, 3, 4] rfl)
    · rw [if_neg c1] at h
      refine lv_aload_n hx hb dX0_bestOfAll_14 rfl (lv_at hl 3 rfl) ?_
      refine va_get (D := xD E) (ci := 0) (v := .ref (xa E (xwc 0 0))) (C := RX0) (T := TX0) (N := 15) hx hb hts in_X0 hown hK (xO_X hW) 0 rfl rfl 3 (by decide) (hts _ q416) (fun _ h9 => h9) rfl dX0_bestOfAll_15 ?_
      refine va_getN (D := xD E) (ci := 4) (v := .ref (xa E (xwc 0 1))) (C := RX4) (T := TX4) (N := 8) hx hb hts in_X4 hown hK (xO_W hW 0 (by decide)) 0 rfl rfl 0 (by decide) (va_Nw.use rfl (F.2.1.2.1 _ q232 rfl)) (fun _ h9 => h9) rfl dX0_bestOfAll_18 ?_
      refine lv_iconst (v := 0) hx hb dX0_bestOfAll_21 (by decide) ?_
      refine x_aald (g := fun j => xa E (xwc 0 (2 + j))) (j := 0) F 4 4 2 (xR_1 hW 0 (by decide)) rfl rfl (x_lit (by decide)) (by decide) dX0_bestOfAll_22 ?_
      refine lv_iload hx hb dX0_bestOfAll_23 (lv_at hl 0 rfl) ?_
      by_cases hi2 : xin x4 64
      · rw [if_pos hi2] at h
        refine va_iald hx hb hK (xV_2 hW 0 0 (by decide) (by decide)) 0 0 rfl rfl hi2 dX0_bestOfAll_25 ?_
        refine lv_istore (lv' := [(5, .int (σ 0 (18 + 64 * 0 + x4.toNatClampNeg))), (4, .int x4), (3, .int x3), (2, .int x2), (0, .ref (xa E 0)), (1, .int b1)]) hx hb dX0_bestOfAll_26 hl (by decide) rfl (fun ls hl => ?_)
        refine lv_aload_n hx hb dX0_bestOfAll_28 rfl (lv_at hl 4 rfl) ?_
        refine va_get (D := xD E) (ci := 0) (v := .ref (xa E (xwc 0 0))) (C := RX0) (T := TX0) (N := 15) hx hb hts in_X0 hown hK (xO_X hW) 0 rfl rfl 3 (by decide) (hts _ q416) (fun _ h9 => h9) rfl dX0_bestOfAll_29 ?_
        refine va_getN (D := xD E) (ci := 4) (v := .ref (xa E (xwc 0 1))) (C := RX4) (T := TX4) (N := 8) hx hb hts in_X4 hown hK (xO_W hW 0 (by decide)) 0 rfl rfl 0 (by decide) (va_Nw.use rfl (F.2.1.2.1 _ q232 rfl)) (fun _ h9 => h9) rfl dX0_bestOfAll_32 ?_
        refine lv_iconst (v := 0) hx hb dX0_bestOfAll_35 (by decide) ?_
        refine x_aald (g := fun j => xa E (xwc 0 (2 + j))) (j := 0) F 4 4 2 (xR_1 hW 0 (by decide)) rfl rfl (x_lit (by decide)) (by decide) dX0_bestOfAll_36 ?_
        refine lv_iload hx hb dX0_bestOfAll_37 (lv_at hl 1 rfl) ?_
        refine lv_iconst (v := 1) hx hb dX0_bestOfAll_39 (by decide) ?_
        by_cases hi3 : xin x4 64
        · rw [if_pos hi3] at h
          refine x_iast F hW hS (xwc 0 (2 + 0)) 64 0 (fun j => 18 + 64 * 0 + j) (xw_lt 0 (by decide) _ (Nat.lt_of_lt_of_le (Nat.add_lt_add_left (by decide) 2 : 2 + 0 < 2 + 2) (by decide))) (xw_2 0 (by decide) 0 (by decide)).1 (xw_2 0 (by decide) 0 (by decide)).2 (by decide) hi3 dX0_bestOfAll_40 (fun H locs hW hS => ?_)
          refine lv_iload hx hb dX0_bestOfAll_41 (lv_at hl 0 rfl) ?_
          refine lv_iconst (v := 1) hx hb dX0_bestOfAll_43 (by decide) ?_
          refine lv_icmp_ne (tgt := 51) hx hb dX0_bestOfAll_44 (by decide) (fun c4 => ?_) (fun c4 => ?_)
          · rw [if_neg c4] at h
            refine lv_aload_n hx hb dX0_bestOfAll_51 rfl (lv_at hl 4 rfl) ?_
            refine lv_iload_n hx hb dX0_bestOfAll_52 rfl (lv_at hl 5 rfl) ?_
            cases g5 : fX0_caughtBehind (xup σ 0 (18 + 64 * 0 + x4.toNatClampNeg) 1) b1 with
            | none => rw [g5] at h; cases h
            | some r6 =>
              rw [g5, Option.bind_some] at h
              refine x_backi (x_runVW (C := RX0) (n := 1) (b := (xa E 0)) (As := [.int b1]) (rest := []) F.1 (mX0_caughtBehind l E (xup σ 0 (18 + 64 * 0 + x4.toNatClampNeg) 1) b1 r6.1 r6.2 g5) q797 q799 qs16 q800 q99 rfl rfl (by decide +kernel) ⟨Nat.le_of_ble_eq_true rfl, Nat.le_of_ble_eq_true rfl⟩ ⟨xPc.blind, va_recv hK (xO_X hW) (ci := 0) (q0 := 0) rfl rfl, F.pre hW hS (.ref (xa E 0) :: [.int b1])⟩ rfl rfl hl.1 rfl (lv_room (Nat.le_of_ble_eq_true rfl)) dX0_bestOfAll_53 ⟨Nat.le_refl _, Nat.le_refl _⟩) hS (fun H locs hW hS => ?_)
              refine x_backi (va_runS (As := [.int r6.1]) (rest := []) F.1 (mX0_ones l E r6.2 r6.1) (va_cwS 1 hts (lw_S q721 q722 q99 q723) rfl rfl rfl (by decide +kernel) ⟨Nat.le_of_ble_eq_true rfl, Nat.le_of_ble_eq_true rfl⟩) ⟨xPc.blind, F.pre hW hS [.int r6.1]⟩ rfl rfl hl.1 rfl (lv_room (Nat.le_of_ble_eq_true rfl)) dX0_bestOfAll_56 ⟨Nat.le_refl _, Nat.le_refl _⟩) hS (fun H locs hW hS => ?_)
              refine lv_istore (lv' := [(6, .int (fX0_ones r6.1)), (5, .int (σ 0 (18 + 64 * 0 + x4.toNatClampNeg))), (4, .int x4), (3, .int x3), (2, .int x2), (0, .ref (xa E 0)), (1, .int b1)]) hx hb dX0_bestOfAll_59 hl (by decide) rfl (fun ls hl => ?_)
              refine lv_aload_n hx hb dX0_bestOfAll_61 rfl (lv_at hl 5 rfl) ?_
              refine va_get (D := xD E) (ci := 0) (v := .ref (xa E (xwc 0 0))) (C := RX0) (T := TX0) (N := 15) hx hb hts in_X0 hown hK (xO_X hW) 0 rfl rfl 3 (by decide) (hts _ q416) (fun _ h9 => h9) rfl dX0_bestOfAll_62 ?_
              refine va_getN (D := xD E) (ci := 4) (v := .ref (xa E (xwc 0 1))) (C := RX4) (T := TX4) (N := 8) hx hb hts in_X4 hown hK (xO_W hW 0 (by decide)) 0 rfl rfl 0 (by decide) (va_Nw.use rfl (F.2.1.2.1 _ q232 rfl)) (fun _ h9 => h9) rfl dX0_bestOfAll_65 ?_
              refine lv_iconst (v := 0) hx hb dX0_bestOfAll_68 (by decide) ?_
              refine x_aald (g := fun j => xa E (xwc 0 (2 + j))) (j := 0) F 4 4 2 (xR_1 hW 0 (by decide)) rfl rfl (x_lit (by decide)) (by decide) dX0_bestOfAll_69 ?_
              refine lv_iload hx hb dX0_bestOfAll_70 (lv_at hl 2 rfl) ?_
              refine lv_iload hx hb dX0_bestOfAll_72 (lv_at hl 1 rfl) ?_
              by_cases hi7 : xin x4 64
              · rw [if_pos hi7] at h
                refine x_iast F hW hS (xwc 0 (2 + 0)) 64 0 (fun j => 18 + 64 * 0 + j) (xw_lt 0 (by decide) _ (Nat.lt_of_lt_of_le (Nat.add_lt_add_left (by decide) 2 : 2 + 0 < 2 + 2) (by decide))) (xw_2 0 (by decide) 0 (by decide)).1 (xw_2 0 (by decide) 0 (by decide)).2 (by decide) hi7 dX0_bestOfAll_74 (fun H locs hW hS => ?_)
                refine lv_iload hx hb dX0_bestOfAll_75 (lv_at hl 0 rfl) ?_
                refine lv_iload_n hx hb dX0_bestOfAll_77 rfl (lv_at hl 3 rfl) ?_
                refine lv_icmp_le (tgt := 86) hx hb dX0_bestOfAll_78 (by decide) (fun c8 => ?_) (fun c8 => ?_)
                · rw [if_pos c8] at h
                  refine lv_iload_n hx hb dX0_bestOfAll_86 rfl (lv_at hl 4 rfl) ?_
                  refine lv_istore_n (lv' := [(2, .int x2), (6, .int (fX0_ones r6.1)), (5, .int (σ 0 (18 + 64 * 0 + x4.toNatClampNeg))), (4, .int x4), (3, .int x3), (0, .ref (xa E 0)), (1, .int b1)]) hx hb dX0_bestOfAll_87 rfl hl (by decide) rfl (fun ls hl => ?_)
                  refine lv_iload_n hx hb dX0_bestOfAll_88 rfl (lv_at hl 4 rfl) ?_
                  refine lv_iload hx hb dX0_bestOfAll_89 (lv_at hl 1 rfl) ?_
                  refine x_backi (va_runS (As := [.int x3, .int (fX0_ones r6.1)]) (rest := []) F.1 (mJ3_max l E (xup r6.2 0 (18 + 64 * 0 + x4.toNatClampNeg) (σ 0 (18 + 64 * 0 + x4.toNatClampNeg))) x3 (fX0_ones r6.1)) (va_cwS 2 hts (lw_S q503 q504 q116 q505) rfl rfl rfl (by decide +kernel) ⟨Nat.le_of_ble_eq_true rfl, Nat.le_of_ble_eq_true rfl⟩) ⟨xPc.blind, F.pre hW hS [.int x3, .int (fX0_ones r6.1)]⟩ rfl rfl hl.1 rfl (lv_room (Nat.le_of_ble_eq_true rfl)) dX0_bestOfAll_91 ⟨Nat.le_refl _, Nat.le_refl _⟩) hS (fun H locs hW hS => ?_)
                  refine lv_istore_n (lv' := [(3, .int (fJ3_max x3 (fX0_ones r6.1))), (2, .int x2), (6, .int (fX0_ones r6.1)), (5, .int (σ 0 (18 + 64 * 0 + x4.toNatClampNeg))), (4, .int x4), (0, .ref (xa E 0)), (1, .int b1)]) hx hb dX0_bestOfAll_94 rfl hl (by decide) rfl (fun ls hl => ?_)
                  refine lv_iinc (k := 4) (v := (x4 + 1)) (lv' := [(4, .int (x4 + 1)), (3, .int (fJ3_max x3 (fX0_ones r6.1))), (2, .int x2), (6, .int (fX0_ones r6.1)), (5, .int (σ 0 (18 + 64 * 0 + x4.toNatClampNeg))), (0, .ref (xa E 0)), (1, .int b1)]) hx hb dX0_bestOfAll_95 hl rfl rfl (by decide) rfl (fun ls hl => ?_)
                  refine lv_goto (tgt := 7) hx hb dX0_bestOfAll_98 (by decide) ?_
                  exact ih x2 (fJ3_max x3 (fX0_ones r6.1)) (x4 + 1) (xup r6.2 0 (18 + 64 * 0 + x4.toNatClampNeg) (σ 0 (18 + 64 * 0 + x4.toNatClampNeg))) _ h _ _ _ hW hS (lv_sub hl [0, 1, 2, 5, 6] rfl) kk
                · rw [if_neg c8] at h
                  refine lv_iload hx hb dX0_bestOfAll_81 (lv_at hl 2 rfl) ?_
                  refine lv_goto (tgt := 87) hx hb dX0_bestOfAll_83 (by decide) ?_
                  refine lv_istore_n (lv' := [(2, .int x4), (6, .int (fX0_ones r6.1)), (5, .int (σ 0 (18 + 64 * 0 + x4.toNatClampNeg))), (4, .int x4), (3, .int x3), (0, .ref (xa E 0)), (1, .int b1)]) hx hb dX0_bestOfAll_87 rfl hl (by decide) rfl (fun ls hl => ?_)
                  refine lv_iload_n hx hb dX0_bestOfAll_88 rfl (lv_at hl 4 rfl) ?_
                  refine lv_iload hx hb dX0_bestOfAll_89 (lv_at hl 1 rfl) ?_
                  refine x_backi (va_runS (As := [.int x3, .int (fX0_ones r6.1)]) (rest := []) F.1 (mJ3_max l E (xup r6.2 0 (18 + 64 * 0 + x4.toNatClampNeg) (σ 0 (18 + 64 * 0 + x4.toNatClampNeg))) x3 (fX0_ones r6.1)) (va_cwS 2 hts (lw_S q503 q504 q116 q505) rfl rfl rfl (by decide +kernel) ⟨Nat.le_of_ble_eq_true rfl, Nat.le_of_ble_eq_true rfl⟩) ⟨xPc.blind, F.pre hW hS [.int x3, .int (fX0_ones r6.1)]⟩ rfl rfl hl.1 rfl (lv_room (Nat.le_of_ble_eq_true rfl)) dX0_bestOfAll_91 ⟨Nat.le_refl _, Nat.le_refl _⟩) hS (fun H locs hW hS => ?_)
                  refine lv_istore_n (lv' := [(3, .int (fJ3_max x3 (fX0_ones r6.1))), (2, .int x4), (6, .int (fX0_ones r6.1)), (5, .int (σ 0 (18 + 64 * 0 + x4.toNatClampNeg))), (4, .int x4), (0, .ref (xa E 0)), (1, .int b1)]) hx hb dX0_bestOfAll_94 rfl hl (by decide) rfl (fun ls hl => ?_)
                  refine lv_iinc (k := 4) (v := (x4 + 1)) (lv' := [(4, .int (x4 + 1)), (3, .int (fJ3_max x3 (fX0_ones r6.1))), (2, .int x4), (6, .int (fX0_ones r6.1)), (5, .int (σ 0 (18 + 64 * 0 + x4.toNatClampNeg))), (0, .ref (xa E 0)), (1, .int b1)]) hx hb dX0_bestOfAll_95 hl rfl rfl (by decide) rfl (fun ls hl => ?_)
                  refine lv_goto (tgt := 7) hx hb dX0_bestOfAll_98 (by decide) ?_
                  exact ih x4 (fJ3_max x3 (fX0_ones r6.1)) (x4 + 1) (xup r6.2 0 (18 + 64 * 0 + x4.toNatClampNeg) (σ 0 (18 + 64 * 0 + x4.toNatClampNeg))) _ h _ _ _ hW hS (lv_sub hl [0, 1, 2, 5, 6] rfl) kk
              · rw [if_neg hi7] at h; cases h
          · rw [if_pos c4] at h
            refine lv_iconst (v := (-1)) hx hb dX0_bestOfAll_47 (by decide) ?_
            refine lv_goto (tgt := 59) hx hb dX0_bestOfAll_48 (by decide) ?_
            refine lv_istore (lv' := [(6, .int (-1)), (5, .int (σ 0 (18 + 64 * 0 + x4.toNatClampNeg))), (4, .int x4), (3, .int x3), (2, .int x2), (0, .ref (xa E 0)), (1, .int b1)]) hx hb dX0_bestOfAll_59 hl (by decide) rfl (fun ls hl => ?_)
            refine lv_aload_n hx hb dX0_bestOfAll_61 rfl (lv_at hl 5 rfl) ?_
            refine va_get (D := xD E) (ci := 0) (v := .ref (xa E (xwc 0 0))) (C := RX0) (T := TX0) (N := 15) hx hb hts in_X0 hown hK (xO_X hW) 0 rfl rfl 3 (by decide) (hts _ q416) (fun _ h9 => h9) rfl dX0_bestOfAll_62 ?_
            refine va_getN (D := xD E) (ci := 4) (v := .ref (xa E (xwc 0 1))) (C := RX4) (T := TX4) (N := 8) hx hb hts in_X4 hown hK (xO_W hW 0 (by decide)) 0 rfl rfl 0 (by decide) (va_Nw.use rfl (F.2.1.2.1 _ q232 rfl)) (fun _ h9 => h9) rfl dX0_bestOfAll_65 ?_
            refine lv_iconst (v := 0) hx hb dX0_bestOfAll_68 (by decide) ?_
            refine x_aald (g := fun j => xa E (xwc 0 (2 + j))) (j := 0) F 4 4 2 (xR_1 hW 0 (by decide)) rfl rfl (x_lit (by decide)) (by decide) dX0_bestOfAll_69 ?_
            refine lv_iload hx hb dX0_bestOfAll_70 (lv_at hl 2 rfl) ?_
            refine lv_iload hx hb dX0_bestOfAll_72 (lv_at hl 1 rfl) ?_
            by_cases hi9 : xin x4 64
            · rw [if_pos hi9] at h
              refine x_iast F hW hS (xwc 0 (2 + 0)) 64 0 (fun j => 18 + 64 * 0 + j) (xw_lt 0 (by decide) _ (Nat.lt_of_lt_of_le (Nat.add_lt_add_left (by decide) 2 : 2 + 0 < 2 + 2) (by decide))) (xw_2 0 (by decide) 0 (by decide)).1 (xw_2 0 (by decide) 0 (by decide)).2 (by decide) hi9 dX0_bestOfAll_74 (fun H locs hW hS => ?_)
              refine lv_iload hx hb dX0_bestOfAll_75 (lv_at hl 0 rfl) ?_
              refine lv_iload_n hx hb dX0_bestOfAll_77 rfl (lv_at hl 3 rfl) ?_
              refine lv_icmp_le (tgt := 86) hx hb dX0_bestOfAll_78 (by decide) (fun c10 => ?_) (fun c10 => ?_)
              · rw [if_pos c10] at h
                refine lv_iload_n hx hb dX0_bestOfAll_86 rfl (lv_at hl 4 rfl) ?_
                refine lv_istore_n (lv' := [(2, .int x2), (6, .int (-1)), (5, .int (σ 0 (18 + 64 * 0 + x4.toNatClampNeg))), (4, .int x4), (3, .int x3), (0, .ref (xa E 0)), (1, .int b1)]) hx hb dX0_bestOfAll_87 rfl hl (by decide) rfl (fun ls hl => ?_)
                refine lv_iload_n hx hb dX0_bestOfAll_88 rfl (lv_at hl 4 rfl) ?_
                refine lv_iload hx hb dX0_bestOfAll_89 (lv_at hl 1 rfl) ?_
                refine x_backi (va_runS (As := [.int x3, .int (-1)]) (rest := []) F.1 (mJ3_max l E (xup (xup σ 0 (18 + 64 * 0 + x4.toNatClampNeg) 1) 0 (18 + 64 * 0 + x4.toNatClampNeg) (σ 0 (18 + 64 * 0 + x4.toNatClampNeg))) x3 (-1)) (va_cwS 2 hts (lw_S q503 q504 q116 q505) rfl rfl rfl (by decide +kernel) ⟨Nat.le_of_ble_eq_true rfl, Nat.le_of_ble_eq_true rfl⟩) ⟨xPc.blind, F.pre hW hS [.int x3, .int (-1)]⟩ rfl rfl hl.1 rfl (lv_room (Nat.le_of_ble_eq_true rfl)) dX0_bestOfAll_91 ⟨Nat.le_refl _, Nat.le_refl _⟩) hS (fun H locs hW hS => ?_)
                refine lv_istore_n (lv' := [(3, .int (fJ3_max x3 (-1))), (2, .int x2), (6, .int (-1)), (5, .int (σ 0 (18 + 64 * 0 + x4.toNatClampNeg))), (4, .int x4), (0, .ref (xa E 0)), (1, .int b1)]) hx hb dX0_bestOfAll_94 rfl hl (by decide) rfl (fun ls hl => ?_)
                refine lv_iinc (k := 4) (v := (x4 + 1)) (lv' := [(4, .int (x4 + 1)), (3, .int (fJ3_max x3 (-1))), (2, .int x2), (6, .int (-1)), (5, .int (σ 0 (18 + 64 * 0 + x4.toNatClampNeg))), (0, .ref (xa E 0)), (1, .int b1)]) hx hb dX0_bestOfAll_95 hl rfl rfl (by decide) rfl (fun ls hl => ?_)
                refine lv_goto (tgt := 7) hx hb dX0_bestOfAll_98 (by decide) ?_
                exact ih x2 (fJ3_max x3 (-1)) (x4 + 1) (xup (xup σ 0 (18 + 64 * 0 + x4.toNatClampNeg) 1) 0 (18 + 64 * 0 + x4.toNatClampNeg) (σ 0 (18 + 64 * 0 + x4.toNatClampNeg))) _ h _ _ _ hW hS (lv_sub hl [0, 1, 2, 5, 6] rfl) kk
              · rw [if_neg c10] at h
                refine lv_iload hx hb dX0_bestOfAll_81 (lv_at hl 2 rfl) ?_
                refine lv_goto (tgt := 87) hx hb dX0_bestOfAll_83 (by decide) ?_
                refine lv_istore_n (lv' := [(2, .int x4), (6, .int (-1)), (5, .int (σ 0 (18 + 64 * 0 + x4.toNatClampNeg))), (4, .int x4), (3, .int x3), (0, .ref (xa E 0)), (1, .int b1)]) hx hb dX0_bestOfAll_87 rfl hl (by decide) rfl (fun ls hl => ?_)
                refine lv_iload_n hx hb dX0_bestOfAll_88 rfl (lv_at hl 4 rfl) ?_
                refine lv_iload hx hb dX0_bestOfAll_89 (lv_at hl 1 rfl) ?_
                refine x_backi (va_runS (As := [.int x3, .int (-1)]) (rest := []) F.1 (mJ3_max l E (xup (xup σ 0 (18 + 64 * 0 + x4.toNatClampNeg) 1) 0 (18 + 64 * 0 + x4.toNatClampNeg) (σ 0 (18 + 64 * 0 + x4.toNatClampNeg))) x3 (-1)) (va_cwS 2 hts (lw_S q503 q504 q116 q505) rfl rfl rfl (by decide +kernel) ⟨Nat.le_of_ble_eq_true rfl, Nat.le_of_ble_eq_true rfl⟩) ⟨xPc.blind, F.pre hW hS [.int x3, .int (-1)]⟩ rfl rfl hl.1 rfl (lv_room (Nat.le_of_ble_eq_true rfl)) dX0_bestOfAll_91 ⟨Nat.le_refl _, Nat.le_refl _⟩) hS (fun H locs hW hS => ?_)
                refine lv_istore_n (lv' := [(3, .int (fJ3_max x3 (-1))), (2, .int x4), (6, .int (-1)), (5, .int (σ 0 (18 + 64 * 0 + x4.toNatClampNeg))), (4, .int x4), (0, .ref (xa E 0)), (1, .int b1)]) hx hb dX0_bestOfAll_94 rfl hl (by decide) rfl (fun ls hl => ?_)
                refine lv_iinc (k := 4) (v := (x4 + 1)) (lv' := [(4, .int (x4 + 1)), (3, .int (fJ3_max x3 (-1))), (2, .int x4), (6, .int (-1)), (5, .int (σ 0 (18 + 64 * 0 + x4.toNatClampNeg))), (0, .ref (xa E 0)), (1, .int b1)]) hx hb dX0_bestOfAll_95 hl rfl rfl (by decide) rfl (fun ls hl => ?_)
                refine lv_goto (tgt := 7) hx hb dX0_bestOfAll_98 (by decide) ?_
                exact ih x4 (fJ3_max x3 (-1)) (x4 + 1) (xup (xup σ 0 (18 + 64 * 0 + x4.toNatClampNeg) 1) 0 (18 + 64 * 0 + x4.toNatClampNeg) (σ 0 (18 + 64 * 0 + x4.toNatClampNeg))) _ h _ _ _ hW hS (lv_sub hl [0, 1, 2, 5, 6] rfl) kk
            · rw [if_neg hi9] at h; cases h
        · rw [if_neg hi3] at h; cases h
      · rw [if_neg hi2] at h; cases h
set_option maxHeartbeats 4000000 in
theorem mX0_bestOfAll (l : Launch) (E : xE) (σ : xM) (a1 : Int32) (r : Int32) (σ' : xM) (h : fX0_bestOfAll σ a1 = some (r, σ')) : Met l yX0_bestOfAll (ws_ yX0_bestOfAll cX0_bestOfAll 7 (some .int)) ({ frames := 16, cells := 0, slots := 0, locals := 349 } : Room) (xPc E σ [.ref (xa E 0), .int a1]) (xQc E (.returned (some (.int r))) σ') 0 0 (xA E) := by
  refine x_of (C := RX0) (n := "bestOfAll") (d := "(I)I") (r := (some .int)) (by decide) rfl (by first | decide | exact Nat.le_of_ble_eq_true rfl) ?_
  intro p e s m below meth c ls F hr hlk hW hS hl
  have hl : lv_has ls 7 [(0, .ref (xa E 0)), (1, .int a1)] := hl
  obtain ⟨hx, hb, hml, hown, hts⟩ := id F.1
  have hK := F.2.1.1
  unfold fX0_bestOfAll at h
  refine lv_iconst (v := (-1)) hx hb dX0_bestOfAll_0 (by decide) ?_
  refine lv_istore_n (lv' := [(2, .int (-1)), (0, .ref (xa E 0)), (1, .int a1)]) hx hb dX0_bestOfAll_1 rfl hl (by decide) rfl (fun ls hl => ?_)
  refine lv_iconst (v := (-1)) hx hb dX0_bestOfAll_2 (by decide) ?_
  refine lv_istore_n (lv' := [(3, .int (-1)), (2, .int (-1)), (0, .ref (xa E 0)), (1, .int a1)]) hx hb dX0_bestOfAll_3 rfl hl (by decide) rfl (fun ls hl => ?_)
  refine lv_iconst (v := 0) hx hb dX0_bestOfAll_4 (by decide) ?_
  refine lv_istore (lv' := [(4, .int 0), (3, .int (-1)), (2, .int (-1)), (0, .ref (xa E 0)), (1, .int a1)]) hx hb dX0_bestOfAll_5 hl (by decide) rfl (fun ls hl => ?_)
  cases g11 : gX0_bestOfAll_7 a1 xfu (-1) (-1) 0 σ with
  | none => rw [g11] at h; cases h
  | some q12 =>
    rw [g11, Option.bind_some] at h
    refine lX0_bestOfAll_7 F xfu (-1) (-1) 0 σ q12 g11 _ _ _ hW hS (lv_sub hl [0, 1, 2, 3, 4] rfl) (fun H locs ls hW hS hl => ?_)
    refine lv_iload_n hx hb dX0_bestOfAll_101 rfl (lv_at hl 2 rfl) ?_
    obtain ⟨h1, h2⟩ := Prod.mk.inj (Option.some.inj h); subst h1; subst h2
    exact x_iret F hr hlk hW hS dX0_bestOfAll_102
/-! WildBells.best(I)I -/
def fX0_best (σ : xM) (a1 : Int32) : Option (Int32 × xM) :=
  if (fX0_in a1 0 20) = 0 then ((fX0_finding σ 0).bind (fun r3 => some (r3.1, r3.2))) else ((fX0_bestOfAll σ a1).bind (fun r5 => (fX0_orNone r5.2 r5.1).bind (fun r7 => some (r7.1, r7.2))))
set_option maxHeartbeats 4000000 in
theorem mX0_best (l : Launch) (E : xE) (σ : xM) (a1 : Int32) (r : Int32) (σ' : xM) (h : fX0_best σ a1 = some (r, σ')) : Met l yX0_best (ws_ yX0_best cX0_best 2 (some .int)) ({ frames := 17, cells := 0, slots := 0, locals := 375 } : Room) (xPc E σ [.ref (xa E 0), .int a1]) (xQc E (.returned (some (.int r))) σ') 0 0 (xA E) := by
  refine x_of (C := RX0) (n := "best") (d := "(I)I") (r := (some .int)) (by decide) rfl (by first | decide | exact Nat.le_of_ble_eq_true rfl) ?_
  intro p e s m below meth c ls F hr hlk hW hS hl
  have hl : lv_has ls 2 [(0, .ref (xa E 0)), (1, .int a1)] := hl
  obtain ⟨hx, hb, hml, hown, hts⟩ := id F.1
  have hK := F.2.1.1
  unfold fX0_best at h
  refine lv_iload_n hx hb dX0_best_0 rfl (lv_at hl 1 rfl) ?_
  refine lv_iconst (v := 0) hx hb dX0_best_1 (by decide) ?_
  refine lv_bipush (v := 20) hx hb dX0_best_2 (by decide) ?_
  refine x_backi (va_runS (As := [.int a1, .int 0, .int 20]) (rest := []) F.1 (mX0_in l E σ a1 0 20) (va_cwS 3 hts (lw_S q466 q467 q99 q468) rfl rfl rfl (by decide +kernel) ⟨Nat.le_of_ble_eq_true rfl, Nat.le_of_ble_eq_true rfl⟩) ⟨xPc.blind, F.pre hW hS [.int a1, .int 0, .int 20]⟩ rfl rfl hl.1 rfl (lv_room (Nat.le_of_ble_eq_true rfl)) dX0_best_4 ⟨Nat.le_refl _, Nat.le_refl _⟩) hS (fun H locs hW hS => ?_)
  refine lv_if_eq (tgt := 22) hx hb dX0_best_7 (by decide) (fun c1 => ?_) (fun c1 => ?_)
  · rw [if_pos c1] at h
    refine lv_aload_n hx hb dX0_best_22 rfl (lv_at hl 0 rfl) ?_
    refine lv_iconst (v := 0) hx hb dX0_best_23 (by decide) ?_
    cases g2 : fX0_finding σ 0 with
    | none => rw [g2] at h; cases h
    | some r3 =>
      rw [g2, Option.bind_some] at h
      refine x_backi (va_runV (C := RX0) (b := (xa E 0)) (As := [.int 0]) (rest := []) F.1 (mX0_finding l E σ 0 r3.1 r3.2 g2) (cwV 1 hts (lw_V q469 q471 qs2 q99 q472) rfl rfl rfl (by decide +kernel) ⟨Nat.le_of_ble_eq_true rfl, Nat.le_of_ble_eq_true rfl⟩) ⟨xPc.blind, va_recv hK (xO_X hW) (ci := 0) (q0 := 0) rfl rfl, F.pre hW hS (.ref (xa E 0) :: [.int 0])⟩ rfl rfl hl.1 rfl (lv_room (Nat.le_of_ble_eq_true rfl)) dX0_best_24 ⟨Nat.le_refl _, Nat.le_refl _⟩) hS (fun H locs hW hS => ?_)
      obtain ⟨h1, h2⟩ := Prod.mk.inj (Option.some.inj h); subst h1; subst h2
      exact x_iret F hr hlk hW hS dX0_best_27
  · rw [if_neg c1] at h
    refine lv_aload_n hx hb dX0_best_10 rfl (lv_at hl 0 rfl) ?_
    refine lv_aload_n hx hb dX0_best_11 rfl (lv_at hl 0 rfl) ?_
    refine lv_iload_n hx hb dX0_best_12 rfl (lv_at hl 1 rfl) ?_
    cases g4 : fX0_bestOfAll σ a1 with
    | none => rw [g4] at h; cases h
    | some r5 =>
      rw [g4, Option.bind_some] at h
      refine x_backi (va_runV (C := RX0) (b := (xa E 0)) (As := [.int a1]) (rest := [.ref (xa E 0)]) F.1 (mX0_bestOfAll l E σ a1 r5.1 r5.2 g4) (cwV 1 hts (lw_V q813 q815 qs18 q99 q816) rfl rfl rfl (by decide +kernel) ⟨Nat.le_of_ble_eq_true rfl, Nat.le_of_ble_eq_true rfl⟩) ⟨xPc.blind, va_recv hK (xO_X hW) (ci := 0) (q0 := 0) rfl rfl, F.pre hW hS (.ref (xa E 0) :: [.int a1])⟩ rfl rfl hl.1 rfl (lv_room (Nat.le_of_ble_eq_true rfl)) dX0_best_13 ⟨Nat.le_refl _, Nat.le_refl _⟩) hS (fun H locs hW hS => ?_)
      cases g6 : fX0_orNone r5.2 r5.1 with
      | none => rw [g6] at h; cases h
      | some r7 =>
        rw [g6, Option.bind_some] at h
        refine x_backi (va_runV (C := RX0) (b := (xa E 0)) (As := [.int r5.1]) (rest := []) F.1 (mX0_orNone l E r5.2 r5.1 r7.1 r7.2 g6) (cwV 1 hts (lw_V q772 q774 qs12 q99 q775) rfl rfl rfl (by decide +kernel) ⟨Nat.le_of_ble_eq_true rfl, Nat.le_of_ble_eq_true rfl⟩) ⟨xPc.blind, va_recv hK (xO_X hW) (ci := 0) (q0 := 0) rfl rfl, F.pre hW hS (.ref (xa E 0) :: [.int r5.1])⟩ rfl rfl hl.1 rfl (lv_room (Nat.le_of_ble_eq_true rfl)) dX0_best_16 ⟨Nat.le_refl _, Nat.le_refl _⟩) hS (fun H locs hW hS => ?_)
        refine lv_goto (tgt := 27) hx hb dX0_best_19 (by decide) ?_
        obtain ⟨h1, h2⟩ := Prod.mk.inj (Option.some.inj h); subst h1; subst h2
        exact x_iret F hr hlk hW hS dX0_best_27
/-! WildBells.bestDrive(II)I -/
def gX0_bestDrive_19 (b1 : Int32) (b2 : Int32) : Nat → Int32 → Int32 → Int32 → xM → Option (Int32 × Int32 × Int32 × xM)
  | 0, _, _, _, _ => none
  | n + 1, x4, x5, x6, σ => if 64 ≤ x6 then (some (x4, x5, x6, σ)) else (if xin b1 4 then ((fX0_whenIs (xup σ 0 (14 + b1.toNatClampNeg) x6) b2 20).bind (fun r5 => if r5.1 = (-1) then (gX0_bestDrive_19 b1 b2 n x4 x5 (x6 + 1) r5.2) else (if x4 = (-1) then (gX0_bestDrive_19 b1 b2 n x6 r5.1 (x6 + 1) r5.2) else (if x5 ≤ r5.1 then (gX0_bestDrive_19 b1 b2 n x4 x5 (x6 + 1) r5.2) else (gX0_bestDrive_19 b1 b2 n x6 r5.1 (x6 + 1) r5.2))))) else none)
def fX0_bestDrive (σ : xM) (a1 : Int32) (a2 : Int32) : Option (Int32 × xM) :=
  if xin a1 4 then ((gX0_bestDrive_19 a1 a2 xfu (-1) 0 0 σ).bind (fun q10 => if xin a1 4 then (some (q10.1, (xup q10.2.2.2 0 (14 + a1.toNatClampNeg) (σ 0 (14 + a1.toNatClampNeg))))) else none)) else none
set_option maxHeartbeats 4000000 in
theorem lX0_bestDrive_19 {p : Program} {l : Launch} {e : Env} {s : State} {m : MethodId} {av : Array Value} {below : List Frame} {meth : Method} {c : Code} {Q : State → Prop} {E : xE} {b1 : Int32} {b2 : Int32} {b3 : Int32} (F : xFx p m c cX0_bestDrive 9 s av RX0 E) : ∀ (n : Nat) (x4 : Int32) (x5 : Int32) (x6 : Int32) (σ : xM) (q : (Int32 × Int32 × Int32 × xM)), gX0_bestDrive_19 b1 b2 n x4 x5 x6 σ = some q → ∀ (H : Heap) (locs : List Loc) (ls : Array Slot), xW E σ H → va_S (xA E) s.heap H locs → lv_has ls 9 [(6, .int x6), (5, .int x5), (4, .int x4), (3, .int b3), (0, .ref (xa E 0)), (1, .int b1), (2, .int b2)] → (∀ (H : Heap) (locs : List Loc) (ls : Array Slot), xW E q.2.2.2 H → va_S (xA E) s.heap H locs → lv_has ls 9 [(6, .int q.2.2.1), (5, .int q.2.1), (4, .int q.1), (3, .int b3), (0, .ref (xa E 0)), (1, .int b1), (2, .int b2)] → W p l e ({ frames := 15, cells := 0, slots := 0, locals := 329 } : Room) s m av below meth c H locs 0 0 Q (F0 m 106 ls [])) → W p l e ({ frames := 15, cells := 0, slots := 0, locals := 329 } : Room) s m av below meth c H locs 0 0 Q (F0 m 19 ls []) := by
  obtain ⟨hx, hb, hml, hown, hts⟩ := id F.1
  have hK := F.2.1.1
  intro n
  induction n with
  | zero =>
    intro x4 x5 x6 σ q h
    cases h
  | succ n ih =>
    intro x4 x5 x6 σ q h H locs ls hW hS hl kk
    rw [gX0_bestDrive_19] at h
    refine lv_iload hx hb dX0_bestDrive_19 (lv_at hl 0 rfl) ?_
    refine lv_bipush (v := 64) hx hb dX0_bestDrive_21 (by decide) ?_
    refine lv_icmp_ge (tgt := 106) hx hb dX0_bestDrive_23 (by decide) (fun c2 => ?_) (fun c2 => ?_)
    · rw [if_pos c2] at h
      have h := Option.some.inj h; subst h
      exact kk _ _ _ hW hS (lv_sub hl [0, 1, 2, 3, 4, 5, 6] rfl)
    · rw [if_neg c2] at h
      refine lv_aload_n hx hb dX0_bestDrive_26 rfl (lv_at hl 4 rfl) ?_
      refine va_get (D := xD E) (ci := 0) (v := .ref (xa E (xwc 0 0))) (C := RX0) (T := TX0) (N := 15) hx hb hts in_X0 hown hK (xO_X hW) 0 rfl rfl 3 (by decide) (hts _ q416) (fun _ h9 => h9) rfl dX0_bestDrive_27 ?_
      refine va_getN (D := xD E) (ci := 4) (v := .ref (xa E (xwc 0 4))) (C := RX4) (T := TX4) (N := 8) hx hb hts in_X4 hown hK (xO_W hW 0 (by decide)) 0 rfl rfl 1 (by decide) (va_Nw.use rfl (F.2.1.2.1 _ q235 rfl)) (fun _ h9 => h9) rfl dX0_bestDrive_30 ?_
      refine lv_iload_n hx hb dX0_bestDrive_33 rfl (lv_at hl 5 rfl) ?_
      refine lv_iload hx hb dX0_bestDrive_34 (lv_at hl 0 rfl) ?_
      by_cases hi3 : xin b1 4
      · rw [if_pos hi3] at h
        refine x_iast F hW hS (xwc 0 4) 4 0 (fun j => 14 + j) (xw_lt 0 (by decide) 4 (by decide)) (xw_4 0 (by decide)).1 (xw_4 0 (by decide)).2 (by decide) hi3 dX0_bestDrive_36 (fun H locs hW hS => ?_)
        refine lv_aload_n hx hb dX0_bestDrive_37 rfl (lv_at hl 4 rfl) ?_
        refine lv_iload_n hx hb dX0_bestDrive_38 rfl (lv_at hl 6 rfl) ?_
        refine lv_bipush (v := 20) hx hb dX0_bestDrive_39 (by decide) ?_
        cases g4 : fX0_whenIs (xup σ 0 (14 + b1.toNatClampNeg) x6) b2 20 with
        | none => rw [g4] at h; cases h
        | some r5 =>
          rw [g4, Option.bind_some] at h
          refine x_backi (x_runVW (C := RX0) (n := 2) (b := (xa E 0)) (As := [.int b2, .int 20]) (rest := []) F.1 (mX0_whenIs l E (xup σ 0 (14 + b1.toNatClampNeg) x6) b2 20 r5.1 r5.2 g4) q768 q770 qs11 q771 q99 rfl rfl (by decide +kernel) ⟨Nat.le_of_ble_eq_true rfl, Nat.le_of_ble_eq_true rfl⟩ ⟨xPc.blind, va_recv hK (xO_X hW) (ci := 0) (q0 := 0) rfl rfl, F.pre hW hS (.ref (xa E 0) :: [.int b2, .int 20])⟩ rfl rfl hl.1 rfl (lv_room (Nat.le_of_ble_eq_true rfl)) dX0_bestDrive_41 ⟨Nat.le_refl _, Nat.le_refl _⟩) hS (fun H locs hW hS => ?_)
          refine lv_istore (lv' := [(7, .int r5.1), (6, .int x6), (5, .int x5), (4, .int x4), (3, .int b3), (0, .ref (xa E 0)), (1, .int b1), (2, .int b2)]) hx hb dX0_bestDrive_44 hl (by decide) rfl (fun ls hl => ?_)
          refine lv_iload hx hb dX0_bestDrive_46 (lv_at hl 0 rfl) ?_
          refine lv_iconst (v := (-1)) hx hb dX0_bestDrive_48 (by decide) ?_
          refine lv_icmp_eq (tgt := 69) hx hb dX0_bestDrive_49 (by decide) (fun c6 => ?_) (fun c6 => ?_)
          · rw [if_pos c6] at h
            refine lv_iconst (v := 0) hx hb dX0_bestDrive_69 (by decide) ?_
            refine lv_istore (lv' := [(8, .int 0), (7, .int r5.1), (6, .int x6), (5, .int x5), (4, .int x4), (3, .int b3), (0, .ref (xa E 0)), (1, .int b1), (2, .int b2)]) hx hb dX0_bestDrive_70 hl (by decide) rfl (fun ls hl => ?_)
            refine lv_iload hx hb dX0_bestDrive_72 (lv_at hl 0 rfl) ?_
            refine lv_if_eq (tgt := 82) hx hb dX0_bestDrive_74 (by decide) (fun c => ?_) (fun c => absurd c (by decide))
            refine lv_iload hx hb dX0_bestDrive_82 (lv_at hl 4 rfl) ?_
            refine lv_istore (lv' := [(4, .int x4), (8, .int 0), (7, .int r5.1), (6, .int x6), (5, .int x5), (3, .int b3), (0, .ref (xa E 0)), (1, .int b1), (2, .int b2)]) hx hb dX0_bestDrive_84 hl (by decide) rfl (fun ls hl => ?_)
            refine lv_iload hx hb dX0_bestDrive_86 (lv_at hl 1 rfl) ?_
            refine lv_if_eq (tgt := 96) hx hb dX0_bestDrive_88 (by decide) (fun c => ?_) (fun c => absurd c (by decide))
            refine lv_iload hx hb dX0_bestDrive_96 (lv_at hl 4 rfl) ?_
            refine lv_istore (lv' := [(5, .int x5), (4, .int x4), (8, .int 0), (7, .int r5.1), (6, .int x6), (3, .int b3), (0, .ref (xa E 0)), (1, .int b1), (2, .int b2)]) hx hb dX0_bestDrive_98 hl (by decide) rfl (fun ls hl => ?_)
            refine lv_iinc (k := 4) (v := (x6 + 1)) (lv' := [(6, .int (x6 + 1)), (5, .int x5), (4, .int x4), (8, .int 0), (7, .int r5.1), (3, .int b3), (0, .ref (xa E 0)), (1, .int b1), (2, .int b2)]) hx hb dX0_bestDrive_100 hl rfl rfl (by decide) rfl (fun ls hl => ?_)
            refine lv_goto (tgt := 19) hx hb dX0_bestDrive_103 (by decide) ?_
            exact ih x4 x5 (x6 + 1) r5.2 _ h _ _ _ hW hS (lv_sub hl [0, 1, 2, 5, 6, 7, 8] rfl) kk
          · rw [if_neg c6] at h
            refine lv_iload hx hb dX0_bestDrive_52 (lv_at hl 3 rfl) ?_
            refine lv_iconst (v := (-1)) hx hb dX0_bestDrive_54 (by decide) ?_
            refine lv_icmp_eq (tgt := 65) hx hb dX0_bestDrive_55 (by decide) (fun c7 => ?_) (fun c7 => ?_)
            · rw [if_pos c7] at h
              refine lv_iconst (v := 1) hx hb dX0_bestDrive_65 (by decide) ?_
              refine lv_goto (tgt := 70) hx hb dX0_bestDrive_66 (by decide) ?_
              refine lv_istore (lv' := [(8, .int 1), (7, .int r5.1), (6, .int x6), (5, .int x5), (4, .int x4), (3, .int b3), (0, .ref (xa E 0)), (1, .int b1), (2, .int b2)]) hx hb dX0_bestDrive_70 hl (by decide) rfl (fun ls hl => ?_)
              refine lv_iload hx hb dX0_bestDrive_72 (lv_at hl 0 rfl) ?_
              refine lv_if_eq (tgt := 82) hx hb dX0_bestDrive_74 (by decide) (fun c => absurd c (by decide)) (fun c => ?_)
              refine lv_iload hx hb dX0_bestDrive_77 (lv_at hl 2 rfl) ?_
              refine lv_goto (tgt := 84) hx hb dX0_bestDrive_79 (by decide) ?_
              refine lv_istore (lv' := [(4, .int x6), (8, .int 1), (7, .int r5.1), (6, .int x6), (5, .int x5), (3, .int b3), (0, .ref (xa E 0)), (1, .int b1), (2, .int b2)]) hx hb dX0_bestDrive_84 hl (by decide) rfl (fun ls hl => ?_)
              refine lv_iload hx hb dX0_bestDrive_86 (lv_at hl 1 rfl) ?_
              refine lv_if_eq (tgt := 96) hx hb dX0_bestDrive_88 (by decide) (fun c => absurd c (by decide)) (fun c => ?_)
              refine lv_iload hx hb dX0_bestDrive_91 (lv_at hl 2 rfl) ?_
              refine lv_goto (tgt := 98) hx hb dX0_bestDrive_93 (by decide) ?_
              refine lv_istore (lv' := [(5, .int r5.1), (4, .int x6), (8, .int 1), (7, .int r5.1), (6, .int x6), (3, .int b3), (0, .ref (xa E 0)), (1, .int b1), (2, .int b2)]) hx hb dX0_bestDrive_98 hl (by decide) rfl (fun ls hl => ?_)
              refine lv_iinc (k := 4) (v := (x6 + 1)) (lv' := [(6, .int (x6 + 1)), (5, .int r5.1), (4, .int x6), (8, .int 1), (7, .int r5.1), (3, .int b3), (0, .ref (xa E 0)), (1, .int b1), (2, .int b2)]) hx hb dX0_bestDrive_100 hl rfl rfl (by decide) rfl (fun ls hl => ?_)
              refine lv_goto (tgt := 19) hx hb dX0_bestDrive_103 (by decide) ?_
              exact ih x6 r5.1 (x6 + 1) r5.2 _ h _ _ _ hW hS (lv_sub hl [0, 1, 2, 5, 6, 7, 8] rfl) kk
            · rw [if_neg c7] at h
              refine lv_iload hx hb dX0_bestDrive_58 (lv_at hl 0 rfl) ?_
              refine lv_iload hx hb dX0_bestDrive_60 (lv_at hl 2 rfl) ?_
              refine lv_icmp_ge (tgt := 69) hx hb dX0_bestDrive_62 (by decide) (fun c8 => ?_) (fun c8 => ?_)
              · rw [if_pos c8] at h
                refine lv_iconst (v := 0) hx hb dX0_bestDrive_69 (by decide) ?_
                refine lv_istore (lv' := [(8, .int 0), (7, .int r5.1), (6, .int x6), (5, .int x5), (4, .int x4), (3, .int b3), (0, .ref (xa E 0)), (1, .int b1), (2, .int b2)]) hx hb dX0_bestDrive_70 hl (by decide) rfl (fun ls hl => ?_)
                refine lv_iload hx hb dX0_bestDrive_72 (lv_at hl 0 rfl) ?_
                refine lv_if_eq (tgt := 82) hx hb dX0_bestDrive_74 (by decide) (fun c => ?_) (fun c => absurd c (by decide))
                refine lv_iload hx hb dX0_bestDrive_82 (lv_at hl 4 rfl) ?_
                refine lv_istore (lv' := [(4, .int x4), (8, .int 0), (7, .int r5.1), (6, .int x6), (5, .int x5), (3, .int b3), (0, .ref (xa E 0)), (1, .int b1), (2, .int b2)]) hx hb dX0_bestDrive_84 hl (by decide) rfl (fun ls hl => ?_)
                refine lv_iload hx hb dX0_bestDrive_86 (lv_at hl 1 rfl) ?_
                refine lv_if_eq (tgt := 96) hx hb dX0_bestDrive_88 (by decide) (fun c => ?_) (fun c => absurd c (by decide))
                refine lv_iload hx hb dX0_bestDrive_96 (lv_at hl 4 rfl) ?_
                refine lv_istore (lv' := [(5, .int x5), (4, .int x4), (8, .int 0), (7, .int r5.1), (6, .int x6), (3, .int b3), (0, .ref (xa E 0)), (1, .int b1), (2, .int b2)]) hx hb dX0_bestDrive_98 hl (by decide) rfl (fun ls hl => ?_)
                refine lv_iinc (k := 4) (v := (x6 + 1)) (lv' := [(6, .int (x6 + 1)), (5, .int x5), (4, .int x4), (8, .int 0), (7, .int r5.1), (3, .int b3), (0, .ref (xa E 0)), (1, .int b1), (2, .int b2)]) hx hb dX0_bestDrive_100 hl rfl rfl (by decide) rfl (fun ls hl => ?_)
                refine lv_goto (tgt := 19) hx hb dX0_bestDrive_103 (by decide) ?_
                exact ih x4 x5 (x6 + 1) r5.2 _ h _ _ _ hW hS (lv_sub hl [0, 1, 2, 5, 6, 7, 8] rfl) kk
              · rw [if_neg c8] at h
                refine lv_iconst (v := 1) hx hb dX0_bestDrive_65 (by decide) ?_
                refine lv_goto (tgt := 70) hx hb dX0_bestDrive_66 (by decide) ?_
                refine lv_istore (lv' := [(8, .int 1), (7, .int r5.1), (6, .int x6), (5, .int x5), (4, .int x4), (3, .int b3), (0, .ref (xa E 0)), (1, .int b1), (2, .int b2)]) hx hb dX0_bestDrive_70 hl (by decide) rfl (fun ls hl => ?_)
                refine lv_iload hx hb dX0_bestDrive_72 (lv_at hl 0 rfl) ?_
                refine lv_if_eq (tgt := 82) hx hb dX0_bestDrive_74 (by decide) (fun c => absurd c (by decide)) (fun c => ?_)
                refine lv_iload hx hb dX0_bestDrive_77 (lv_at hl 2 rfl) ?_
                refine lv_goto (tgt := 84) hx hb dX0_bestDrive_79 (by decide) ?_
                refine lv_istore (lv' := [(4, .int x6), (8, .int 1), (7, .int r5.1), (6, .int x6), (5, .int x5), (3, .int b3), (0, .ref (xa E 0)), (1, .int b1), (2, .int b2)]) hx hb dX0_bestDrive_84 hl (by decide) rfl (fun ls hl => ?_)
                refine lv_iload hx hb dX0_bestDrive_86 (lv_at hl 1 rfl) ?_
                refine lv_if_eq (tgt := 96) hx hb dX0_bestDrive_88 (by decide) (fun c => absurd c (by decide)) (fun c => ?_)
                refine lv_iload hx hb dX0_bestDrive_91 (lv_at hl 2 rfl) ?_
                refine lv_goto (tgt := 98) hx hb dX0_bestDrive_93 (by decide) ?_
                refine lv_istore (lv' := [(5, .int r5.1), (4, .int x6), (8, .int 1), (7, .int r5.1), (6, .int x6), (3, .int b3), (0, .ref (xa E 0)), (1, .int b1), (2, .int b2)]) hx hb dX0_bestDrive_98 hl (by decide) rfl (fun ls hl => ?_)
                refine lv_iinc (k := 4) (v := (x6 + 1)) (lv' := [(6, .int (x6 + 1)), (5, .int r5.1), (4, .int x6), (8, .int 1), (7, .int r5.1), (3, .int b3), (0, .ref (xa E 0)), (1, .int b1), (2, .int b2)]) hx hb dX0_bestDrive_100 hl rfl rfl (by decide) rfl (fun ls hl => ?_)
                refine lv_goto (tgt := 19) hx hb dX0_bestDrive_103 (by decide) ?_
                exact ih x6 r5.1 (x6 + 1) r5.2 _ h _ _ _ hW hS (lv_sub hl [0, 1, 2, 5, 6, 7, 8] rfl) kk
      · rw [if_neg hi3] at h; cases h
set_option maxHeartbeats 4000000 in
theorem mX0_bestDrive (l : Launch) (E : xE) (σ : xM) (a1 : Int32) (a2 : Int32) (r : Int32) (σ' : xM) (h : fX0_bestDrive σ a1 a2 = some (r, σ')) : Met l yX0_bestDrive (ws_ yX0_bestDrive cX0_bestDrive 9 (some .int)) ({ frames := 15, cells := 0, slots := 0, locals := 329 } : Room) (xPc E σ [.ref (xa E 0), .int a1, .int a2]) (xQc E (.returned (some (.int r))) σ') 0 0 (xA E) := by
  refine x_of (C := RX0) (n := "bestDrive") (d := "(II)I") (r := (some .int)) (by decide) rfl (by first | decide | exact Nat.le_of_ble_eq_true rfl) ?_
  intro p e s m below meth c ls F hr hlk hW hS hl
  have hl : lv_has ls 9 [(0, .ref (xa E 0)), (1, .int a1), (2, .int a2)] := hl
  obtain ⟨hx, hb, hml, hown, hts⟩ := id F.1
  have hK := F.2.1.1
  unfold fX0_bestDrive at h
  refine lv_aload_n hx hb dX0_bestDrive_0 rfl (lv_at hl 0 rfl) ?_
  refine va_get (D := xD E) (ci := 0) (v := .ref (xa E (xwc 0 0))) (C := RX0) (T := TX0) (N := 15) hx hb hts in_X0 hown hK (xO_X hW) 0 rfl rfl 3 (by decide) (hts _ q416) (fun _ h9 => h9) rfl dX0_bestDrive_1 ?_
  refine va_getN (D := xD E) (ci := 4) (v := .ref (xa E (xwc 0 4))) (C := RX4) (T := TX4) (N := 8) hx hb hts in_X4 hown hK (xO_W hW 0 (by decide)) 0 rfl rfl 1 (by decide) (va_Nw.use rfl (F.2.1.2.1 _ q235 rfl)) (fun _ h9 => h9) rfl dX0_bestDrive_4 ?_
  refine lv_iload_n hx hb dX0_bestDrive_7 rfl (lv_at hl 1 rfl) ?_
  by_cases hi1 : xin a1 4
  · rw [if_pos hi1] at h
    refine va_iald hx hb hK (xV_4 hW 0 (by decide)) 0 0 rfl rfl hi1 dX0_bestDrive_8 ?_
    refine lv_istore_n (lv' := [(3, .int (σ 0 (14 + a1.toNatClampNeg))), (0, .ref (xa E 0)), (1, .int a1), (2, .int a2)]) hx hb dX0_bestDrive_9 rfl hl (by decide) rfl (fun ls hl => ?_)
    refine lv_iconst (v := (-1)) hx hb dX0_bestDrive_10 (by decide) ?_
    refine lv_istore (lv' := [(4, .int (-1)), (3, .int (σ 0 (14 + a1.toNatClampNeg))), (0, .ref (xa E 0)), (1, .int a1), (2, .int a2)]) hx hb dX0_bestDrive_11 hl (by decide) rfl (fun ls hl => ?_)
    refine lv_iconst (v := 0) hx hb dX0_bestDrive_13 (by decide) ?_
    refine lv_istore (lv' := [(5, .int 0), (4, .int (-1)), (3, .int (σ 0 (14 + a1.toNatClampNeg))), (0, .ref (xa E 0)), (1, .int a1), (2, .int a2)]) hx hb dX0_bestDrive_14 hl (by decide) rfl (fun ls hl => ?_)
    refine lv_iconst (v := 0) hx hb dX0_bestDrive_16 (by decide) ?_
    refine lv_istore (lv' := [(6, .int 0), (5, .int 0), (4, .int (-1)), (3, .int (σ 0 (14 + a1.toNatClampNeg))), (0, .ref (xa E 0)), (1, .int a1), (2, .int a2)]) hx hb dX0_bestDrive_17 hl (by decide) rfl (fun ls hl => ?_)
    cases g9 : gX0_bestDrive_19 a1 a2 xfu (-1) 0 0 σ with
    | none => rw [g9] at h; cases h
    | some q10 =>
      rw [g9, Option.bind_some] at h
      refine lX0_bestDrive_19 F xfu (-1) 0 0 σ q10 g9 _ _ _ hW hS (lv_sub hl [0, 1, 2, 3, 4, 5, 6] rfl) (fun H locs ls hW hS hl => ?_)
      refine lv_aload_n hx hb dX0_bestDrive_106 rfl (lv_at hl 4 rfl) ?_
      refine va_get (D := xD E) (ci := 0) (v := .ref (xa E (xwc 0 0))) (C := RX0) (T := TX0) (N := 15) hx hb hts in_X0 hown hK (xO_X hW) 0 rfl rfl 3 (by decide) (hts _ q416) (fun _ h9 => h9) rfl dX0_bestDrive_107 ?_
      refine va_getN (D := xD E) (ci := 4) (v := .ref (xa E (xwc 0 4))) (C := RX4) (T := TX4) (N := 8) hx hb hts in_X4 hown hK (xO_W hW 0 (by decide)) 0 rfl rfl 1 (by decide) (va_Nw.use rfl (F.2.1.2.1 _ q235 rfl)) (fun _ h9 => h9) rfl dX0_bestDrive_110 ?_
      refine lv_iload_n hx hb dX0_bestDrive_113 rfl (lv_at hl 5 rfl) ?_
      refine lv_iload_n hx hb dX0_bestDrive_114 rfl (lv_at hl 3 rfl) ?_
      by_cases hi11 : xin a1 4
      · rw [if_pos hi11] at h
        refine x_iast F hW hS (xwc 0 4) 4 0 (fun j => 14 + j) (xw_lt 0 (by decide) 4 (by decide)) (xw_4 0 (by decide)).1 (xw_4 0 (by decide)).2 (by decide) hi11 dX0_bestDrive_115 (fun H locs hW hS => ?_)
        refine lv_iload hx hb dX0_bestDrive_116 (lv_at hl 2 rfl) ?_
        obtain ⟨h1, h2⟩ := Prod.mk.inj (Option.some.inj h); subst h1; subst h2
        exact x_iret F hr hlk hW hS dX0_bestDrive_118
      · rw [if_neg hi11] at h; cases h
  · rw [if_neg hi1] at h; cases h
/-! WildBells.drive(II)I -/
def fX0_drive (σ : xM) (a1 : Int32) (a2 : Int32) : Option (Int32 × xM) :=
  if (fX0_isHunter a1) = 0 then ((fX0_finding σ 0).bind (fun r3 => some (r3.1, r3.2))) else (if (fX0_isBell σ a2) = 0 then ((fX0_finding σ 0).bind (fun r6 => some (r6.1, r6.2))) else ((fX0_bestDrive σ a1 a2).bind (fun r8 => (fX0_orNone r8.2 r8.1).bind (fun r10 => some (r10.1, r10.2)))))
set_option maxHeartbeats 4000000 in
theorem mX0_drive (l : Launch) (E : xE) (σ : xM) (a1 : Int32) (a2 : Int32) (r : Int32) (σ' : xM) (h : fX0_drive σ a1 a2 = some (r, σ')) : Met l yX0_drive (ws_ yX0_drive cX0_drive 3 (some .int)) ({ frames := 16, cells := 0, slots := 0, locals := 357 } : Room) (xPc E σ [.ref (xa E 0), .int a1, .int a2]) (xQc E (.returned (some (.int r))) σ') 0 0 (xA E) := by
  refine x_of (C := RX0) (n := "drive") (d := "(II)I") (r := (some .int)) (by decide) rfl (by first | decide | exact Nat.le_of_ble_eq_true rfl) ?_
  intro p e s m below meth c ls F hr hlk hW hS hl
  have hl : lv_has ls 3 [(0, .ref (xa E 0)), (1, .int a1), (2, .int a2)] := hl
  obtain ⟨hx, hb, hml, hown, hts⟩ := id F.1
  have hK := F.2.1.1
  unfold fX0_drive at h
  refine lv_iload_n hx hb dX0_drive_0 rfl (lv_at hl 1 rfl) ?_
  refine x_backi (va_runS (As := [.int a1]) (rest := []) F.1 (mX0_isHunter l E σ a1) (va_cwS 1 hts (lw_S q515 q516 q99 q517) rfl rfl rfl (by decide +kernel) ⟨Nat.le_of_ble_eq_true rfl, Nat.le_of_ble_eq_true rfl⟩) ⟨xPc.blind, F.pre hW hS [.int a1]⟩ rfl rfl hl.1 rfl (lv_room (Nat.le_of_ble_eq_true rfl)) dX0_drive_1 ⟨Nat.le_refl _, Nat.le_refl _⟩) hS (fun H locs hW hS => ?_)
  refine lv_if_eq (tgt := 28) hx hb dX0_drive_4 (by decide) (fun c1 => ?_) (fun c1 => ?_)
  · rw [if_pos c1] at h
    refine lv_aload_n hx hb dX0_drive_28 rfl (lv_at hl 0 rfl) ?_
    refine lv_iconst (v := 0) hx hb dX0_drive_29 (by decide) ?_
    cases g2 : fX0_finding σ 0 with
    | none => rw [g2] at h; cases h
    | some r3 =>
      rw [g2, Option.bind_some] at h
      refine x_backi (va_runV (C := RX0) (b := (xa E 0)) (As := [.int 0]) (rest := []) F.1 (mX0_finding l E σ 0 r3.1 r3.2 g2) (cwV 1 hts (lw_V q469 q471 qs2 q99 q472) rfl rfl rfl (by decide +kernel) ⟨Nat.le_of_ble_eq_true rfl, Nat.le_of_ble_eq_true rfl⟩) ⟨xPc.blind, va_recv hK (xO_X hW) (ci := 0) (q0 := 0) rfl rfl, F.pre hW hS (.ref (xa E 0) :: [.int 0])⟩ rfl rfl hl.1 rfl (lv_room (Nat.le_of_ble_eq_true rfl)) dX0_drive_30 ⟨Nat.le_refl _, Nat.le_refl _⟩) hS (fun H locs hW hS => ?_)
      obtain ⟨h1, h2⟩ := Prod.mk.inj (Option.some.inj h); subst h1; subst h2
      exact x_iret F hr hlk hW hS dX0_drive_33
  · rw [if_neg c1] at h
    refine lv_aload_n hx hb dX0_drive_7 rfl (lv_at hl 0 rfl) ?_
    refine lv_iload_n hx hb dX0_drive_8 rfl (lv_at hl 2 rfl) ?_
    refine x_backi (va_runV (C := RX0) (b := (xa E 0)) (As := [.int a2]) (rest := []) F.1 (mX0_isBell l E σ a2) (cwV 1 hts (lw_V q537 q539 qs3 q99 q540) rfl rfl rfl (by decide +kernel) ⟨Nat.le_of_ble_eq_true rfl, Nat.le_of_ble_eq_true rfl⟩) ⟨xPc.blind, va_recv hK (xO_X hW) (ci := 0) (q0 := 0) rfl rfl, F.pre hW hS (.ref (xa E 0) :: [.int a2])⟩ rfl rfl hl.1 rfl (lv_room (Nat.le_of_ble_eq_true rfl)) dX0_drive_9 ⟨Nat.le_refl _, Nat.le_refl _⟩) hS (fun H locs hW hS => ?_)
    refine lv_if_eq (tgt := 28) hx hb dX0_drive_12 (by decide) (fun c4 => ?_) (fun c4 => ?_)
    · rw [if_pos c4] at h
      refine lv_aload_n hx hb dX0_drive_28 rfl (lv_at hl 0 rfl) ?_
      refine lv_iconst (v := 0) hx hb dX0_drive_29 (by decide) ?_
      cases g5 : fX0_finding σ 0 with
      | none => rw [g5] at h; cases h
      | some r6 =>
        rw [g5, Option.bind_some] at h
        refine x_backi (va_runV (C := RX0) (b := (xa E 0)) (As := [.int 0]) (rest := []) F.1 (mX0_finding l E σ 0 r6.1 r6.2 g5) (cwV 1 hts (lw_V q469 q471 qs2 q99 q472) rfl rfl rfl (by decide +kernel) ⟨Nat.le_of_ble_eq_true rfl, Nat.le_of_ble_eq_true rfl⟩) ⟨xPc.blind, va_recv hK (xO_X hW) (ci := 0) (q0 := 0) rfl rfl, F.pre hW hS (.ref (xa E 0) :: [.int 0])⟩ rfl rfl hl.1 rfl (lv_room (Nat.le_of_ble_eq_true rfl)) dX0_drive_30 ⟨Nat.le_refl _, Nat.le_refl _⟩) hS (fun H locs hW hS => ?_)
        obtain ⟨h1, h2⟩ := Prod.mk.inj (Option.some.inj h); subst h1; subst h2
        exact x_iret F hr hlk hW hS dX0_drive_33
    · rw [if_neg c4] at h
      refine lv_aload_n hx hb dX0_drive_15 rfl (lv_at hl 0 rfl) ?_
      refine lv_aload_n hx hb dX0_drive_16 rfl (lv_at hl 0 rfl) ?_
      refine lv_iload_n hx hb dX0_drive_17 rfl (lv_at hl 1 rfl) ?_
      refine lv_iload_n hx hb dX0_drive_18 rfl (lv_at hl 2 rfl) ?_
      cases g7 : fX0_bestDrive σ a1 a2 with
      | none => rw [g7] at h; cases h
      | some r8 =>
        rw [g7, Option.bind_some] at h
        refine x_backi (va_runV (C := RX0) (b := (xa E 0)) (As := [.int a1, .int a2]) (rest := [.ref (xa E 0)]) F.1 (mX0_bestDrive l E σ a1 a2 r8.1 r8.2 g7) (cwV 2 hts (lw_V q821 q823 qs19 q99 q824) rfl rfl rfl (by decide +kernel) ⟨Nat.le_of_ble_eq_true rfl, Nat.le_of_ble_eq_true rfl⟩) ⟨xPc.blind, va_recv hK (xO_X hW) (ci := 0) (q0 := 0) rfl rfl, F.pre hW hS (.ref (xa E 0) :: [.int a1, .int a2])⟩ rfl rfl hl.1 rfl (lv_room (Nat.le_of_ble_eq_true rfl)) dX0_drive_19 ⟨Nat.le_refl _, Nat.le_refl _⟩) hS (fun H locs hW hS => ?_)
        cases g9 : fX0_orNone r8.2 r8.1 with
        | none => rw [g9] at h; cases h
        | some r10 =>
          rw [g9, Option.bind_some] at h
          refine x_backi (va_runV (C := RX0) (b := (xa E 0)) (As := [.int r8.1]) (rest := []) F.1 (mX0_orNone l E r8.2 r8.1 r10.1 r10.2 g9) (cwV 1 hts (lw_V q772 q774 qs12 q99 q775) rfl rfl rfl (by decide +kernel) ⟨Nat.le_of_ble_eq_true rfl, Nat.le_of_ble_eq_true rfl⟩) ⟨xPc.blind, va_recv hK (xO_X hW) (ci := 0) (q0 := 0) rfl rfl, F.pre hW hS (.ref (xa E 0) :: [.int r8.1])⟩ rfl rfl hl.1 rfl (lv_room (Nat.le_of_ble_eq_true rfl)) dX0_drive_22 ⟨Nat.le_refl _, Nat.le_refl _⟩) hS (fun H locs hW hS => ?_)
          refine lv_goto (tgt := 33) hx hb dX0_drive_25 (by decide) ?_
          obtain ⟨h1, h2⟩ := Prod.mk.inj (Option.some.inj h); subst h1; subst h2
          exact x_iret F hr hlk hW hS dX0_drive_33
/-! WildBells.freeFor(I)I -/
def fX0_freeFor (σ : xM) (a1 : Int32) : Option (Int32 × xM) :=
  (fX0_whenIs σ a1 60).bind (fun r2 => if r2.1 = (-1) then (some (60, r2.2)) else (some (r2.1, r2.2)))
set_option maxHeartbeats 4000000 in
theorem mX0_freeFor (l : Launch) (E : xE) (σ : xM) (a1 : Int32) (r : Int32) (σ' : xM) (h : fX0_freeFor σ a1 = some (r, σ')) : Met l yX0_freeFor (ws_ yX0_freeFor cX0_freeFor 3 (some .int)) ({ frames := 15, cells := 0, slots := 0, locals := 329 } : Room) (xPc E σ [.ref (xa E 0), .int a1]) (xQc E (.returned (some (.int r))) σ') 0 0 (xA E) := by
  refine x_of (C := RX0) (n := "freeFor") (d := "(I)I") (r := (some .int)) (by decide) rfl (by first | decide | exact Nat.le_of_ble_eq_true rfl) ?_
  intro p e s m below meth c ls F hr hlk hW hS hl
  have hl : lv_has ls 3 [(0, .ref (xa E 0)), (1, .int a1)] := hl
  obtain ⟨hx, hb, hml, hown, hts⟩ := id F.1
  have hK := F.2.1.1
  unfold fX0_freeFor at h
  refine lv_aload_n hx hb dX0_freeFor_0 rfl (lv_at hl 0 rfl) ?_
  refine lv_iload_n hx hb dX0_freeFor_1 rfl (lv_at hl 1 rfl) ?_
  refine lv_bipush (v := 60) hx hb dX0_freeFor_2 (by decide) ?_
  cases g1 : fX0_whenIs σ a1 60 with
  | none => rw [g1] at h; cases h
  | some r2 =>
    rw [g1, Option.bind_some] at h
    refine x_backi (x_runVW (C := RX0) (n := 2) (b := (xa E 0)) (As := [.int a1, .int 60]) (rest := []) F.1 (mX0_whenIs l E σ a1 60 r2.1 r2.2 g1) q768 q770 qs11 q771 q99 rfl rfl (by decide +kernel) ⟨Nat.le_of_ble_eq_true rfl, Nat.le_of_ble_eq_true rfl⟩ ⟨xPc.blind, va_recv hK (xO_X hW) (ci := 0) (q0 := 0) rfl rfl, F.pre hW hS (.ref (xa E 0) :: [.int a1, .int 60])⟩ rfl rfl hl.1 rfl (lv_room (Nat.le_of_ble_eq_true rfl)) dX0_freeFor_4 ⟨Nat.le_refl _, Nat.le_refl _⟩) hS (fun H locs hW hS => ?_)
    refine lv_istore_n (lv' := [(2, .int r2.1), (0, .ref (xa E 0)), (1, .int a1)]) hx hb dX0_freeFor_7 rfl hl (by decide) rfl (fun ls hl => ?_)
    refine lv_iload_n hx hb dX0_freeFor_8 rfl (lv_at hl 0 rfl) ?_
    refine lv_iconst (v := (-1)) hx hb dX0_freeFor_9 (by decide) ?_
    refine lv_icmp_ne (tgt := 18) hx hb dX0_freeFor_10 (by decide) (fun c3 => ?_) (fun c3 => ?_)
    · rw [if_neg c3] at h
      refine lv_iload_n hx hb dX0_freeFor_18 rfl (lv_at hl 0 rfl) ?_
      obtain ⟨h1, h2⟩ := Prod.mk.inj (Option.some.inj h); subst h1; subst h2
      exact x_iret F hr hlk hW hS dX0_freeFor_19
    · rw [if_pos c3] at h
      refine lv_bipush (v := 60) hx hb dX0_freeFor_13 (by decide) ?_
      refine lv_goto (tgt := 19) hx hb dX0_freeFor_15 (by decide) ?_
      obtain ⟨h1, h2⟩ := Prod.mk.inj (Option.some.inj h); subst h1; subst h2
      exact x_iret F hr hlk hW hS dX0_freeFor_19
/-! WildBells.bestKind(I)I -/
def gX0_bestKind_20 (b1 : Int32) : Nat → Int32 → Int32 → Int32 → xM → Option (Int32 × Int32 × Int32 × xM)
  | 0, _, _, _, _ => none
  | n + 1, x3, x4, x5, σ => if 7 ≤ x5 then (some (x3, x4, x5, σ)) else (if xin b1 8 then ((fX0_freeFor (xup σ 0 (146 + 5 * b1.toNatClampNeg + 0) x5) b1).bind (fun r5 => if r5.1 ≤ x4 then (gX0_bestKind_20 b1 n x3 (fJ3_max x4 r5.1) (x5 + 1) r5.2) else (gX0_bestKind_20 b1 n x5 (fJ3_max x4 r5.1) (x5 + 1) r5.2))) else none)
def fX0_bestKind (σ : xM) (a1 : Int32) : Option (Int32 × xM) :=
  if xin a1 8 then ((gX0_bestKind_20 a1 xfu 0 (-1) 0 σ).bind (fun q8 => if xin a1 8 then (some (q8.1, (xup q8.2.2.2 0 (146 + 5 * a1.toNatClampNeg + 0) (σ 0 (146 + 5 * a1.toNatClampNeg + 0))))) else none)) else none
set_option maxHeartbeats 4000000 in
theorem lX0_bestKind_20 {p : Program} {l : Launch} {e : Env} {s : State} {m : MethodId} {av : Array Value} {below : List Frame} {meth : Method} {c : Code} {Q : State → Prop} {E : xE} {b1 : Int32} {b2 : Int32} (F : xFx p m c cX0_bestKind 7 s av RX0 E) : ∀ (n : Nat) (x3 : Int32) (x4 : Int32) (x5 : Int32) (σ : xM) (q : (Int32 × Int32 × Int32 × xM)), gX0_bestKind_20 b1 n x3 x4 x5 σ = some q → ∀ (H : Heap) (locs : List Loc) (ls : Array Slot), xW E σ H → va_S (xA E) s.heap H locs → lv_has ls 7 [(5, .int x5), (4, .int x4), (3, .int x3), (2, .int b2), (0, .ref (xa E 0)), (1, .int b1)] → (∀ (H : Heap) (locs : List Loc) (ls : Array Slot), xW E q.2.2.2 H → va_S (xA E) s.heap H locs → lv_has ls 7 [(5, .int q.2.2.1), (4, .int q.2.1), (3, .int q.1), (2, .int b2), (0, .ref (xa E 0)), (1, .int b1)] → W p l e ({ frames := 16, cells := 0, slots := 0, locals := 351 } : Room) s m av below meth c H locs 0 0 Q (F0 m 76 ls [])) → W p l e ({ frames := 16, cells := 0, slots := 0, locals := 351 } : Room) s m av below meth c H locs 0 0 Q (F0 m 20 ls []) := by
  obtain ⟨hx, hb, hml, hown, hts⟩ := id F.1
  have hK := F.2.1.1
  intro n
  induction n with
  | zero =>
    intro x3 x4 x5 σ q h
    cases h
  | succ n ih =>
    intro x3 x4 x5 σ q h H locs ls hW hS hl kk
    rw [gX0_bestKind_20] at h
    refine lv_iload hx hb dX0_bestKind_20 (lv_at hl 0 rfl) ?_
    refine lv_bipush (v := 7) hx hb dX0_bestKind_22 (by decide) ?_
    refine lv_icmp_ge (tgt := 76) hx hb dX0_bestKind_24 (by decide) (fun c2 => ?_) (fun c2 => ?_)
    · rw [if_pos c2] at h
      have h := Option.some.inj h; subst h
      exact kk _ _ _ hW hS (lv_sub hl [0, 1, 2, 3, 4, 5] rfl)
    · rw [if_neg c2] at h
      refine lv_aload_n hx hb dX0_bestKind_27 rfl (lv_at hl 4 rfl) ?_
      refine va_get (D := xD E) (ci := 0) (v := .ref (xa E (xwc 0 0))) (C := RX0) (T := TX0) (N := 15) hx hb hts in_X0 hown hK (xO_X hW) 0 rfl rfl 3 (by decide) (hts _ q416) (fun _ h9 => h9) rfl dX0_bestKind_28 ?_
      refine va_getN (D := xD E) (ci := 4) (v := .ref (xa E (xwc 0 5))) (C := RX4) (T := TX4) (N := 8) hx hb hts in_X4 hown hK (xO_W hW 0 (by decide)) 0 rfl rfl 4 (by decide) (va_Nw.use rfl (F.2.1.2.1 _ q244 rfl)) (fun _ h9 => h9) rfl dX0_bestKind_31 ?_
      refine lv_iconst (v := 0) hx hb dX0_bestKind_34 (by decide) ?_
      refine x_aald (g := fun j => xa E (xwc 0 (6 + j))) (j := 0) F 4 4 5 (xR_5 hW 0 (by decide)) rfl rfl (x_lit (by decide)) (by decide) dX0_bestKind_35 ?_
      refine lv_iload_n hx hb dX0_bestKind_36 rfl (lv_at hl 5 rfl) ?_
      refine lv_iload hx hb dX0_bestKind_37 (lv_at hl 0 rfl) ?_
      by_cases hi3 : xin b1 8
      · rw [if_pos hi3] at h
        refine x_iast F hW hS (xwc 0 (6 + 0)) 8 0 (fun j => 146 + 5 * j + 0) (xw_lt 0 (by decide) _ (Nat.lt_of_lt_of_le (Nat.add_lt_add_left (by decide) 6 : 6 + 0 < 6 + 5) (by decide))) (xw_6 0 (by decide) 0 (by decide)).1 (xw_6 0 (by decide) 0 (by decide)).2 (by decide) hi3 dX0_bestKind_39 (fun H locs hW hS => ?_)
        refine lv_aload_n hx hb dX0_bestKind_40 rfl (lv_at hl 4 rfl) ?_
        refine lv_iload_n hx hb dX0_bestKind_41 rfl (lv_at hl 5 rfl) ?_
        cases g4 : fX0_freeFor (xup σ 0 (146 + 5 * b1.toNatClampNeg + 0) x5) b1 with
        | none => rw [g4] at h; cases h
        | some r5 =>
          rw [g4, Option.bind_some] at h
          refine x_backi (va_runV (C := RX0) (b := (xa E 0)) (As := [.int b1]) (rest := []) F.1 (mX0_freeFor l E (xup σ 0 (146 + 5 * b1.toNatClampNeg + 0) x5) b1 r5.1 r5.2 g4) (cwV 1 hts (lw_V q833 q835 qs21 q99 q836) rfl rfl rfl (by decide +kernel) ⟨Nat.le_of_ble_eq_true rfl, Nat.le_of_ble_eq_true rfl⟩) ⟨xPc.blind, va_recv hK (xO_X hW) (ci := 0) (q0 := 0) rfl rfl, F.pre hW hS (.ref (xa E 0) :: [.int b1])⟩ rfl rfl hl.1 rfl (lv_room (Nat.le_of_ble_eq_true rfl)) dX0_bestKind_42 ⟨Nat.le_refl _, Nat.le_refl _⟩) hS (fun H locs hW hS => ?_)
          refine lv_istore (lv' := [(6, .int r5.1), (5, .int x5), (4, .int x4), (3, .int x3), (2, .int b2), (0, .ref (xa E 0)), (1, .int b1)]) hx hb dX0_bestKind_45 hl (by decide) rfl (fun ls hl => ?_)
          refine lv_iload hx hb dX0_bestKind_47 (lv_at hl 0 rfl) ?_
          refine lv_iload hx hb dX0_bestKind_49 (lv_at hl 2 rfl) ?_
          refine lv_icmp_le (tgt := 59) hx hb dX0_bestKind_51 (by decide) (fun c6 => ?_) (fun c6 => ?_)
          · rw [if_pos c6] at h
            refine lv_iload_n hx hb dX0_bestKind_59 rfl (lv_at hl 3 rfl) ?_
            refine lv_istore_n (lv' := [(3, .int x3), (6, .int r5.1), (5, .int x5), (4, .int x4), (2, .int b2), (0, .ref (xa E 0)), (1, .int b1)]) hx hb dX0_bestKind_60 rfl hl (by decide) rfl (fun ls hl => ?_)
            refine lv_iload hx hb dX0_bestKind_61 (lv_at hl 3 rfl) ?_
            refine lv_iload hx hb dX0_bestKind_63 (lv_at hl 1 rfl) ?_
            refine x_backi (va_runS (As := [.int x4, .int r5.1]) (rest := []) F.1 (mJ3_max l E r5.2 x4 r5.1) (va_cwS 2 hts (lw_S q503 q504 q116 q505) rfl rfl rfl (by decide +kernel) ⟨Nat.le_of_ble_eq_true rfl, Nat.le_of_ble_eq_true rfl⟩) ⟨xPc.blind, F.pre hW hS [.int x4, .int r5.1]⟩ rfl rfl hl.1 rfl (lv_room (Nat.le_of_ble_eq_true rfl)) dX0_bestKind_65 ⟨Nat.le_refl _, Nat.le_refl _⟩) hS (fun H locs hW hS => ?_)
            refine lv_istore (lv' := [(4, .int (fJ3_max x4 r5.1)), (3, .int x3), (6, .int r5.1), (5, .int x5), (2, .int b2), (0, .ref (xa E 0)), (1, .int b1)]) hx hb dX0_bestKind_68 hl (by decide) rfl (fun ls hl => ?_)
            refine lv_iinc (k := 3) (v := (x5 + 1)) (lv' := [(5, .int (x5 + 1)), (4, .int (fJ3_max x4 r5.1)), (3, .int x3), (6, .int r5.1), (2, .int b2), (0, .ref (xa E 0)), (1, .int b1)]) hx hb dX0_bestKind_70 hl rfl rfl (by decide) rfl (fun ls hl => ?_)
            refine lv_goto (tgt := 20) hx hb dX0_bestKind_73 (by decide) ?_
            exact ih x3 (fJ3_max x4 r5.1) (x5 + 1) r5.2 _ h _ _ _ hW hS (lv_sub hl [0, 1, 2, 4, 5, 6] rfl) kk
          · rw [if_neg c6] at h
            refine lv_iload hx hb dX0_bestKind_54 (lv_at hl 1 rfl) ?_
            refine lv_goto (tgt := 60) hx hb dX0_bestKind_56 (by decide) ?_
            refine lv_istore_n (lv' := [(3, .int x5), (6, .int r5.1), (5, .int x5), (4, .int x4), (2, .int b2), (0, .ref (xa E 0)), (1, .int b1)]) hx hb dX0_bestKind_60 rfl hl (by decide) rfl (fun ls hl => ?_)
            refine lv_iload hx hb dX0_bestKind_61 (lv_at hl 3 rfl) ?_
            refine lv_iload hx hb dX0_bestKind_63 (lv_at hl 1 rfl) ?_
            refine x_backi (va_runS (As := [.int x4, .int r5.1]) (rest := []) F.1 (mJ3_max l E r5.2 x4 r5.1) (va_cwS 2 hts (lw_S q503 q504 q116 q505) rfl rfl rfl (by decide +kernel) ⟨Nat.le_of_ble_eq_true rfl, Nat.le_of_ble_eq_true rfl⟩) ⟨xPc.blind, F.pre hW hS [.int x4, .int r5.1]⟩ rfl rfl hl.1 rfl (lv_room (Nat.le_of_ble_eq_true rfl)) dX0_bestKind_65 ⟨Nat.le_refl _, Nat.le_refl _⟩) hS (fun H locs hW hS => ?_)
            refine lv_istore (lv' := [(4, .int (fJ3_max x4 r5.1)), (3, .int x5), (6, .int r5.1), (5, .int x5), (2, .int b2), (0, .ref (xa E 0)), (1, .int b1)]) hx hb dX0_bestKind_68 hl (by decide) rfl (fun ls hl => ?_)
            refine lv_iinc (k := 3) (v := (x5 + 1)) (lv' := [(5, .int (x5 + 1)), (4, .int (fJ3_max x4 r5.1)), (3, .int x5), (6, .int r5.1), (2, .int b2), (0, .ref (xa E 0)), (1, .int b1)]) hx hb dX0_bestKind_70 hl rfl rfl (by decide) rfl (fun ls hl => ?_)
            refine lv_goto (tgt := 20) hx hb dX0_bestKind_73 (by decide) ?_
            exact ih x5 (fJ3_max x4 r5.1) (x5 + 1) r5.2 _ h _ _ _ hW hS (lv_sub hl [0, 1, 2, 4, 5, 6] rfl) kk
      · rw [if_neg hi3] at h; cases h
set_option maxHeartbeats 4000000 in
theorem mX0_bestKind (l : Launch) (E : xE) (σ : xM) (a1 : Int32) (r : Int32) (σ' : xM) (h : fX0_bestKind σ a1 = some (r, σ')) : Met l yX0_bestKind (ws_ yX0_bestKind cX0_bestKind 7 (some .int)) ({ frames := 16, cells := 0, slots := 0, locals := 351 } : Room) (xPc E σ [.ref (xa E 0), .int a1]) (xQc E (.returned (some (.int r))) σ') 0 0 (xA E) := by
  refine x_of (C := RX0) (n := "bestKind") (d := "(I)I") (r := (some .int)) (by decide) rfl (by first | decide | exact Nat.le_of_ble_eq_true rfl) ?_
  intro p e s m below meth c ls F hr hlk hW hS hl
  have hl : lv_has ls 7 [(0, .ref (xa E 0)), (1, .int a1)] := hl
  obtain ⟨hx, hb, hml, hown, hts⟩ := id F.1
  have hK := F.2.1.1
  unfold fX0_bestKind at h
  refine lv_aload_n hx hb dX0_bestKind_0 rfl (lv_at hl 0 rfl) ?_
  refine va_get (D := xD E) (ci := 0) (v := .ref (xa E (xwc 0 0))) (C := RX0) (T := TX0) (N := 15) hx hb hts in_X0 hown hK (xO_X hW) 0 rfl rfl 3 (by decide) (hts _ q416) (fun _ h9 => h9) rfl dX0_bestKind_1 ?_
  refine va_getN (D := xD E) (ci := 4) (v := .ref (xa E (xwc 0 5))) (C := RX4) (T := TX4) (N := 8) hx hb hts in_X4 hown hK (xO_W hW 0 (by decide)) 0 rfl rfl 4 (by decide) (va_Nw.use rfl (F.2.1.2.1 _ q244 rfl)) (fun _ h9 => h9) rfl dX0_bestKind_4 ?_
  refine lv_iconst (v := 0) hx hb dX0_bestKind_7 (by decide) ?_
  refine x_aald (g := fun j => xa E (xwc 0 (6 + j))) (j := 0) F 4 4 5 (xR_5 hW 0 (by decide)) rfl rfl (x_lit (by decide)) (by decide) dX0_bestKind_8 ?_
  refine lv_iload_n hx hb dX0_bestKind_9 rfl (lv_at hl 1 rfl) ?_
  by_cases hi1 : xin a1 8
  · rw [if_pos hi1] at h
    refine va_iald hx hb hK (xV_6 hW 0 0 (by decide) (by decide)) 0 0 rfl rfl hi1 dX0_bestKind_10 ?_
    refine lv_istore_n (lv' := [(2, .int (σ 0 (146 + 5 * a1.toNatClampNeg + 0))), (0, .ref (xa E 0)), (1, .int a1)]) hx hb dX0_bestKind_11 rfl hl (by decide) rfl (fun ls hl => ?_)
    refine lv_iconst (v := 0) hx hb dX0_bestKind_12 (by decide) ?_
    refine lv_istore_n (lv' := [(3, .int 0), (2, .int (σ 0 (146 + 5 * a1.toNatClampNeg + 0))), (0, .ref (xa E 0)), (1, .int a1)]) hx hb dX0_bestKind_13 rfl hl (by decide) rfl (fun ls hl => ?_)
    refine lv_iconst (v := (-1)) hx hb dX0_bestKind_14 (by decide) ?_
    refine lv_istore (lv' := [(4, .int (-1)), (3, .int 0), (2, .int (σ 0 (146 + 5 * a1.toNatClampNeg + 0))), (0, .ref (xa E 0)), (1, .int a1)]) hx hb dX0_bestKind_15 hl (by decide) rfl (fun ls hl => ?_)
    refine lv_iconst (v := 0) hx hb dX0_bestKind_17 (by decide) ?_
    refine lv_istore (lv' := [(5, .int 0), (4, .int (-1)), (3, .int 0), (2, .int (σ 0 (146 + 5 * a1.toNatClampNeg + 0))), (0, .ref (xa E 0)), (1, .int a1)]) hx hb dX0_bestKind_18 hl (by decide) rfl (fun ls hl => ?_)
    cases g7 : gX0_bestKind_20 a1 xfu 0 (-1) 0 σ with
    | none => rw [g7] at h; cases h
    | some q8 =>
      rw [g7, Option.bind_some] at h
      refine lX0_bestKind_20 F xfu 0 (-1) 0 σ q8 g7 _ _ _ hW hS (lv_sub hl [0, 1, 2, 3, 4, 5] rfl) (fun H locs ls hW hS hl => ?_)
      refine lv_aload_n hx hb dX0_bestKind_76 rfl (lv_at hl 4 rfl) ?_
      refine va_get (D := xD E) (ci := 0) (v := .ref (xa E (xwc 0 0))) (C := RX0) (T := TX0) (N := 15) hx hb hts in_X0 hown hK (xO_X hW) 0 rfl rfl 3 (by decide) (hts _ q416) (fun _ h9 => h9) rfl dX0_bestKind_77 ?_
      refine va_getN (D := xD E) (ci := 4) (v := .ref (xa E (xwc 0 5))) (C := RX4) (T := TX4) (N := 8) hx hb hts in_X4 hown hK (xO_W hW 0 (by decide)) 0 rfl rfl 4 (by decide) (va_Nw.use rfl (F.2.1.2.1 _ q244 rfl)) (fun _ h9 => h9) rfl dX0_bestKind_80 ?_
      refine lv_iconst (v := 0) hx hb dX0_bestKind_83 (by decide) ?_
      refine x_aald (g := fun j => xa E (xwc 0 (6 + j))) (j := 0) F 4 4 5 (xR_5 hW 0 (by decide)) rfl rfl (x_lit (by decide)) (by decide) dX0_bestKind_84 ?_
      refine lv_iload_n hx hb dX0_bestKind_85 rfl (lv_at hl 5 rfl) ?_
      refine lv_iload_n hx hb dX0_bestKind_86 rfl (lv_at hl 3 rfl) ?_
      by_cases hi9 : xin a1 8
      · rw [if_pos hi9] at h
        refine x_iast F hW hS (xwc 0 (6 + 0)) 8 0 (fun j => 146 + 5 * j + 0) (xw_lt 0 (by decide) _ (Nat.lt_of_lt_of_le (Nat.add_lt_add_left (by decide) 6 : 6 + 0 < 6 + 5) (by decide))) (xw_6 0 (by decide) 0 (by decide)).1 (xw_6 0 (by decide) 0 (by decide)).2 (by decide) hi9 dX0_bestKind_87 (fun H locs hW hS => ?_)
        refine lv_iload_n hx hb dX0_bestKind_88 rfl (lv_at hl 2 rfl) ?_
        obtain ⟨h1, h2⟩ := Prod.mk.inj (Option.some.inj h); subst h1; subst h2
        exact x_iret F hr hlk hW hS dX0_bestKind_89
      · rw [if_neg hi9] at h; cases h
  · rw [if_neg hi1] at h; cases h
/-! WildBells.kindFor(I)I -/
def fX0_kindFor (σ : xM) (a1 : Int32) : Option (Int32 × xM) :=
  if (fX0_isBell σ a1) = 0 then ((fX0_finding σ 0).bind (fun r3 => some (r3.1, r3.2))) else ((fX0_bestKind σ a1).bind (fun r5 => some (r5.1, r5.2)))
set_option maxHeartbeats 4000000 in
theorem mX0_kindFor (l : Launch) (E : xE) (σ : xM) (a1 : Int32) (r : Int32) (σ' : xM) (h : fX0_kindFor σ a1 = some (r, σ')) : Met l yX0_kindFor (ws_ yX0_kindFor cX0_kindFor 2 (some .int)) ({ frames := 17, cells := 0, slots := 0, locals := 377 } : Room) (xPc E σ [.ref (xa E 0), .int a1]) (xQc E (.returned (some (.int r))) σ') 0 0 (xA E) := by
  refine x_of (C := RX0) (n := "kindFor") (d := "(I)I") (r := (some .int)) (by decide) rfl (by first | decide | exact Nat.le_of_ble_eq_true rfl) ?_
  intro p e s m below meth c ls F hr hlk hW hS hl
  have hl : lv_has ls 2 [(0, .ref (xa E 0)), (1, .int a1)] := hl
  obtain ⟨hx, hb, hml, hown, hts⟩ := id F.1
  have hK := F.2.1.1
  unfold fX0_kindFor at h
  refine lv_aload_n hx hb dX0_kindFor_0 rfl (lv_at hl 0 rfl) ?_
  refine lv_iload_n hx hb dX0_kindFor_1 rfl (lv_at hl 1 rfl) ?_
  refine x_backi (va_runV (C := RX0) (b := (xa E 0)) (As := [.int a1]) (rest := []) F.1 (mX0_isBell l E σ a1) (cwV 1 hts (lw_V q537 q539 qs3 q99 q540) rfl rfl rfl (by decide +kernel) ⟨Nat.le_of_ble_eq_true rfl, Nat.le_of_ble_eq_true rfl⟩) ⟨xPc.blind, va_recv hK (xO_X hW) (ci := 0) (q0 := 0) rfl rfl, F.pre hW hS (.ref (xa E 0) :: [.int a1])⟩ rfl rfl hl.1 rfl (lv_room (Nat.le_of_ble_eq_true rfl)) dX0_kindFor_2 ⟨Nat.le_refl _, Nat.le_refl _⟩) hS (fun H locs hW hS => ?_)
  refine lv_if_eq (tgt := 16) hx hb dX0_kindFor_5 (by decide) (fun c1 => ?_) (fun c1 => ?_)
  · rw [if_pos c1] at h
    refine lv_aload_n hx hb dX0_kindFor_16 rfl (lv_at hl 0 rfl) ?_
    refine lv_iconst (v := 0) hx hb dX0_kindFor_17 (by decide) ?_
    cases g2 : fX0_finding σ 0 with
    | none => rw [g2] at h; cases h
    | some r3 =>
      rw [g2, Option.bind_some] at h
      refine x_backi (va_runV (C := RX0) (b := (xa E 0)) (As := [.int 0]) (rest := []) F.1 (mX0_finding l E σ 0 r3.1 r3.2 g2) (cwV 1 hts (lw_V q469 q471 qs2 q99 q472) rfl rfl rfl (by decide +kernel) ⟨Nat.le_of_ble_eq_true rfl, Nat.le_of_ble_eq_true rfl⟩) ⟨xPc.blind, va_recv hK (xO_X hW) (ci := 0) (q0 := 0) rfl rfl, F.pre hW hS (.ref (xa E 0) :: [.int 0])⟩ rfl rfl hl.1 rfl (lv_room (Nat.le_of_ble_eq_true rfl)) dX0_kindFor_18 ⟨Nat.le_refl _, Nat.le_refl _⟩) hS (fun H locs hW hS => ?_)
      obtain ⟨h1, h2⟩ := Prod.mk.inj (Option.some.inj h); subst h1; subst h2
      exact x_iret F hr hlk hW hS dX0_kindFor_21
  · rw [if_neg c1] at h
    refine lv_aload_n hx hb dX0_kindFor_8 rfl (lv_at hl 0 rfl) ?_
    refine lv_iload_n hx hb dX0_kindFor_9 rfl (lv_at hl 1 rfl) ?_
    cases g4 : fX0_bestKind σ a1 with
    | none => rw [g4] at h; cases h
    | some r5 =>
      rw [g4, Option.bind_some] at h
      refine x_backi (va_runV (C := RX0) (b := (xa E 0)) (As := [.int a1]) (rest := []) F.1 (mX0_bestKind l E σ a1 r5.1 r5.2 g4) (cwV 1 hts (lw_V q829 q831 qs20 q99 q832) rfl rfl rfl (by decide +kernel) ⟨Nat.le_of_ble_eq_true rfl, Nat.le_of_ble_eq_true rfl⟩) ⟨xPc.blind, va_recv hK (xO_X hW) (ci := 0) (q0 := 0) rfl rfl, F.pre hW hS (.ref (xa E 0) :: [.int a1])⟩ rfl rfl hl.1 rfl (lv_room (Nat.le_of_ble_eq_true rfl)) dX0_kindFor_10 ⟨Nat.le_refl _, Nat.le_refl _⟩) hS (fun H locs hW hS => ?_)
      refine lv_goto (tgt := 21) hx hb dX0_kindFor_13 (by decide) ?_
      obtain ⟨h1, h2⟩ := Prod.mk.inj (Option.some.inj h); subst h1; subst h2
      exact x_iret F hr hlk hW hS dX0_kindFor_21
/-! WildBells.leftBy(II)I -/
def gX0_leftBy_2  : Nat → Int32 → xM → Option (Int32 × xM)
  | 0, _, _ => none
  | n + 1, x3, σ => if 99 < x3 then (some (x3, σ)) else (if xin x3 100 then (gX0_leftBy_2 n (x3 + 1) (xup σ 10 (x3.toNatClampNeg) 0)) else none)
def gX0_leftBy_26 (b1 : Int32) (b2 : Int32) : Nat → Int32 → Int32 → xM → Option (Int32 × Int32 × xM)
  | 0, _, _, _ => none
  | n + 1, x3, x4, σ => if 64 ≤ x4 then (some (x3, x4, σ)) else (if xin (fX0_loudBy b2 (fX0_apart b1 x4)) 100 then (if xin x4 64 then (if (σ 9 (x4.toNatClampNeg)) = 0 then (if xin (fX0_loudBy b2 (fX0_apart b1 x4)) 100 then (if xin (fX0_loudBy b2 (fX0_apart b1 x4)) 100 then (gX0_leftBy_26 b1 b2 n (fJ3_max x3 ((xup σ 10 ((fX0_loudBy b2 (fX0_apart b1 x4)).toNatClampNeg) ((σ 10 ((fX0_loudBy b2 (fX0_apart b1 x4)).toNatClampNeg)) + 0)) 10 ((fX0_loudBy b2 (fX0_apart b1 x4)).toNatClampNeg))) (x4 + 1) (xup σ 10 ((fX0_loudBy b2 (fX0_apart b1 x4)).toNatClampNeg) ((σ 10 ((fX0_loudBy b2 (fX0_apart b1 x4)).toNatClampNeg)) + 0))) else none) else none) else (if xin (fX0_loudBy b2 (fX0_apart b1 x4)) 100 then (if xin (fX0_loudBy b2 (fX0_apart b1 x4)) 100 then (gX0_leftBy_26 b1 b2 n (fJ3_max x3 ((xup σ 10 ((fX0_loudBy b2 (fX0_apart b1 x4)).toNatClampNeg) ((σ 10 ((fX0_loudBy b2 (fX0_apart b1 x4)).toNatClampNeg)) + 1)) 10 ((fX0_loudBy b2 (fX0_apart b1 x4)).toNatClampNeg))) (x4 + 1) (xup σ 10 ((fX0_loudBy b2 (fX0_apart b1 x4)).toNatClampNeg) ((σ 10 ((fX0_loudBy b2 (fX0_apart b1 x4)).toNatClampNeg)) + 1))) else none) else none)) else none) else none)
def fX0_leftBy (σ : xM) (a1 : Int32) (a2 : Int32) : Option (Int32 × xM) :=
  (gX0_leftBy_2 xfu 0 σ).bind (fun q4 => (gX0_leftBy_26 a1 a2 xfu 0 0 q4.2).bind (fun q14 => some (q14.1, q14.2.2)))
set_option maxHeartbeats 4000000 in
theorem lX0_leftBy_2 {p : Program} {l : Launch} {e : Env} {s : State} {m : MethodId} {av : Array Value} {below : List Frame} {meth : Method} {c : Code} {Q : State → Prop} {E : xE} {b1 : Int32} {b2 : Int32} (F : xFx p m c cX0_leftBy 6 s av RX0 E) : ∀ (n : Nat) (x3 : Int32) (σ : xM) (q : (Int32 × xM)), gX0_leftBy_2 n x3 σ = some q → ∀ (H : Heap) (locs : List Loc) (ls : Array Slot), xW E σ H → va_S (xA E) s.heap H locs → lv_has ls 6 [(3, .int x3), (0, .ref (xa E 0)), (1, .int b1), (2, .int b2)] → (∀ (H : Heap) (locs : List Loc) (ls : Array Slot), xW E q.2 H → va_S (xA E) s.heap H locs → lv_has ls 6 [(3, .int q.1), (0, .ref (xa E 0)), (1, .int b1), (2, .int b2)] → W p l e ({ frames := 2, cells := 0, slots := 0, locals := 42 } : Room) s m av below meth c H locs 0 0 Q (F0 m 21 ls [])) → W p l e ({ frames := 2, cells := 0, slots := 0, locals := 42 } : Room) s m av below meth c H locs 0 0 Q (F0 m 2 ls []) := by
  obtain ⟨hx, hb, hml, hown, hts⟩ := id F.1
  have hK := F.2.1.1
  intro n
  induction n with
  | zero =>
    intro x3 σ q h
    cases h
  | succ n ih =>
    intro x3 σ q h H locs ls hW hS hl kk
    rw [gX0_leftBy_2] at h
    refine lv_iload_n hx hb dX0_leftBy_2 rfl (lv_at hl 0 rfl) ?_
    refine lv_bipush (v := 99) hx hb dX0_leftBy_3 (by decide) ?_
    refine lv_icmp_gt (tgt := 21) hx hb dX0_leftBy_5 (by decide) (fun c1 => ?_) (fun c1 => ?_)
    · rw [if_pos c1] at h
      have h := Option.some.inj h; subst h
      exact kk _ _ _ hW hS (lv_sub hl [0, 1, 2, 3] rfl)
    · rw [if_neg c1] at h
      refine lv_aload_n hx hb dX0_leftBy_8 rfl (lv_at hl 1 rfl) ?_
      refine va_get (D := xD E) (ci := 0) (v := .ref (xa E 59)) (C := RX0) (T := TX0) (N := 15) hx hb hts in_X0 hown hK (xO_X hW) 0 rfl rfl 14 (by decide) (hts _ q427) (fun _ h9 => h9) rfl dX0_leftBy_9 ?_
      refine lv_iload_n hx hb dX0_leftBy_12 rfl (lv_at hl 0 rfl) ?_
      refine lv_iconst (v := 0) hx hb dX0_leftBy_13 (by decide) ?_
      by_cases hi2 : xin x3 100
      · rw [if_pos hi2] at h
        refine x_iast F hW hS 59 100 10 (fun j => j) xp_59.1 xp_59.2.1 xp_59.2.2.1 xp_59.2.2.2 hi2 dX0_leftBy_14 (fun H locs hW hS => ?_)
        refine lv_iinc (k := 0) (v := (x3 + 1)) (lv' := [(3, .int (x3 + 1)), (0, .ref (xa E 0)), (1, .int b1), (2, .int b2)]) hx hb dX0_leftBy_15 hl rfl rfl (by decide) rfl (fun ls hl => ?_)
        refine lv_goto (tgt := 2) hx hb dX0_leftBy_18 (by decide) ?_
        exact ih (x3 + 1) (xup σ 10 (x3.toNatClampNeg) 0) _ h _ _ _ hW hS (lv_sub hl [0, 1, 2, 3] rfl) kk
      · rw [if_neg hi2] at h; cases h
set_option maxHeartbeats 4000000 in
theorem lX0_leftBy_26 {p : Program} {l : Launch} {e : Env} {s : State} {m : MethodId} {av : Array Value} {below : List Frame} {meth : Method} {c : Code} {Q : State → Prop} {E : xE} {b1 : Int32} {b2 : Int32} (F : xFx p m c cX0_leftBy 6 s av RX0 E) : ∀ (n : Nat) (x3 : Int32) (x4 : Int32) (σ : xM) (q : (Int32 × Int32 × xM)), gX0_leftBy_26 b1 b2 n x3 x4 σ = some q → ∀ (H : Heap) (locs : List Loc) (ls : Array Slot), xW E σ H → va_S (xA E) s.heap H locs → lv_has ls 6 [(4, .int x4), (3, .int x3), (0, .ref (xa E 0)), (1, .int b1), (2, .int b2)] → (∀ (H : Heap) (locs : List Loc) (ls : Array Slot), xW E q.2.2 H → va_S (xA E) s.heap H locs → lv_has ls 6 [(4, .int q.2.1), (3, .int q.1), (0, .ref (xa E 0)), (1, .int b1), (2, .int b2)] → W p l e ({ frames := 2, cells := 0, slots := 0, locals := 42 } : Room) s m av below meth c H locs 0 0 Q (F0 m 88 ls [])) → W p l e ({ frames := 2, cells := 0, slots := 0, locals := 42 } : Room) s m av below meth c H locs 0 0 Q (F0 m 26 ls []) := by
  obtain ⟨hx, hb, hml, hown, hts⟩ := id F.1
  have hK := F.2.1.1
  intro n
  induction n with
  | zero =>
    intro x3 x4 σ q h
    cases h
  | succ n ih =>
    intro x3 x4 σ q h H locs ls hW hS hl kk
    rw [gX0_leftBy_26] at h
    refine lv_iload hx hb dX0_leftBy_26 (lv_at hl 0 rfl) ?_
    refine lv_bipush (v := 64) hx hb dX0_leftBy_28 (by decide) ?_
    refine lv_icmp_ge (tgt := 88) hx hb dX0_leftBy_30 (by decide) (fun c5 => ?_) (fun c5 => ?_)
    · rw [if_pos c5] at h
      have h := Option.some.inj h; subst h
      exact kk _ _ _ hW hS (lv_sub hl [0, 1, 2, 3, 4] rfl)
    · rw [if_neg c5] at h
      refine lv_iload_n hx hb dX0_leftBy_33 rfl (lv_at hl 4 rfl) ?_
      refine lv_iload_n hx hb dX0_leftBy_34 rfl (lv_at hl 3 rfl) ?_
      refine lv_iload hx hb dX0_leftBy_35 (lv_at hl 0 rfl) ?_
      refine x_backi (va_runS (As := [.int b1, .int x4]) (rest := [.int b2]) F.1 (mX0_apart l E σ b1 x4) (va_cwS 2 hts (lw_S q638 q495 q99 q496) rfl rfl rfl (by decide +kernel) ⟨Nat.le_of_ble_eq_true rfl, Nat.le_of_ble_eq_true rfl⟩) ⟨xPc.blind, F.pre hW hS [.int b1, .int x4]⟩ rfl rfl hl.1 rfl (lv_room (Nat.le_of_ble_eq_true rfl)) dX0_leftBy_37 ⟨Nat.le_refl _, Nat.le_refl _⟩) hS (fun H locs hW hS => ?_)
      refine x_backi (va_runS (As := [.int b2, .int (fX0_apart b1 x4)]) (rest := []) F.1 (mX0_loudBy l E σ b2 (fX0_apart b1 x4)) (va_cwS 2 hts (lw_S q883 q501 q99 q502) rfl rfl rfl (by decide +kernel) ⟨Nat.le_of_ble_eq_true rfl, Nat.le_of_ble_eq_true rfl⟩) ⟨xPc.blind, F.pre hW hS [.int b2, .int (fX0_apart b1 x4)]⟩ rfl rfl hl.1 rfl (lv_room (Nat.le_of_ble_eq_true rfl)) dX0_leftBy_40 ⟨Nat.le_refl _, Nat.le_refl _⟩) hS (fun H locs hW hS => ?_)
      refine lv_istore (lv' := [(5, .int (fX0_loudBy b2 (fX0_apart b1 x4))), (4, .int x4), (3, .int x3), (0, .ref (xa E 0)), (1, .int b1), (2, .int b2)]) hx hb dX0_leftBy_43 hl (by decide) rfl (fun ls hl => ?_)
      refine lv_aload_n hx hb dX0_leftBy_45 rfl (lv_at hl 3 rfl) ?_
      refine va_get (D := xD E) (ci := 0) (v := .ref (xa E 59)) (C := RX0) (T := TX0) (N := 15) hx hb hts in_X0 hown hK (xO_X hW) 0 rfl rfl 14 (by decide) (hts _ q427) (fun _ h9 => h9) rfl dX0_leftBy_46 ?_
      refine lv_iload hx hb dX0_leftBy_49 (lv_at hl 0 rfl) ?_
      refine lv_dup2_11 hx hb dX0_leftBy_51 rfl rfl ?_
      by_cases hi6 : xin (fX0_loudBy b2 (fX0_apart b1 x4)) 100
      · rw [if_pos hi6] at h
        refine va_iald hx hb hK (xV_p hW xp_59) 0 0 rfl rfl hi6 dX0_leftBy_52 ?_
        refine lv_aload_n hx hb dX0_leftBy_53 rfl (lv_at hl 3 rfl) ?_
        refine va_get (D := xD E) (ci := 0) (v := .ref (xa E 58)) (C := RX0) (T := TX0) (N := 15) hx hb hts in_X0 hown hK (xO_X hW) 0 rfl rfl 12 (by decide) (hts _ q425) (fun _ h9 => h9) rfl dX0_leftBy_54 ?_
        refine lv_iload hx hb dX0_leftBy_57 (lv_at hl 1 rfl) ?_
        by_cases hi7 : xin x4 64
        · rw [if_pos hi7] at h
          refine va_zald hx hb hK (xV_p hW xp_58) 0 3 rfl rfl hi7 dX0_leftBy_59 ?_
          refine lv_if_eq (tgt := 67) hx hb dX0_leftBy_60 (by decide) (fun c8 => ?_) (fun c8 => ?_)
          · rw [if_pos c8] at h
            refine lv_iconst (v := 0) hx hb dX0_leftBy_67 (by decide) ?_
            refine lv_iadd hx hb dX0_leftBy_68 ?_
            by_cases hi9 : xin (fX0_loudBy b2 (fX0_apart b1 x4)) 100
            · rw [if_pos hi9] at h
              refine x_iast F hW hS 59 100 10 (fun j => j) xp_59.1 xp_59.2.1 xp_59.2.2.1 xp_59.2.2.2 hi9 dX0_leftBy_69 (fun H locs hW hS => ?_)
              refine lv_iload_n hx hb dX0_leftBy_70 rfl (lv_at hl 2 rfl) ?_
              refine lv_aload_n hx hb dX0_leftBy_71 rfl (lv_at hl 3 rfl) ?_
              refine va_get (D := xD E) (ci := 0) (v := .ref (xa E 59)) (C := RX0) (T := TX0) (N := 15) hx hb hts in_X0 hown hK (xO_X hW) 0 rfl rfl 14 (by decide) (hts _ q427) (fun _ h9 => h9) rfl dX0_leftBy_72 ?_
              refine lv_iload hx hb dX0_leftBy_75 (lv_at hl 0 rfl) ?_
              by_cases hi10 : xin (fX0_loudBy b2 (fX0_apart b1 x4)) 100
              · rw [if_pos hi10] at h
                refine va_iald hx hb hK (xV_p hW xp_59) 0 0 rfl rfl hi10 dX0_leftBy_77 ?_
                refine x_backi (va_runS (As := [.int x3, .int ((xup σ 10 ((fX0_loudBy b2 (fX0_apart b1 x4)).toNatClampNeg) ((σ 10 ((fX0_loudBy b2 (fX0_apart b1 x4)).toNatClampNeg)) + 0)) 10 ((fX0_loudBy b2 (fX0_apart b1 x4)).toNatClampNeg))]) (rest := []) F.1 (mJ3_max l E (xup σ 10 ((fX0_loudBy b2 (fX0_apart b1 x4)).toNatClampNeg) ((σ 10 ((fX0_loudBy b2 (fX0_apart b1 x4)).toNatClampNeg)) + 0)) x3 ((xup σ 10 ((fX0_loudBy b2 (fX0_apart b1 x4)).toNatClampNeg) ((σ 10 ((fX0_loudBy b2 (fX0_apart b1 x4)).toNatClampNeg)) + 0)) 10 ((fX0_loudBy b2 (fX0_apart b1 x4)).toNatClampNeg))) (va_cwS 2 hts (lw_S q503 q504 q116 q505) rfl rfl rfl (by decide +kernel) ⟨Nat.le_of_ble_eq_true rfl, Nat.le_of_ble_eq_true rfl⟩) ⟨xPc.blind, F.pre hW hS [.int x3, .int ((xup σ 10 ((fX0_loudBy b2 (fX0_apart b1 x4)).toNatClampNeg) ((σ 10 ((fX0_loudBy b2 (fX0_apart b1 x4)).toNatClampNeg)) + 0)) 10 ((fX0_loudBy b2 (fX0_apart b1 x4)).toNatClampNeg))]⟩ rfl rfl hl.1 rfl (lv_room (Nat.le_of_ble_eq_true rfl)) dX0_leftBy_78 ⟨Nat.le_refl _, Nat.le_refl _⟩) hS (fun H locs hW hS => ?_)
                refine lv_istore_n (lv' := [(3, .int (fJ3_max x3 ((xup σ 10 ((fX0_loudBy b2 (fX0_apart b1 x4)).toNatClampNeg) ((σ 10 ((fX0_loudBy b2 (fX0_apart b1 x4)).toNatClampNeg)) + 0)) 10 ((fX0_loudBy b2 (fX0_apart b1 x4)).toNatClampNeg)))), (5, .int (fX0_loudBy b2 (fX0_apart b1 x4))), (4, .int x4), (0, .ref (xa E 0)), (1, .int b1), (2, .int b2)]) hx hb dX0_leftBy_81 rfl hl (by decide) rfl (fun ls hl => ?_)
                refine lv_iinc (k := 2) (v := (x4 + 1)) (lv' := [(4, .int (x4 + 1)), (3, .int (fJ3_max x3 ((xup σ 10 ((fX0_loudBy b2 (fX0_apart b1 x4)).toNatClampNeg) ((σ 10 ((fX0_loudBy b2 (fX0_apart b1 x4)).toNatClampNeg)) + 0)) 10 ((fX0_loudBy b2 (fX0_apart b1 x4)).toNatClampNeg)))), (5, .int (fX0_loudBy b2 (fX0_apart b1 x4))), (0, .ref (xa E 0)), (1, .int b1), (2, .int b2)]) hx hb dX0_leftBy_82 hl rfl rfl (by decide) rfl (fun ls hl => ?_)
                refine lv_goto (tgt := 26) hx hb dX0_leftBy_85 (by decide) ?_
                exact ih (fJ3_max x3 ((xup σ 10 ((fX0_loudBy b2 (fX0_apart b1 x4)).toNatClampNeg) ((σ 10 ((fX0_loudBy b2 (fX0_apart b1 x4)).toNatClampNeg)) + 0)) 10 ((fX0_loudBy b2 (fX0_apart b1 x4)).toNatClampNeg))) (x4 + 1) (xup σ 10 ((fX0_loudBy b2 (fX0_apart b1 x4)).toNatClampNeg) ((σ 10 ((fX0_loudBy b2 (fX0_apart b1 x4)).toNatClampNeg)) + 0)) _ h _ _ _ hW hS (lv_sub hl [0, 1, 3, 4, 5] rfl) kk
              · rw [if_neg hi10] at h; cases h
            · rw [if_neg hi9] at h; cases h
          · rw [if_neg c8] at h
            refine lv_iconst (v := 1) hx hb dX0_leftBy_63 (by decide) ?_
            refine lv_goto (tgt := 68) hx hb dX0_leftBy_64 (by decide) ?_
            refine lv_iadd hx hb dX0_leftBy_68 ?_
            by_cases hi11 : xin (fX0_loudBy b2 (fX0_apart b1 x4)) 100
            · rw [if_pos hi11] at h
              refine x_iast F hW hS 59 100 10 (fun j => j) xp_59.1 xp_59.2.1 xp_59.2.2.1 xp_59.2.2.2 hi11 dX0_leftBy_69 (fun H locs hW hS => ?_)
              refine lv_iload_n hx hb dX0_leftBy_70 rfl (lv_at hl 2 rfl) ?_
              refine lv_aload_n hx hb dX0_leftBy_71 rfl (lv_at hl 3 rfl) ?_
              refine va_get (D := xD E) (ci := 0) (v := .ref (xa E 59)) (C := RX0) (T := TX0) (N := 15) hx hb hts in_X0 hown hK (xO_X hW) 0 rfl rfl 14 (by decide) (hts _ q427) (fun _ h9 => h9) rfl dX0_leftBy_72 ?_
              refine lv_iload hx hb dX0_leftBy_75 (lv_at hl 0 rfl) ?_
              by_cases hi12 : xin (fX0_loudBy b2 (fX0_apart b1 x4)) 100
              · rw [if_pos hi12] at h
                refine va_iald hx hb hK (xV_p hW xp_59) 0 0 rfl rfl hi12 dX0_leftBy_77 ?_
                refine x_backi (va_runS (As := [.int x3, .int ((xup σ 10 ((fX0_loudBy b2 (fX0_apart b1 x4)).toNatClampNeg) ((σ 10 ((fX0_loudBy b2 (fX0_apart b1 x4)).toNatClampNeg)) + 1)) 10 ((fX0_loudBy b2 (fX0_apart b1 x4)).toNatClampNeg))]) (rest := []) F.1 (mJ3_max l E (xup σ 10 ((fX0_loudBy b2 (fX0_apart b1 x4)).toNatClampNeg) ((σ 10 ((fX0_loudBy b2 (fX0_apart b1 x4)).toNatClampNeg)) + 1)) x3 ((xup σ 10 ((fX0_loudBy b2 (fX0_apart b1 x4)).toNatClampNeg) ((σ 10 ((fX0_loudBy b2 (fX0_apart b1 x4)).toNatClampNeg)) + 1)) 10 ((fX0_loudBy b2 (fX0_apart b1 x4)).toNatClampNeg))) (va_cwS 2 hts (lw_S q503 q504 q116 q505) rfl rfl rfl (by decide +kernel) ⟨Nat.le_of_ble_eq_true rfl, Nat.le_of_ble_eq_true rfl⟩) ⟨xPc.blind, F.pre hW hS [.int x3, .int ((xup σ 10 ((fX0_loudBy b2 (fX0_apart b1 x4)).toNatClampNeg) ((σ 10 ((fX0_loudBy b2 (fX0_apart b1 x4)).toNatClampNeg)) + 1)) 10 ((fX0_loudBy b2 (fX0_apart b1 x4)).toNatClampNeg))]⟩ rfl rfl hl.1 rfl (lv_room (Nat.le_of_ble_eq_true rfl)) dX0_leftBy_78 ⟨Nat.le_refl _, Nat.le_refl _⟩) hS (fun H locs hW hS => ?_)
                refine lv_istore_n (lv' := [(3, .int (fJ3_max x3 ((xup σ 10 ((fX0_loudBy b2 (fX0_apart b1 x4)).toNatClampNeg) ((σ 10 ((fX0_loudBy b2 (fX0_apart b1 x4)).toNatClampNeg)) + 1)) 10 ((fX0_loudBy b2 (fX0_apart b1 x4)).toNatClampNeg)))), (5, .int (fX0_loudBy b2 (fX0_apart b1 x4))), (4, .int x4), (0, .ref (xa E 0)), (1, .int b1), (2, .int b2)]) hx hb dX0_leftBy_81 rfl hl (by decide) rfl (fun ls hl => ?_)
                refine lv_iinc (k := 2) (v := (x4 + 1)) (lv' := [(4, .int (x4 + 1)), (3, .int (fJ3_max x3 ((xup σ 10 ((fX0_loudBy b2 (fX0_apart b1 x4)).toNatClampNeg) ((σ 10 ((fX0_loudBy b2 (fX0_apart b1 x4)).toNatClampNeg)) + 1)) 10 ((fX0_loudBy b2 (fX0_apart b1 x4)).toNatClampNeg)))), (5, .int (fX0_loudBy b2 (fX0_apart b1 x4))), (0, .ref (xa E 0)), (1, .int b1), (2, .int b2)]) hx hb dX0_leftBy_82 hl rfl rfl (by decide) rfl (fun ls hl => ?_)
                refine lv_goto (tgt := 26) hx hb dX0_leftBy_85 (by decide) ?_
                exact ih (fJ3_max x3 ((xup σ 10 ((fX0_loudBy b2 (fX0_apart b1 x4)).toNatClampNeg) ((σ 10 ((fX0_loudBy b2 (fX0_apart b1 x4)).toNatClampNeg)) + 1)) 10 ((fX0_loudBy b2 (fX0_apart b1 x4)).toNatClampNeg))) (x4 + 1) (xup σ 10 ((fX0_loudBy b2 (fX0_apart b1 x4)).toNatClampNeg) ((σ 10 ((fX0_loudBy b2 (fX0_apart b1 x4)).toNatClampNeg)) + 1)) _ h _ _ _ hW hS (lv_sub hl [0, 1, 3, 4, 5] rfl) kk
              · rw [if_neg hi12] at h; cases h
            · rw [if_neg hi11] at h; cases h
        · rw [if_neg hi7] at h; cases h
      · rw [if_neg hi6] at h; cases h
set_option maxHeartbeats 4000000 in
theorem mX0_leftBy (l : Launch) (E : xE) (σ : xM) (a1 : Int32) (a2 : Int32) (r : Int32) (σ' : xM) (h : fX0_leftBy σ a1 a2 = some (r, σ')) : Met l yX0_leftBy (ws_ yX0_leftBy cX0_leftBy 6 (some .int)) ({ frames := 2, cells := 0, slots := 0, locals := 42 } : Room) (xPc E σ [.ref (xa E 0), .int a1, .int a2]) (xQc E (.returned (some (.int r))) σ') 0 0 (xA E) := by
  refine x_of (C := RX0) (n := "leftBy") (d := "(II)I") (r := (some .int)) (by decide) rfl (by first | decide | exact Nat.le_of_ble_eq_true rfl) ?_
  intro p e s m below meth c ls F hr hlk hW hS hl
  have hl : lv_has ls 6 [(0, .ref (xa E 0)), (1, .int a1), (2, .int a2)] := hl
  obtain ⟨hx, hb, hml, hown, hts⟩ := id F.1
  have hK := F.2.1.1
  unfold fX0_leftBy at h
  refine lv_iconst (v := 0) hx hb dX0_leftBy_0 (by decide) ?_
  refine lv_istore_n (lv' := [(3, .int 0), (0, .ref (xa E 0)), (1, .int a1), (2, .int a2)]) hx hb dX0_leftBy_1 rfl hl (by decide) rfl (fun ls hl => ?_)
  cases g3 : gX0_leftBy_2 xfu 0 σ with
  | none => rw [g3] at h; cases h
  | some q4 =>
    rw [g3, Option.bind_some] at h
    refine lX0_leftBy_2 F xfu 0 σ q4 g3 _ _ _ hW hS (lv_sub hl [0, 1, 2, 3] rfl) (fun H locs ls hW hS hl => ?_)
    refine lv_iconst (v := 0) hx hb dX0_leftBy_21 (by decide) ?_
    refine lv_istore_n (lv' := [(3, .int 0), (0, .ref (xa E 0)), (1, .int a1), (2, .int a2)]) hx hb dX0_leftBy_22 rfl hl (by decide) rfl (fun ls hl => ?_)
    refine lv_iconst (v := 0) hx hb dX0_leftBy_23 (by decide) ?_
    refine lv_istore (lv' := [(4, .int 0), (3, .int 0), (0, .ref (xa E 0)), (1, .int a1), (2, .int a2)]) hx hb dX0_leftBy_24 hl (by decide) rfl (fun ls hl => ?_)
    cases g13 : gX0_leftBy_26 a1 a2 xfu 0 0 q4.2 with
    | none => rw [g13] at h; cases h
    | some q14 =>
      rw [g13, Option.bind_some] at h
      refine lX0_leftBy_26 F xfu 0 0 q4.2 q14 g13 _ _ _ hW hS (lv_sub hl [0, 1, 2, 3, 4] rfl) (fun H locs ls hW hS hl => ?_)
      refine lv_iload_n hx hb dX0_leftBy_88 rfl (lv_at hl 1 rfl) ?_
      obtain ⟨h1, h2⟩ := Prod.mk.inj (Option.some.inj h); subst h1; subst h2
      exact x_iret F hr hlk hW hS dX0_leftBy_89
