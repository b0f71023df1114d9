set_option maxRecDepth 100000
/-! WildBells.sheet(III)I -/
def fX0_sheet (σ : xM) (a1 : Int32) (a2 : Int32) (a3 : Int32) : Option (Int32 × xM) :=
  if (fX0_isSheet a1) = 0 then ((fX0_finding σ 0).bind (fun r3 => some (r3.1, r3.2))) else (if a2 = 0 then (if a3 < 0 then (if 0 ≤ a3 then ((fX0_finding σ 0).bind (fun r8 => some (r8.1, r8.2))) else ((fX0_finding σ 6).bind (fun r10 => some (r10.1, r10.2)))) else (if a3 ≤ 40 then (if xin a1 4 then (if a2 = 0 then (if xs40 σ then (if a2 = 0 then (some (0, (xns σ a1.toNatClampNeg 0 0))) else (some (a3, (xns σ a1.toNatClampNeg 0 0)))) else none) else (if a2 = 8 then (if ¬ a3 < 0 ∧ a3.toNatClampNeg ≤ 40 then (if xs40 σ then (if a2 = 0 then (some (0, (xns σ a1.toNatClampNeg 8 a3))) else (some (a3, (xns σ a1.toNatClampNeg 8 a3)))) else none) else none) else (if a2 = 16 then (if ¬ a3 < 0 ∧ a3.toNatClampNeg ≤ 40 then (if xs40 σ then (if a2 = 0 then (some (0, (xns σ a1.toNatClampNeg 16 a3))) else (some (a3, (xns σ a1.toNatClampNeg 16 a3)))) else none) else none) else (if ¬ a3 < 0 ∧ a3.toNatClampNeg ≤ 40 then (if xs40 σ then (if a2 = 0 then (some (0, (xns σ a1.toNatClampNeg 32 a3))) else (some (a3, (xns σ a1.toNatClampNeg 32 a3)))) else none) else none)))) else none) else (if 0 ≤ a3 then ((fX0_finding σ 0).bind (fun r29 => some (r29.1, r29.2))) else ((fX0_finding σ 6).bind (fun r31 => some (r31.1, r31.2)))))) else (if a2 = 8 then (if a3 < 0 then (if 0 ≤ a3 then ((fX0_finding σ 0).bind (fun r36 => some (r36.1, r36.2))) else ((fX0_finding σ 6).bind (fun r38 => some (r38.1, r38.2)))) else (if a3 ≤ 40 then (if xin a1 4 then (if a2 = 0 then (if xs40 σ then (if a2 = 0 then (some (0, (xns σ a1.toNatClampNeg 0 0))) else (some (a3, (xns σ a1.toNatClampNeg 0 0)))) else none) else (if a2 = 8 then (if ¬ a3 < 0 ∧ a3.toNatClampNeg ≤ 40 then (if xs40 σ then (if a2 = 0 then (some (0, (xns σ a1.toNatClampNeg 8 a3))) else (some (a3, (xns σ a1.toNatClampNeg 8 a3)))) else none) else none) else (if a2 = 16 then (if ¬ a3 < 0 ∧ a3.toNatClampNeg ≤ 40 then (if xs40 σ then (if a2 = 0 then (some (0, (xns σ a1.toNatClampNeg 16 a3))) else (some (a3, (xns σ a1.toNatClampNeg 16 a3)))) else none) else none) else (if ¬ a3 < 0 ∧ a3.toNatClampNeg ≤ 40 then (if xs40 σ then (if a2 = 0 then (some (0, (xns σ a1.toNatClampNeg 32 a3))) else (some (a3, (xns σ a1.toNatClampNeg 32 a3)))) else none) else none)))) else none) else (if 0 ≤ a3 then ((fX0_finding σ 0).bind (fun r57 => some (r57.1, r57.2))) else ((fX0_finding σ 6).bind (fun r59 => some (r59.1, r59.2)))))) else (if a2 = 16 then (if a3 < 0 then (if 0 ≤ a3 then ((fX0_finding σ 0).bind (fun r64 => some (r64.1, r64.2))) else ((fX0_finding σ 6).bind (fun r66 => some (r66.1, r66.2)))) else (if a3 ≤ 40 then (if xin a1 4 then (if a2 = 0 then (if xs40 σ then (if a2 = 0 then (some (0, (xns σ a1.toNatClampNeg 0 0))) else (some (a3, (xns σ a1.toNatClampNeg 0 0)))) else none) else (if a2 = 8 then (if ¬ a3 < 0 ∧ a3.toNatClampNeg ≤ 40 then (if xs40 σ then (if a2 = 0 then (some (0, (xns σ a1.toNatClampNeg 8 a3))) else (some (a3, (xns σ a1.toNatClampNeg 8 a3)))) else none) else none) else (if a2 = 16 then (if ¬ a3 < 0 ∧ a3.toNatClampNeg ≤ 40 then (if xs40 σ then (if a2 = 0 then (some (0, (xns σ a1.toNatClampNeg 16 a3))) else (some (a3, (xns σ a1.toNatClampNeg 16 a3)))) else none) else none) else (if ¬ a3 < 0 ∧ a3.toNatClampNeg ≤ 40 then (if xs40 σ then (if a2 = 0 then (some (0, (xns σ a1.toNatClampNeg 32 a3))) else (some (a3, (xns σ a1.toNatClampNeg 32 a3)))) else none) else none)))) else none) else (if 0 ≤ a3 then ((fX0_finding σ 0).bind (fun r85 => some (r85.1, r85.2))) else ((fX0_finding σ 6).bind (fun r87 => some (r87.1, r87.2)))))) else (if a2 = 32 then (if a3 < 0 then (if 0 ≤ a3 then ((fX0_finding σ 0).bind (fun r92 => some (r92.1, r92.2))) else ((fX0_finding σ 6).bind (fun r94 => some (r94.1, r94.2)))) else (if a3 ≤ 40 then (if xin a1 4 then (if a2 = 0 then (if xs40 σ then (if a2 = 0 then (some (0, (xns σ a1.toNatClampNeg 0 0))) else (some (a3, (xns σ a1.toNatClampNeg 0 0)))) else none) else (if a2 = 8 then (if ¬ a3 < 0 ∧ a3.toNatClampNeg ≤ 40 then (if xs40 σ then (if a2 = 0 then (some (0, (xns σ a1.toNatClampNeg 8 a3))) else (some (a3, (xns σ a1.toNatClampNeg 8 a3)))) else none) else none) else (if a2 = 16 then (if ¬ a3 < 0 ∧ a3.toNatClampNeg ≤ 40 then (if xs40 σ then (if a2 = 0 then (some (0, (xns σ a1.toNatClampNeg 16 a3))) else (some (a3, (xns σ a1.toNatClampNeg 16 a3)))) else none) else none) else (if ¬ a3 < 0 ∧ a3.toNatClampNeg ≤ 40 then (if xs40 σ then (if a2 = 0 then (some (0, (xns σ a1.toNatClampNeg 32 a3))) else (some (a3, (xns σ a1.toNatClampNeg 32 a3)))) else none) else none)))) else none) else (if 0 ≤ a3 then ((fX0_finding σ 0).bind (fun r113 => some (r113.1, r113.2))) else ((fX0_finding σ 6).bind (fun r115 => some (r115.1, r115.2)))))) else ((fX0_finding σ 0).bind (fun r117 => some (r117.1, r117.2)))))))
set_option maxHeartbeats 4000000 in
theorem mX0_sheet (l : Launch) (E : xE) (σ : xM) (a1 : Int32) (a2 : Int32) (a3 : Int32) (r : Int32) (σ' : xM) (h : fX0_sheet σ a1 a2 a3 = some (r, σ')) : Met l yX0_sheet (ws_ yX0_sheet cX0_sheet 4 (some .int)) ({ frames := 2, cells := 1, slots := 40, locals := 42 } : Room) (xPc E σ [.ref (xa E 0), .int a1, .int a2, .int a3]) (xQe E (.returned (some (.int r))) σ') 1 40 (xA E) := by
  refine x_of (C := RX0) (n := "sheet") (d := "(III)I") (r := (some .int)) (by decide) rfl (by first | decide | exact Nat.le_of_ble_eq_true rfl) ?_
  intro p e s m below meth c ls F hr hlk hW hS hl
  have hl : lv_has ls 4 [(0, .ref (xa E 0)), (1, .int a1), (2, .int a2), (3, .int a3)] := hl
  obtain ⟨hx, hb, hml, hown, hts⟩ := id F.1
  have hK := F.2.1.1
  unfold fX0_sheet at h
  refine lv_iload_n hx hb dX0_sheet_0 rfl (lv_at hl 1 rfl) ?_
  refine x_backi (va_runS (As := [.int a1]) (rest := []) F.1 (mX0_isSheet l E σ a1) (va_cwS 1 hts (lw_S q853 q854 q99 q855) rfl rfl rfl (by decide +kernel) ⟨Nat.le_of_ble_eq_true rfl, Nat.le_of_ble_eq_true rfl⟩) ⟨xPc.blind, F.pre hW hS [.int a1]⟩ rfl rfl hl.1 rfl (lv_room (Nat.le_of_ble_eq_true rfl)) dX0_sheet_1 ⟨Nat.le_of_ble_eq_true rfl, Nat.le_of_ble_eq_true rfl⟩) hS (fun H locs hW hS => ?_)
  refine lv_if_eq (tgt := 29) hx hb dX0_sheet_4 (by decide) (fun c1 => ?_) (fun c1 => ?_)
  · rw [if_pos c1] at h
    refine lv_aload_n hx hb dX0_sheet_29 rfl (lv_at hl 0 rfl) ?_
    refine lv_iconst (v := 0) hx hb dX0_sheet_30 (by decide) ?_
    cases g2 : fX0_finding σ 0 with
    | none => rw [g2] at h; cases h
    | some r3 =>
      rw [g2, Option.bind_some] at h
      refine x_backi (va_runV (C := RX0) (b := (xa E 0)) (As := [.int 0]) (rest := []) F.1 (mX0_finding l E σ 0 r3.1 r3.2 g2) (cwV 1 hts (lw_V q469 q471 qs2 q99 q472) rfl rfl rfl (by decide +kernel) ⟨Nat.le_of_ble_eq_true rfl, Nat.le_of_ble_eq_true rfl⟩) ⟨xPc.blind, va_recv hK (xO_X hW) (ci := 0) (q0 := 0) rfl rfl, F.pre hW hS (.ref (xa E 0) :: [.int 0])⟩ rfl rfl hl.1 rfl (lv_room (Nat.le_of_ble_eq_true rfl)) dX0_sheet_31 ⟨Nat.le_of_ble_eq_true rfl, Nat.le_of_ble_eq_true rfl⟩) hS (fun H locs hW hS => ?_)
      obtain ⟨h1, h2⟩ := Prod.mk.inj (Option.some.inj h); subst h1; subst h2
      refine W.widen (k := 1) (n := 40) (by decide) (by decide) ?_
      exact x_mono (xQe.of (q := xq E)) (x_iret (x_Fq F _) hr hlk hW hS dX0_sheet_34)
  · rw [if_neg c1] at h
    refine lv_iload_n hx hb dX0_sheet_7 rfl (lv_at hl 2 rfl) ?_
    refine lv_if_eq (tgt := 35) hx hb dX0_sheet_8 (by decide) (fun c4 => ?_) (fun c4 => ?_)
    · rw [if_pos c4] at h
      refine lv_iload_n hx hb dX0_sheet_35 rfl (lv_at hl 3 rfl) ?_
      refine lv_if_lt (tgt := 45) hx hb dX0_sheet_36 (by decide) (fun c5 => ?_) (fun c5 => ?_)
      · rw [if_pos c5] at h
        refine lv_aload_n hx hb dX0_sheet_45 rfl (lv_at hl 0 rfl) ?_
        refine lv_iload_n hx hb dX0_sheet_46 rfl (lv_at hl 3 rfl) ?_
        refine lv_if_ge (tgt := 55) hx hb dX0_sheet_47 (by decide) (fun c6 => ?_) (fun c6 => ?_)
        · rw [if_pos c6] at h
          refine lv_iconst (v := 0) hx hb dX0_sheet_55 (by decide) ?_
          cases g7 : fX0_finding σ 0 with
          | none => rw [g7] at h; cases h
          | some r8 =>
            rw [g7, Option.bind_some] at h
            refine x_backi (va_runV (C := RX0) (b := (xa E 0)) (As := [.int 0]) (rest := []) F.1 (mX0_finding l E σ 0 r8.1 r8.2 g7) (cwV 1 hts (lw_V q469 q471 qs2 q99 q472) rfl rfl rfl (by decide +kernel) ⟨Nat.le_of_ble_eq_true rfl, Nat.le_of_ble_eq_true rfl⟩) ⟨xPc.blind, va_recv hK (xO_X hW) (ci := 0) (q0 := 0) rfl rfl, F.pre hW hS (.ref (xa E 0) :: [.int 0])⟩ rfl rfl hl.1 rfl (lv_room (Nat.le_of_ble_eq_true rfl)) dX0_sheet_56 ⟨Nat.le_of_ble_eq_true rfl, Nat.le_of_ble_eq_true rfl⟩) hS (fun H locs hW hS => ?_)
            obtain ⟨h1, h2⟩ := Prod.mk.inj (Option.some.inj h); subst h1; subst h2
            refine W.widen (k := 1) (n := 40) (by decide) (by decide) ?_
            exact x_mono (xQe.of (q := xq E)) (x_iret (x_Fq F _) hr hlk hW hS dX0_sheet_59)
        · rw [if_neg c6] at h
          refine lv_bipush (v := 6) hx hb dX0_sheet_50 (by decide) ?_
          refine lv_goto (tgt := 56) hx hb dX0_sheet_52 (by decide) ?_
          cases g9 : fX0_finding σ 6 with
          | none => rw [g9] at h; cases h
          | some r10 =>
            rw [g9, Option.bind_some] at h
            refine x_backi (va_runV (C := RX0) (b := (xa E 0)) (As := [.int 6]) (rest := []) F.1 (mX0_finding l E σ 6 r10.1 r10.2 g9) (cwV 1 hts (lw_V q469 q471 qs2 q99 q472) rfl rfl rfl (by decide +kernel) ⟨Nat.le_of_ble_eq_true rfl, Nat.le_of_ble_eq_true rfl⟩) ⟨xPc.blind, va_recv hK (xO_X hW) (ci := 0) (q0 := 0) rfl rfl, F.pre hW hS (.ref (xa E 0) :: [.int 6])⟩ rfl rfl hl.1 rfl (lv_room (Nat.le_of_ble_eq_true rfl)) dX0_sheet_56 ⟨Nat.le_of_ble_eq_true rfl, Nat.le_of_ble_eq_true rfl⟩) hS (fun H locs hW hS => ?_)
            obtain ⟨h1, h2⟩ := Prod.mk.inj (Option.some.inj h); subst h1; subst h2
            refine W.widen (k := 1) (n := 40) (by decide) (by decide) ?_
            exact x_mono (xQe.of (q := xq E)) (x_iret (x_Fq F _) hr hlk hW hS dX0_sheet_59)
      · rw [if_neg c5] at h
        refine lv_iload_n hx hb dX0_sheet_39 rfl (lv_at hl 3 rfl) ?_
        refine lv_bipush (v := 40) hx hb dX0_sheet_40 (by decide) ?_
        refine lv_icmp_le (tgt := 60) hx hb dX0_sheet_42 (by decide) (fun c11 => ?_) (fun c11 => ?_)
        · rw [if_pos c11] at h
          refine lv_aload_n hx hb dX0_sheet_60 rfl (lv_at hl 0 rfl) ?_
          refine va_get (D := xD E) (ci := 0) (v := .ref (xa E 55)) (C := RX0) (T := TX0) (N := 15) hx hb hts in_X0 hown hK (xO_X hW) 0 rfl rfl 9 (by decide) (hts _ q422) (fun _ h9 => h9) rfl dX0_sheet_61 ?_
          refine lv_iload_n hx hb dX0_sheet_64 rfl (lv_at hl 1 rfl) ?_
          by_cases hi12 : xin a1 4
          · rw [if_pos hi12] at h
            refine x_aald (g := fun j => xa E (182 + j)) (j := (a1.toNatClampNeg)) F 5 5 4 (xR_55 hW) rfl rfl hi12 rfl dX0_sheet_65 ?_
            refine lv_iload_n hx hb dX0_sheet_66 rfl (lv_at hl 2 rfl) ?_
            refine lv_if_ne (tgt := 74) hx hb dX0_sheet_67 (by decide) (fun c13 => ?_) (fun c13 => ?_)
            · rw [if_neg c13] at h
              refine lv_iload_n hx hb dX0_sheet_74 rfl (lv_at hl 2 rfl) ?_
              refine lv_bipush (v := 8) hx hb dX0_sheet_75 (by decide) ?_
              refine lv_icmp_ne (tgt := 86) hx hb dX0_sheet_77 (by decide) (fun c14 => ?_) (fun c14 => ?_)
              · rw [if_neg c14] at h
                refine lv_iload_n hx hb dX0_sheet_86 rfl (lv_at hl 2 rfl) ?_
                refine lv_bipush (v := 16) hx hb dX0_sheet_87 (by decide) ?_
                refine lv_icmp_ne (tgt := 98) hx hb dX0_sheet_89 (by decide) (fun c15 => ?_) (fun c15 => ?_)
                · rw [if_neg c15] at h
                  refine lv_iload_n hx hb dX0_sheet_98 rfl (lv_at hl 3 rfl) ?_
                  by_cases hs16 : ¬ a3 < 0 ∧ a3.toNatClampNeg ≤ 40
                  · rw [if_pos hs16] at h
                    refine x_newS F hW hS 0 .int (hts _ q269) rfl rfl (F.2.1.1.2 0 _ rfl).2 rfl (by decide) hs16.1 hs16.2 (Nat.le_of_ble_eq_true rfl) (Nat.le_of_ble_eq_true rfl) dX0_sheet_99 (fun H a hH hW ha1 ha2 hS => ?_)
                    by_cases hs17 : xs40 σ
                    · rw [if_pos hs17] at h
                      refine x_putSh F hW hS a1.toNatClampNeg (x_lt hi12) hs17 (va_Nw.use rfl (F.2.1.2.1 _ q308 rfl)) 32 a3 hs16.2 a (.ref a) rfl (fun _ => ⟨hH, ha1, ha2⟩) dX0_sheet_101 (fun H locs hW hS => ?_)
                      refine lv_iload_n hx hb dX0_sheet_104 rfl (lv_at hl 2 rfl) ?_
                      refine lv_if_ne (tgt := 112) hx hb dX0_sheet_105 (by decide) (fun c18 => ?_) (fun c18 => ?_)
                      · rw [if_neg c18] at h
                        refine lv_iload_n hx hb dX0_sheet_112 rfl (lv_at hl 3 rfl) ?_
                        obtain ⟨h1, h2⟩ := Prod.mk.inj (Option.some.inj h); subst h1; subst h2
                        refine W.widen (k := 1) (n := 40) (Nat.le_refl _) hs16.2 ?_
                        exact x_mono (xQe.of (q := _)) (x_iret (x_Fq F _) hr hlk hW hS dX0_sheet_113)
                      · rw [if_pos c18] at h
                        refine lv_iconst (v := 0) hx hb dX0_sheet_108 (by decide) ?_
                        refine lv_goto (tgt := 113) hx hb dX0_sheet_109 (by decide) ?_
                        obtain ⟨h1, h2⟩ := Prod.mk.inj (Option.some.inj h); subst h1; subst h2
                        refine W.widen (k := 1) (n := 40) (Nat.le_refl _) hs16.2 ?_
                        exact x_mono (xQe.of (q := _)) (x_iret (x_Fq F _) hr hlk hW hS dX0_sheet_113)
                    · rw [if_neg hs17] at h; cases h
                  · rw [if_neg hs16] at h; cases h
                · rw [if_pos c15] at h
                  refine lv_iload_n hx hb dX0_sheet_92 rfl (lv_at hl 3 rfl) ?_
                  by_cases hs19 : ¬ a3 < 0 ∧ a3.toNatClampNeg ≤ 40
                  · rw [if_pos hs19] at h
                    refine x_newS F hW hS 2 .short (hts _ q1122) rfl rfl (F.2.1.1.2 2 _ rfl).2 rfl (by decide) hs19.1 hs19.2 (Nat.le_of_ble_eq_true rfl) (Nat.le_of_ble_eq_true rfl) dX0_sheet_93 (fun H a hH hW ha1 ha2 hS => ?_)
                    refine lv_goto (tgt := 101) hx hb dX0_sheet_95 (by decide) ?_
                    by_cases hs20 : xs40 σ
                    · rw [if_pos hs20] at h
                      refine x_putSh F hW hS a1.toNatClampNeg (x_lt hi12) hs20 (va_Nw.use rfl (F.2.1.2.1 _ q308 rfl)) 16 a3 hs19.2 a (.ref a) rfl (fun _ => ⟨hH, ha1, ha2⟩) dX0_sheet_101 (fun H locs hW hS => ?_)
                      refine lv_iload_n hx hb dX0_sheet_104 rfl (lv_at hl 2 rfl) ?_
                      refine lv_if_ne (tgt := 112) hx hb dX0_sheet_105 (by decide) (fun c21 => ?_) (fun c21 => ?_)
                      · rw [if_neg c21] at h
                        refine lv_iload_n hx hb dX0_sheet_112 rfl (lv_at hl 3 rfl) ?_
                        obtain ⟨h1, h2⟩ := Prod.mk.inj (Option.some.inj h); subst h1; subst h2
                        refine W.widen (k := 1) (n := 40) (Nat.le_refl _) hs19.2 ?_
                        exact x_mono (xQe.of (q := _)) (x_iret (x_Fq F _) hr hlk hW hS dX0_sheet_113)
                      · rw [if_pos c21] at h
                        refine lv_iconst (v := 0) hx hb dX0_sheet_108 (by decide) ?_
                        refine lv_goto (tgt := 113) hx hb dX0_sheet_109 (by decide) ?_
                        obtain ⟨h1, h2⟩ := Prod.mk.inj (Option.some.inj h); subst h1; subst h2
                        refine W.widen (k := 1) (n := 40) (Nat.le_refl _) hs19.2 ?_
                        exact x_mono (xQe.of (q := _)) (x_iret (x_Fq F _) hr hlk hW hS dX0_sheet_113)
                    · rw [if_neg hs20] at h; cases h
                  · rw [if_neg hs19] at h; cases h
              · rw [if_pos c14] at h
                refine lv_iload_n hx hb dX0_sheet_80 rfl (lv_at hl 3 rfl) ?_
                by_cases hs22 : ¬ a3 < 0 ∧ a3.toNatClampNeg ≤ 40
                · rw [if_pos hs22] at h
                  refine x_newS F hW hS 1 .byte (hts _ q268) rfl rfl (F.2.1.1.2 1 _ rfl).2 rfl (by decide) hs22.1 hs22.2 (Nat.le_of_ble_eq_true rfl) (Nat.le_of_ble_eq_true rfl) dX0_sheet_81 (fun H a hH hW ha1 ha2 hS => ?_)
                  refine lv_goto (tgt := 101) hx hb dX0_sheet_83 (by decide) ?_
                  by_cases hs23 : xs40 σ
                  · rw [if_pos hs23] at h
                    refine x_putSh F hW hS a1.toNatClampNeg (x_lt hi12) hs23 (va_Nw.use rfl (F.2.1.2.1 _ q308 rfl)) 8 a3 hs22.2 a (.ref a) rfl (fun _ => ⟨hH, ha1, ha2⟩) dX0_sheet_101 (fun H locs hW hS => ?_)
                    refine lv_iload_n hx hb dX0_sheet_104 rfl (lv_at hl 2 rfl) ?_
                    refine lv_if_ne (tgt := 112) hx hb dX0_sheet_105 (by decide) (fun c24 => ?_) (fun c24 => ?_)
                    · rw [if_neg c24] at h
                      refine lv_iload_n hx hb dX0_sheet_112 rfl (lv_at hl 3 rfl) ?_
                      obtain ⟨h1, h2⟩ := Prod.mk.inj (Option.some.inj h); subst h1; subst h2
                      refine W.widen (k := 1) (n := 40) (Nat.le_refl _) hs22.2 ?_
                      exact x_mono (xQe.of (q := _)) (x_iret (x_Fq F _) hr hlk hW hS dX0_sheet_113)
                    · rw [if_pos c24] at h
                      refine lv_iconst (v := 0) hx hb dX0_sheet_108 (by decide) ?_
                      refine lv_goto (tgt := 113) hx hb dX0_sheet_109 (by decide) ?_
                      obtain ⟨h1, h2⟩ := Prod.mk.inj (Option.some.inj h); subst h1; subst h2
                      refine W.widen (k := 1) (n := 40) (Nat.le_refl _) hs22.2 ?_
                      exact x_mono (xQe.of (q := _)) (x_iret (x_Fq F _) hr hlk hW hS dX0_sheet_113)
                  · rw [if_neg hs23] at h; cases h
                · rw [if_neg hs22] at h; cases h
            · rw [if_pos c13] at h
              refine lv_null hx hb dX0_sheet_70 ?_
              refine lv_goto (tgt := 101) hx hb dX0_sheet_71 (by decide) ?_
              by_cases hs25 : xs40 σ
              · rw [if_pos hs25] at h
                refine x_putSh F hW hS a1.toNatClampNeg (x_lt hi12) hs25 (va_Nw.use rfl (F.2.1.2.1 _ q308 rfl)) 0 0 (by decide) 0 .null rfl (fun h9 => absurd rfl h9) dX0_sheet_101 (fun H locs hW hS => ?_)
                refine lv_iload_n hx hb dX0_sheet_104 rfl (lv_at hl 2 rfl) ?_
                refine lv_if_ne (tgt := 112) hx hb dX0_sheet_105 (by decide) (fun c26 => ?_) (fun c26 => ?_)
                · rw [if_neg c26] at h
                  refine lv_iload_n hx hb dX0_sheet_112 rfl (lv_at hl 3 rfl) ?_
                  obtain ⟨h1, h2⟩ := Prod.mk.inj (Option.some.inj h); subst h1; subst h2
                  refine W.widen (k := 1) (n := 40) (by decide) (by decide) ?_
                  exact x_mono (xQe.of (q := _)) (x_iret (x_Fq F _) hr hlk hW hS dX0_sheet_113)
                · rw [if_pos c26] at h
                  refine lv_iconst (v := 0) hx hb dX0_sheet_108 (by decide) ?_
                  refine lv_goto (tgt := 113) hx hb dX0_sheet_109 (by decide) ?_
                  obtain ⟨h1, h2⟩ := Prod.mk.inj (Option.some.inj h); subst h1; subst h2
                  refine W.widen (k := 1) (n := 40) (by decide) (by decide) ?_
                  exact x_mono (xQe.of (q := _)) (x_iret (x_Fq F _) hr hlk hW hS dX0_sheet_113)
              · rw [if_neg hs25] at h; cases h
          · rw [if_neg hi12] at h; cases h
        · rw [if_neg c11] at h
          refine lv_aload_n hx hb dX0_sheet_45 rfl (lv_at hl 0 rfl) ?_
          refine lv_iload_n hx hb dX0_sheet_46 rfl (lv_at hl 3 rfl) ?_
          refine lv_if_ge (tgt := 55) hx hb dX0_sheet_47 (by decide) (fun c27 => ?_) (fun c27 => ?_)
          · rw [if_pos c27] at h
            refine lv_iconst (v := 0) hx hb dX0_sheet_55 (by decide) ?_
            cases g28 : fX0_finding σ 0 with
            | none => rw [g28] at h; cases h
            | some r29 =>
              rw [g28, Option.bind_some] at h
              refine x_backi (va_runV (C := RX0) (b := (xa E 0)) (As := [.int 0]) (rest := []) F.1 (mX0_finding l E σ 0 r29.1 r29.2 g28) (cwV 1 hts (lw_V q469 q471 qs2 q99 q472) rfl rfl rfl (by decide +kernel) ⟨Nat.le_of_ble_eq_true rfl, Nat.le_of_ble_eq_true rfl⟩) ⟨xPc.blind, va_recv hK (xO_X hW) (ci := 0) (q0 := 0) rfl rfl, F.pre hW hS (.ref (xa E 0) :: [.int 0])⟩ rfl rfl hl.1 rfl (lv_room (Nat.le_of_ble_eq_true rfl)) dX0_sheet_56 ⟨Nat.le_of_ble_eq_true rfl, Nat.le_of_ble_eq_true rfl⟩) hS (fun H locs hW hS => ?_)
              obtain ⟨h1, h2⟩ := Prod.mk.inj (Option.some.inj h); subst h1; subst h2
              refine W.widen (k := 1) (n := 40) (by decide) (by decide) ?_
              exact x_mono (xQe.of (q := xq E)) (x_iret (x_Fq F _) hr hlk hW hS dX0_sheet_59)
          · rw [if_neg c27] at h
            refine lv_bipush (v := 6) hx hb dX0_sheet_50 (by decide) ?_
            refine lv_goto (tgt := 56) hx hb dX0_sheet_52 (by decide) ?_
            cases g30 : fX0_finding σ 6 with
            | none => rw [g30] at h; cases h
            | some r31 =>
              rw [g30, Option.bind_some] at h
              refine x_backi (va_runV (C := RX0) (b := (xa E 0)) (As := [.int 6]) (rest := []) F.1 (mX0_finding l E σ 6 r31.1 r31.2 g30) (cwV 1 hts (lw_V q469 q471 qs2 q99 q472) rfl rfl rfl (by decide +kernel) ⟨Nat.le_of_ble_eq_true rfl, Nat.le_of_ble_eq_true rfl⟩) ⟨xPc.blind, va_recv hK (xO_X hW) (ci := 0) (q0 := 0) rfl rfl, F.pre hW hS (.ref (xa E 0) :: [.int 6])⟩ rfl rfl hl.1 rfl (lv_room (Nat.le_of_ble_eq_true rfl)) dX0_sheet_56 ⟨Nat.le_of_ble_eq_true rfl, Nat.le_of_ble_eq_true rfl⟩) hS (fun H locs hW hS => ?_)
              obtain ⟨h1, h2⟩ := Prod.mk.inj (Option.some.inj h); subst h1; subst h2
              refine W.widen (k := 1) (n := 40) (by decide) (by decide) ?_
              exact x_mono (xQe.of (q := xq E)) (x_iret (x_Fq F _) hr hlk hW hS dX0_sheet_59)
    · rw [if_neg c4] at h
      refine lv_iload_n hx hb dX0_sheet_11 rfl (lv_at hl 2 rfl) ?_
      refine lv_bipush (v := 8) hx hb dX0_sheet_12 (by decide) ?_
      refine lv_icmp_eq (tgt := 35) hx hb dX0_sheet_14 (by decide) (fun c32 => ?_) (fun c32 => ?_)
      · rw [if_pos c32] at h
        refine lv_iload_n hx hb dX0_sheet_35 rfl (lv_at hl 3 rfl) ?_
        refine lv_if_lt (tgt := 45) hx hb dX0_sheet_36 (by decide) (fun c33 => ?_) (fun c33 => ?_)
        · rw [if_pos c33] at h
          refine lv_aload_n hx hb dX0_sheet_45 rfl (lv_at hl 0 rfl) ?_
          refine lv_iload_n hx hb dX0_sheet_46 rfl (lv_at hl 3 rfl) ?_
          refine lv_if_ge (tgt := 55) hx hb dX0_sheet_47 (by decide) (fun c34 => ?_) (fun c34 => ?_)
          · rw [if_pos c34] at h
            refine lv_iconst (v := 0) hx hb dX0_sheet_55 (by decide) ?_
            cases g35 : fX0_finding σ 0 with
            | none => rw [g35] at h; cases h
            | some r36 =>
              rw [g35, Option.bind_some] at h
              refine x_backi (va_runV (C := RX0) (b := (xa E 0)) (As := [.int 0]) (rest := []) F.1 (mX0_finding l E σ 0 r36.1 r36.2 g35) (cwV 1 hts (lw_V q469 q471 qs2 q99 q472) rfl rfl rfl (by decide +kernel) ⟨Nat.le_of_ble_eq_true rfl, Nat.le_of_ble_eq_true rfl⟩) ⟨xPc.blind, va_recv hK (xO_X hW) (ci := 0) (q0 := 0) rfl rfl, F.pre hW hS (.ref (xa E 0) :: [.int 0])⟩ rfl rfl hl.1 rfl (lv_room (Nat.le_of_ble_eq_true rfl)) dX0_sheet_56 ⟨Nat.le_of_ble_eq_true rfl, Nat.le_of_ble_eq_true rfl⟩) hS (fun H locs hW hS => ?_)
              obtain ⟨h1, h2⟩ := Prod.mk.inj (Option.some.inj h); subst h1; subst h2
              refine W.widen (k := 1) (n := 40) (by decide) (by decide) ?_
              exact x_mono (xQe.of (q := xq E)) (x_iret (x_Fq F _) hr hlk hW hS dX0_sheet_59)
          · rw [if_neg c34] at h
            refine lv_bipush (v := 6) hx hb dX0_sheet_50 (by decide) ?_
            refine lv_goto (tgt := 56) hx hb dX0_sheet_52 (by decide) ?_
            cases g37 : fX0_finding σ 6 with
            | none => rw [g37] at h; cases h
            | some r38 =>
              rw [g37, Option.bind_some] at h
              refine x_backi (va_runV (C := RX0) (b := (xa E 0)) (As := [.int 6]) (rest := []) F.1 (mX0_finding l E σ 6 r38.1 r38.2 g37) (cwV 1 hts (lw_V q469 q471 qs2 q99 q472) rfl rfl rfl (by decide +kernel) ⟨Nat.le_of_ble_eq_true rfl, Nat.le_of_ble_eq_true rfl⟩) ⟨xPc.blind, va_recv hK (xO_X hW) (ci := 0) (q0 := 0) rfl rfl, F.pre hW hS (.ref (xa E 0) :: [.int 6])⟩ rfl rfl hl.1 rfl (lv_room (Nat.le_of_ble_eq_true rfl)) dX0_sheet_56 ⟨Nat.le_of_ble_eq_true rfl, Nat.le_of_ble_eq_true rfl⟩) hS (fun H locs hW hS => ?_)
              obtain ⟨h1, h2⟩ := Prod.mk.inj (Option.some.inj h); subst h1; subst h2
              refine W.widen (k := 1) (n := 40) (by decide) (by decide) ?_
              exact x_mono (xQe.of (q := xq E)) (x_iret (x_Fq F _) hr hlk hW hS dX0_sheet_59)
        · rw [if_neg c33] at h
          refine lv_iload_n hx hb dX0_sheet_39 rfl (lv_at hl 3 rfl) ?_
          refine lv_bipush (v := 40) hx hb dX0_sheet_40 (by decide) ?_
          refine lv_icmp_le (tgt := 60) hx hb dX0_sheet_42 (by decide) (fun c39 => ?_) (fun c39 => ?_)
          · rw [if_pos c39] at h
            refine lv_aload_n hx hb dX0_sheet_60 rfl (lv_at hl 0 rfl) ?_
            refine va_get (D := xD E) (ci := 0) (v := .ref (xa E 55)) (C := RX0) (T := TX0) (N := 15) hx hb hts in_X0 hown hK (xO_X hW) 0 rfl rfl 9 (by decide) (hts _ q422) (fun _ h9 => h9) rfl dX0_sheet_61 ?_
            refine lv_iload_n hx hb dX0_sheet_64 rfl (lv_at hl 1 rfl) ?_
            by_cases hi40 : xin a1 4
            · rw [if_pos hi40] at h
              refine x_aald (g := fun j => xa E (182 + j)) (j := (a1.toNatClampNeg)) F 5 5 4 (xR_55 hW) rfl rfl hi40 rfl dX0_sheet_65 ?_
              refine lv_iload_n hx hb dX0_sheet_66 rfl (lv_at hl 2 rfl) ?_
              refine lv_if_ne (tgt := 74) hx hb dX0_sheet_67 (by decide) (fun c41 => ?_) (fun c41 => ?_)
              · rw [if_neg c41] at h
                refine lv_iload_n hx hb dX0_sheet_74 rfl (lv_at hl 2 rfl) ?_
                refine lv_bipush (v := 8) hx hb dX0_sheet_75 (by decide) ?_
                refine lv_icmp_ne (tgt := 86) hx hb dX0_sheet_77 (by decide) (fun c42 => ?_) (fun c42 => ?_)
                · rw [if_neg c42] at h
                  refine lv_iload_n hx hb dX0_sheet_86 rfl (lv_at hl 2 rfl) ?_
                  refine lv_bipush (v := 16) hx hb dX0_sheet_87 (by decide) ?_
                  refine lv_icmp_ne (tgt := 98) hx hb dX0_sheet_89 (by decide) (fun c43 => ?_) (fun c43 => ?_)
                  · rw [if_neg c43] at h
                    refine lv_iload_n hx hb dX0_sheet_98 rfl (lv_at hl 3 rfl) ?_
                    by_cases hs44 : ¬ a3 < 0 ∧ a3.toNatClampNeg ≤ 40
                    · rw [if_pos hs44] at h
                      refine x_newS F hW hS 0 .int (hts _ q269) rfl rfl (F.2.1.1.2 0 _ rfl).2 rfl (by decide) hs44.1 hs44.2 (Nat.le_of_ble_eq_true rfl) (Nat.le_of_ble_eq_true rfl) dX0_sheet_99 (fun H a hH hW ha1 ha2 hS => ?_)
                      by_cases hs45 : xs40 σ
                      · rw [if_pos hs45] at h
                        refine x_putSh F hW hS a1.toNatClampNeg (x_lt hi40) hs45 (va_Nw.use rfl (F.2.1.2.1 _ q308 rfl)) 32 a3 hs44.2 a (.ref a) rfl (fun _ => ⟨hH, ha1, ha2⟩) dX0_sheet_101 (fun H locs hW hS => ?_)
                        refine lv_iload_n hx hb dX0_sheet_104 rfl (lv_at hl 2 rfl) ?_
                        refine lv_if_ne (tgt := 112) hx hb dX0_sheet_105 (by decide) (fun c46 => ?_) (fun c46 => ?_)
                        · rw [if_neg c46] at h
                          refine lv_iload_n hx hb dX0_sheet_112 rfl (lv_at hl 3 rfl) ?_
                          obtain ⟨h1, h2⟩ := Prod.mk.inj (Option.some.inj h); subst h1; subst h2
                          refine W.widen (k := 1) (n := 40) (Nat.le_refl _) hs44.2 ?_
                          exact x_mono (xQe.of (q := _)) (x_iret (x_Fq F _) hr hlk hW hS dX0_sheet_113)
                        · rw [if_pos c46] at h
                          refine lv_iconst (v := 0) hx hb dX0_sheet_108 (by decide) ?_
                          refine lv_goto (tgt := 113) hx hb dX0_sheet_109 (by decide) ?_
                          obtain ⟨h1, h2⟩ := Prod.mk.inj (Option.some.inj h); subst h1; subst h2
                          refine W.widen (k := 1) (n := 40) (Nat.le_refl _) hs44.2 ?_
                          exact x_mono (xQe.of (q := _)) (x_iret (x_Fq F _) hr hlk hW hS dX0_sheet_113)
                      · rw [if_neg hs45] at h; cases h
                    · rw [if_neg hs44] at h; cases h
                  · rw [if_pos c43] at h
                    refine lv_iload_n hx hb dX0_sheet_92 rfl (lv_at hl 3 rfl) ?_
                    by_cases hs47 : ¬ a3 < 0 ∧ a3.toNatClampNeg ≤ 40
                    · rw [if_pos hs47] at h
                      refine x_newS F hW hS 2 .short (hts _ q1122) rfl rfl (F.2.1.1.2 2 _ rfl).2 rfl (by decide) hs47.1 hs47.2 (Nat.le_of_ble_eq_true rfl) (Nat.le_of_ble_eq_true rfl) dX0_sheet_93 (fun H a hH hW ha1 ha2 hS => ?_)
                      refine lv_goto (tgt := 101) hx hb dX0_sheet_95 (by decide) ?_
                      by_cases hs48 : xs40 σ
                      · rw [if_pos hs48] at h
                        refine x_putSh F hW hS a1.toNatClampNeg (x_lt hi40) hs48 (va_Nw.use rfl (F.2.1.2.1 _ q308 rfl)) 16 a3 hs47.2 a (.ref a) rfl (fun _ => ⟨hH, ha1, ha2⟩) dX0_sheet_101 (fun H locs hW hS => ?_)
                        refine lv_iload_n hx hb dX0_sheet_104 rfl (lv_at hl 2 rfl) ?_
                        refine lv_if_ne (tgt := 112) hx hb dX0_sheet_105 (by decide) (fun c49 => ?_) (fun c49 => ?_)
                        · rw [if_neg c49] at h
                          refine lv_iload_n hx hb dX0_sheet_112 rfl (lv_at hl 3 rfl) ?_
                          obtain ⟨h1, h2⟩ := Prod.mk.inj (Option.some.inj h); subst h1; subst h2
                          refine W.widen (k := 1) (n := 40) (Nat.le_refl _) hs47.2 ?_
                          exact x_mono (xQe.of (q := _)) (x_iret (x_Fq F _) hr hlk hW hS dX0_sheet_113)
                        · rw [if_pos c49] at h
                          refine lv_iconst (v := 0) hx hb dX0_sheet_108 (by decide) ?_
                          refine lv_goto (tgt := 113) hx hb dX0_sheet_109 (by decide) ?_
                          obtain ⟨h1, h2⟩ := Prod.mk.inj (Option.some.inj h); subst h1; subst h2
                          refine W.widen (k := 1) (n := 40) (Nat.le_refl _) hs47.2 ?_
                          exact x_mono (xQe.of (q := _)) (x_iret (x_Fq F _) hr hlk hW hS dX0_sheet_113)
                      · rw [if_neg hs48] at h; cases h
                    · rw [if_neg hs47] at h; cases h
                · rw [if_pos c42] at h
                  refine lv_iload_n hx hb dX0_sheet_80 rfl (lv_at hl 3 rfl) ?_
                  by_cases hs50 : ¬ a3 < 0 ∧ a3.toNatClampNeg ≤ 40
                  · rw [if_pos hs50] at h
                    refine x_newS F hW hS 1 .byte (hts _ q268) rfl rfl (F.2.1.1.2 1 _ rfl).2 rfl (by decide) hs50.1 hs50.2 (Nat.le_of_ble_eq_true rfl) (Nat.le_of_ble_eq_true rfl) dX0_sheet_81 (fun H a hH hW ha1 ha2 hS => ?_)
                    refine lv_goto (tgt := 101) hx hb dX0_sheet_83 (by decide) ?_
                    by_cases hs51 : xs40 σ
                    · rw [if_pos hs51] at h
                      refine x_putSh F hW hS a1.toNatClampNeg (x_lt hi40) hs51 (va_Nw.use rfl (F.2.1.2.1 _ q308 rfl)) 8 a3 hs50.2 a (.ref a) rfl (fun _ => ⟨hH, ha1, ha2⟩) dX0_sheet_101 (fun H locs hW hS => ?_)
                      refine lv_iload_n hx hb dX0_sheet_104 rfl (lv_at hl 2 rfl) ?_
                      refine lv_if_ne (tgt := 112) hx hb dX0_sheet_105 (by decide) (fun c52 => ?_) (fun c52 => ?_)
                      · rw [if_neg c52] at h
                        refine lv_iload_n hx hb dX0_sheet_112 rfl (lv_at hl 3 rfl) ?_
                        obtain ⟨h1, h2⟩ := Prod.mk.inj (Option.some.inj h); subst h1; subst h2
                        refine W.widen (k := 1) (n := 40) (Nat.le_refl _) hs50.2 ?_
                        exact x_mono (xQe.of (q := _)) (x_iret (x_Fq F _) hr hlk hW hS dX0_sheet_113)
                      · rw [if_pos c52] at h
                        refine lv_iconst (v := 0) hx hb dX0_sheet_108 (by decide) ?_
                        refine lv_goto (tgt := 113) hx hb dX0_sheet_109 (by decide) ?_
                        obtain ⟨h1, h2⟩ := Prod.mk.inj (Option.some.inj h); subst h1; subst h2
                        refine W.widen (k := 1) (n := 40) (Nat.le_refl _) hs50.2 ?_
                        exact x_mono (xQe.of (q := _)) (x_iret (x_Fq F _) hr hlk hW hS dX0_sheet_113)
                    · rw [if_neg hs51] at h; cases h
                  · rw [if_neg hs50] at h; cases h
              · rw [if_pos c41] at h
                refine lv_null hx hb dX0_sheet_70 ?_
                refine lv_goto (tgt := 101) hx hb dX0_sheet_71 (by decide) ?_
                by_cases hs53 : xs40 σ
                · rw [if_pos hs53] at h
                  refine x_putSh F hW hS a1.toNatClampNeg (x_lt hi40) hs53 (va_Nw.use rfl (F.2.1.2.1 _ q308 rfl)) 0 0 (by decide) 0 .null rfl (fun h9 => absurd rfl h9) dX0_sheet_101 (fun H locs hW hS => ?_)
                  refine lv_iload_n hx hb dX0_sheet_104 rfl (lv_at hl 2 rfl) ?_
                  refine lv_if_ne (tgt := 112) hx hb dX0_sheet_105 (by decide) (fun c54 => ?_) (fun c54 => ?_)
                  · rw [if_neg c54] at h
                    refine lv_iload_n hx hb dX0_sheet_112 rfl (lv_at hl 3 rfl) ?_
                    obtain ⟨h1, h2⟩ := Prod.mk.inj (Option.some.inj h); subst h1; subst h2
                    refine W.widen (k := 1) (n := 40) (by decide) (by decide) ?_
                    exact x_mono (xQe.of (q := _)) (x_iret (x_Fq F _) hr hlk hW hS dX0_sheet_113)
                  · rw [if_pos c54] at h
                    refine lv_iconst (v := 0) hx hb dX0_sheet_108 (by decide) ?_
                    refine lv_goto (tgt := 113) hx hb dX0_sheet_109 (by decide) ?_
                    obtain ⟨h1, h2⟩ := Prod.mk.inj (Option.some.inj h); subst h1; subst h2
                    refine W.widen (k := 1) (n := 40) (by decide) (by decide) ?_
                    exact x_mono (xQe.of (q := _)) (x_iret (x_Fq F _) hr hlk hW hS dX0_sheet_113)
                · rw [if_neg hs53] at h; cases h
            · rw [if_neg hi40] at h; cases h
          · rw [if_neg c39] at h
            refine lv_aload_n hx hb dX0_sheet_45 rfl (lv_at hl 0 rfl) ?_
            refine lv_iload_n hx hb dX0_sheet_46 rfl (lv_at hl 3 rfl) ?_
            refine lv_if_ge (tgt := 55) hx hb dX0_sheet_47 (by decide) (fun c55 => ?_) (fun c55 => ?_)
            · rw [if_pos c55] at h
              refine lv_iconst (v := 0) hx hb dX0_sheet_55 (by decide) ?_
              cases g56 : fX0_finding σ 0 with
              | none => rw [g56] at h; cases h
              | some r57 =>
                rw [g56, Option.bind_some] at h
                refine x_backi (va_runV (C := RX0) (b := (xa E 0)) (As := [.int 0]) (rest := []) F.1 (mX0_finding l E σ 0 r57.1 r57.2 g56) (cwV 1 hts (lw_V q469 q471 qs2 q99 q472) rfl rfl rfl (by decide +kernel) ⟨Nat.le_of_ble_eq_true rfl, Nat.le_of_ble_eq_true rfl⟩) ⟨xPc.blind, va_recv hK (xO_X hW) (ci := 0) (q0 := 0) rfl rfl, F.pre hW hS (.ref (xa E 0) :: [.int 0])⟩ rfl rfl hl.1 rfl (lv_room (Nat.le_of_ble_eq_true rfl)) dX0_sheet_56 ⟨Nat.le_of_ble_eq_true rfl, Nat.le_of_ble_eq_true rfl⟩) hS (fun H locs hW hS => ?_)
                obtain ⟨h1, h2⟩ := Prod.mk.inj (Option.some.inj h); subst h1; subst h2
                refine W.widen (k := 1) (n := 40) (by decide) (by decide) ?_
                exact x_mono (xQe.of (q := xq E)) (x_iret (x_Fq F _) hr hlk hW hS dX0_sheet_59)
            · rw [if_neg c55] at h
              refine lv_bipush (v := 6) hx hb dX0_sheet_50 (by decide) ?_
              refine lv_goto (tgt := 56) hx hb dX0_sheet_52 (by decide) ?_
              cases g58 : fX0_finding σ 6 with
              | none => rw [g58] at h; cases h
              | some r59 =>
                rw [g58, Option.bind_some] at h
                refine x_backi (va_runV (C := RX0) (b := (xa E 0)) (As := [.int 6]) (rest := []) F.1 (mX0_finding l E σ 6 r59.1 r59.2 g58) (cwV 1 hts (lw_V q469 q471 qs2 q99 q472) rfl rfl rfl (by decide +kernel) ⟨Nat.le_of_ble_eq_true rfl, Nat.le_of_ble_eq_true rfl⟩) ⟨xPc.blind, va_recv hK (xO_X hW) (ci := 0) (q0 := 0) rfl rfl, F.pre hW hS (.ref (xa E 0) :: [.int 6])⟩ rfl rfl hl.1 rfl (lv_room (Nat.le_of_ble_eq_true rfl)) dX0_sheet_56 ⟨Nat.le_of_ble_eq_true rfl, Nat.le_of_ble_eq_true rfl⟩) hS (fun H locs hW hS => ?_)
                obtain ⟨h1, h2⟩ := Prod.mk.inj (Option.some.inj h); subst h1; subst h2
                refine W.widen (k := 1) (n := 40) (by decide) (by decide) ?_
                exact x_mono (xQe.of (q := xq E)) (x_iret (x_Fq F _) hr hlk hW hS dX0_sheet_59)
      · rw [if_neg c32] at h
        refine lv_iload_n hx hb dX0_sheet_17 rfl (lv_at hl 2 rfl) ?_
        refine lv_bipush (v := 16) hx hb dX0_sheet_18 (by decide) ?_
        refine lv_icmp_eq (tgt := 35) hx hb dX0_sheet_20 (by decide) (fun c60 => ?_) (fun c60 => ?_)
        · rw [if_pos c60] at h
          refine lv_iload_n hx hb dX0_sheet_35 rfl (lv_at hl 3 rfl) ?_
          refine lv_if_lt (tgt := 45) hx hb dX0_sheet_36 (by decide) (fun c61 => ?_) (fun c61 => ?_)
          · rw [if_pos c61] at h
            refine lv_aload_n hx hb dX0_sheet_45 rfl (lv_at hl 0 rfl) ?_
            refine lv_iload_n hx hb dX0_sheet_46 rfl (lv_at hl 3 rfl) ?_
            refine lv_if_ge (tgt := 55) hx hb dX0_sheet_47 (by decide) (fun c62 => ?_) (fun c62 => ?_)
            · rw [if_pos c62] at h
              refine lv_iconst (v := 0) hx hb dX0_sheet_55 (by decide) ?_
              cases g63 : fX0_finding σ 0 with
              | none => rw [g63] at h; cases h
              | some r64 =>
                rw [g63, Option.bind_some] at h
                refine x_backi (va_runV (C := RX0) (b := (xa E 0)) (As := [.int 0]) (rest := []) F.1 (mX0_finding l E σ 0 r64.1 r64.2 g63) (cwV 1 hts (lw_V q469 q471 qs2 q99 q472) rfl rfl rfl (by decide +kernel) ⟨Nat.le_of_ble_eq_true rfl, Nat.le_of_ble_eq_true rfl⟩) ⟨xPc.blind, va_recv hK (xO_X hW) (ci := 0) (q0 := 0) rfl rfl, F.pre hW hS (.ref (xa E 0) :: [.int 0])⟩ rfl rfl hl.1 rfl (lv_room (Nat.le_of_ble_eq_true rfl)) dX0_sheet_56 ⟨Nat.le_of_ble_eq_true rfl, Nat.le_of_ble_eq_true rfl⟩) hS (fun H locs hW hS => ?_)
                obtain ⟨h1, h2⟩ := Prod.mk.inj (Option.some.inj h); subst h1; subst h2
                refine W.widen (k := 1) (n := 40) (by decide) (by decide) ?_
                exact x_mono (xQe.of (q := xq E)) (x_iret (x_Fq F _) hr hlk hW hS dX0_sheet_59)
            · rw [if_neg c62] at h
              refine lv_bipush (v := 6) hx hb dX0_sheet_50 (by decide) ?_
              refine lv_goto (tgt := 56) hx hb dX0_sheet_52 (by decide) ?_
              cases g65 : fX0_finding σ 6 with
              | none => rw [g65] at h; cases h
              | some r66 =>
                rw [g65, Option.bind_some] at h
                refine x_backi (va_runV (C := RX0) (b := (xa E 0)) (As := [.int 6]) (rest := []) F.1 (mX0_finding l E σ 6 r66.1 r66.2 g65) (cwV 1 hts (lw_V q469 q471 qs2 q99 q472) rfl rfl rfl (by decide +kernel) ⟨Nat.le_of_ble_eq_true rfl, Nat.le_of_ble_eq_true rfl⟩) ⟨xPc.blind, va_recv hK (xO_X hW) (ci := 0) (q0 := 0) rfl rfl, F.pre hW hS (.ref (xa E 0) :: [.int 6])⟩ rfl rfl hl.1 rfl (lv_room (Nat.le_of_ble_eq_true rfl)) dX0_sheet_56 ⟨Nat.le_of_ble_eq_true rfl, Nat.le_of_ble_eq_true rfl⟩) hS (fun H locs hW hS => ?_)
                obtain ⟨h1, h2⟩ := Prod.mk.inj (Option.some.inj h); subst h1; subst h2
                refine W.widen (k := 1) (n := 40) (by decide) (by decide) ?_
                exact x_mono (xQe.of (q := xq E)) (x_iret (x_Fq F _) hr hlk hW hS dX0_sheet_59)
          · rw [if_neg c61] at h
            refine lv_iload_n hx hb dX0_sheet_39 rfl (lv_at hl 3 rfl) ?_
            refine lv_bipush (v := 40) hx hb dX0_sheet_40 (by decide) ?_
            refine lv_icmp_le (tgt := 60) hx hb dX0_sheet_42 (by decide) (fun c67 => ?_) (fun c67 => ?_)
            · rw [if_pos c67] at h
              refine lv_aload_n hx hb dX0_sheet_60 rfl (lv_at hl 0 rfl) ?_
              refine va_get (D := xD E) (ci := 0) (v := .ref (xa E 55)) (C := RX0) (T := TX0) (N := 15) hx hb hts in_X0 hown hK (xO_X hW) 0 rfl rfl 9 (by decide) (hts _ q422) (fun _ h9 => h9) rfl dX0_sheet_61 ?_
              refine lv_iload_n hx hb dX0_sheet_64 rfl (lv_at hl 1 rfl) ?_
              by_cases hi68 : xin a1 4
              · rw [if_pos hi68] at h
                refine x_aald (g := fun j => xa E (182 + j)) (j := (a1.toNatClampNeg)) F 5 5 4 (xR_55 hW) rfl rfl hi68 rfl dX0_sheet_65 ?_
                refine lv_iload_n hx hb dX0_sheet_66 rfl (lv_at hl 2 rfl) ?_
                refine lv_if_ne (tgt := 74) hx hb dX0_sheet_67 (by decide) (fun c69 => ?_) (fun c69 => ?_)
                · rw [if_neg c69] at h
                  refine lv_iload_n hx hb dX0_sheet_74 rfl (lv_at hl 2 rfl) ?_
                  refine lv_bipush (v := 8) hx hb dX0_sheet_75 (by decide) ?_
                  refine lv_icmp_ne (tgt := 86) hx hb dX0_sheet_77 (by decide) (fun c70 => ?_) (fun c70 => ?_)
                  · rw [if_neg c70] at h
                    refine lv_iload_n hx hb dX0_sheet_86 rfl (lv_at hl 2 rfl) ?_
                    refine lv_bipush (v := 16) hx hb dX0_sheet_87 (by decide) ?_
                    refine lv_icmp_ne (tgt := 98) hx hb dX0_sheet_89 (by decide) (fun c71 => ?_) (fun c71 => ?_)
                    · rw [if_neg c71] at h
                      refine lv_iload_n hx hb dX0_sheet_98 rfl (lv_at hl 3 rfl) ?_
                      by_cases hs72 : ¬ a3 < 0 ∧ a3.toNatClampNeg ≤ 40
                      · rw [if_pos hs72] at h
                        refine x_newS F hW hS 0 .int (hts _ q269) rfl rfl (F.2.1.1.2 0 _ rfl).2 rfl (by decide) hs72.1 hs72.2 (Nat.le_of_ble_eq_true rfl) (Nat.le_of_ble_eq_true rfl) dX0_sheet_99 (fun H a hH hW ha1 ha2 hS => ?_)
                        by_cases hs73 : xs40 σ
                        · rw [if_pos hs73] at h
                          refine x_putSh F hW hS a1.toNatClampNeg (x_lt hi68) hs73 (va_Nw.use rfl (F.2.1.2.1 _ q308 rfl)) 32 a3 hs72.2 a (.ref a) rfl (fun _ => ⟨hH, ha1, ha2⟩) dX0_sheet_101 (fun H locs hW hS => ?_)
                          refine lv_iload_n hx hb dX0_sheet_104 rfl (lv_at hl 2 rfl) ?_
                          refine lv_if_ne (tgt := 112) hx hb dX0_sheet_105 (by decide) (fun c74 => ?_) (fun c74 => ?_)
                          · rw [if_neg c74] at h
                            refine lv_iload_n hx hb dX0_sheet_112 rfl (lv_at hl 3 rfl) ?_
                            obtain ⟨h1, h2⟩ := Prod.mk.inj (Option.some.inj h); subst h1; subst h2
                            refine W.widen (k := 1) (n := 40) (Nat.le_refl _) hs72.2 ?_
                            exact x_mono (xQe.of (q := _)) (x_iret (x_Fq F _) hr hlk hW hS dX0_sheet_113)
                          · rw [if_pos c74] at h
                            refine lv_iconst (v := 0) hx hb dX0_sheet_108 (by decide) ?_
                            refine lv_goto (tgt := 113) hx hb dX0_sheet_109 (by decide) ?_
                            obtain ⟨h1, h2⟩ := Prod.mk.inj (Option.some.inj h); subst h1; subst h2
                            refine W.widen (k := 1) (n := 40) (Nat.le_refl _) hs72.2 ?_
                            exact x_mono (xQe.of (q := _)) (x_iret (x_Fq F _) hr hlk hW hS dX0_sheet_113)
                        · rw [if_neg hs73] at h; cases h
                      · rw [if_neg hs72] at h; cases h
                    · rw [if_pos c71] at h
                      refine lv_iload_n hx hb dX0_sheet_92 rfl (lv_at hl 3 rfl) ?_
                      by_cases hs75 : ¬ a3 < 0 ∧ a3.toNatClampNeg ≤ 40
                      · rw [if_pos hs75] at h
                        refine x_newS F hW hS 2 .short (hts _ q1122) rfl rfl (F.2.1.1.2 2 _ rfl).2 rfl (by decide) hs75.1 hs75.2 (Nat.le_of_ble_eq_true rfl) (Nat.le_of_ble_eq_true rfl) dX0_sheet_93 (fun H a hH hW ha1 ha2 hS => ?_)
                        refine lv_goto (tgt := 101) hx hb dX0_sheet_95 (by decide) ?_
                        by_cases hs76 : xs40 σ
                        · rw [if_pos hs76] at h
                          refine x_putSh F hW hS a1.toNatClampNeg (x_lt hi68) hs76 (va_Nw.use rfl (F.2.1.2.1 _ q308 rfl)) 16 a3 hs75.2 a (.ref a) rfl (fun _ => ⟨hH, ha1, ha2⟩) dX0_sheet_101 (fun H locs hW hS => ?_)
                          refine lv_iload_n hx hb dX0_sheet_104 rfl (lv_at hl 2 rfl) ?_
                          refine lv_if_ne (tgt := 112) hx hb dX0_sheet_105 (by decide) (fun c77 => ?_) (fun c77 => ?_)
                          · rw [if_neg c77] at h
                            refine lv_iload_n hx hb dX0_sheet_112 rfl (lv_at hl 3 rfl) ?_
                            obtain ⟨h1, h2⟩ := Prod.mk.inj (Option.some.inj h); subst h1; subst h2
                            refine W.widen (k := 1) (n := 40) (Nat.le_refl _) hs75.2 ?_
                            exact x_mono (xQe.of (q := _)) (x_iret (x_Fq F _) hr hlk hW hS dX0_sheet_113)
                          · rw [if_pos c77] at h
                            refine lv_iconst (v := 0) hx hb dX0_sheet_108 (by decide) ?_
                            refine lv_goto (tgt := 113) hx hb dX0_sheet_109 (by decide) ?_
                            obtain ⟨h1, h2⟩ := Prod.mk.inj (Option.some.inj h); subst h1; subst h2
                            refine W.widen (k := 1) (n := 40) (Nat.le_refl _) hs75.2 ?_
                            exact x_mono (xQe.of (q := _)) (x_iret (x_Fq F _) hr hlk hW hS dX0_sheet_113)
                        · rw [if_neg hs76] at h; cases h
                      · rw [if_neg hs75] at h; cases h
                  · rw [if_pos c70] at h
                    refine lv_iload_n hx hb dX0_sheet_80 rfl (lv_at hl 3 rfl) ?_
                    by_cases hs78 : ¬ a3 < 0 ∧ a3.toNatClampNeg ≤ 40
                    · rw [if_pos hs78] at h
                      refine x_newS F hW hS 1 .byte (hts _ q268) rfl rfl (F.2.1.1.2 1 _ rfl).2 rfl (by decide) hs78.1 hs78.2 (Nat.le_of_ble_eq_true rfl) (Nat.le_of_ble_eq_true rfl) dX0_sheet_81 (fun H a hH hW ha1 ha2 hS => ?_)
                      refine lv_goto (tgt := 101) hx hb dX0_sheet_83 (by decide) ?_
                      by_cases hs79 : xs40 σ
                      · rw [if_pos hs79] at h
                        refine x_putSh F hW hS a1.toNatClampNeg (x_lt hi68) hs79 (va_Nw.use rfl (F.2.1.2.1 _ q308 rfl)) 8 a3 hs78.2 a (.ref a) rfl (fun _ => ⟨hH, ha1, ha2⟩) dX0_sheet_101 (fun H locs hW hS => ?_)
                        refine lv_iload_n hx hb dX0_sheet_104 rfl (lv_at hl 2 rfl) ?_
                        refine lv_if_ne (tgt := 112) hx hb dX0_sheet_105 (by decide) (fun c80 => ?_) (fun c80 => ?_)
                        · rw [if_neg c80] at h
                          refine lv_iload_n hx hb dX0_sheet_112 rfl (lv_at hl 3 rfl) ?_
                          obtain ⟨h1, h2⟩ := Prod.mk.inj (Option.some.inj h); subst h1; subst h2
                          refine W.widen (k := 1) (n := 40) (Nat.le_refl _) hs78.2 ?_
                          exact x_mono (xQe.of (q := _)) (x_iret (x_Fq F _) hr hlk hW hS dX0_sheet_113)
                        · rw [if_pos c80] at h
                          refine lv_iconst (v := 0) hx hb dX0_sheet_108 (by decide) ?_
                          refine lv_goto (tgt := 113) hx hb dX0_sheet_109 (by decide) ?_
                          obtain ⟨h1, h2⟩ := Prod.mk.inj (Option.some.inj h); subst h1; subst h2
                          refine W.widen (k := 1) (n := 40) (Nat.le_refl _) hs78.2 ?_
                          exact x_mono (xQe.of (q := _)) (x_iret (x_Fq F _) hr hlk hW hS dX0_sheet_113)
                      · rw [if_neg hs79] at h; cases h
                    · rw [if_neg hs78] at h; cases h
                · rw [if_pos c69] at h
                  refine lv_null hx hb dX0_sheet_70 ?_
                  refine lv_goto (tgt := 101) hx hb dX0_sheet_71 (by decide) ?_
                  by_cases hs81 : xs40 σ
                  · rw [if_pos hs81] at h
                    refine x_putSh F hW hS a1.toNatClampNeg (x_lt hi68) hs81 (va_Nw.use rfl (F.2.1.2.1 _ q308 rfl)) 0 0 (by decide) 0 .null rfl (fun h9 => absurd rfl h9) dX0_sheet_101 (fun H locs hW hS => ?_)
                    refine lv_iload_n hx hb dX0_sheet_104 rfl (lv_at hl 2 rfl) ?_
                    refine lv_if_ne (tgt := 112) hx hb dX0_sheet_105 (by decide) (fun c82 => ?_) (fun c82 => ?_)
                    · rw [if_neg c82] at h
                      refine lv_iload_n hx hb dX0_sheet_112 rfl (lv_at hl 3 rfl) ?_
                      obtain ⟨h1, h2⟩ := Prod.mk.inj (Option.some.inj h); subst h1; subst h2
                      refine W.widen (k := 1) (n := 40) (by decide) (by decide) ?_
                      exact x_mono (xQe.of (q := _)) (x_iret (x_Fq F _) hr hlk hW hS dX0_sheet_113)
                    · rw [if_pos c82] at h
                      refine lv_iconst (v := 0) hx hb dX0_sheet_108 (by decide) ?_
                      refine lv_goto (tgt := 113) hx hb dX0_sheet_109 (by decide) ?_
                      obtain ⟨h1, h2⟩ := Prod.mk.inj (Option.some.inj h); subst h1; subst h2
                      refine W.widen (k := 1) (n := 40) (by decide) (by decide) ?_
                      exact x_mono (xQe.of (q := _)) (x_iret (x_Fq F _) hr hlk hW hS dX0_sheet_113)
                  · rw [if_neg hs81] at h; cases h
              · rw [if_neg hi68] at h; cases h
            · rw [if_neg c67] at h
              refine lv_aload_n hx hb dX0_sheet_45 rfl (lv_at hl 0 rfl) ?_
              refine lv_iload_n hx hb dX0_sheet_46 rfl (lv_at hl 3 rfl) ?_
              refine lv_if_ge (tgt := 55) hx hb dX0_sheet_47 (by decide) (fun c83 => ?_) (fun c83 => ?_)
              · rw [if_pos c83] at h
                refine lv_iconst (v := 0) hx hb dX0_sheet_55 (by decide) ?_
                cases g84 : fX0_finding σ 0 with
                | none => rw [g84] at h; cases h
                | some r85 =>
                  rw [g84, Option.bind_some] at h
                  refine x_backi (va_runV (C := RX0) (b := (xa E 0)) (As := [.int 0]) (rest := []) F.1 (mX0_finding l E σ 0 r85.1 r85.2 g84) (cwV 1 hts (lw_V q469 q471 qs2 q99 q472) rfl rfl rfl (by decide +kernel) ⟨Nat.le_of_ble_eq_true rfl, Nat.le_of_ble_eq_true rfl⟩) ⟨xPc.blind, va_recv hK (xO_X hW) (ci := 0) (q0 := 0) rfl rfl, F.pre hW hS (.ref (xa E 0) :: [.int 0])⟩ rfl rfl hl.1 rfl (lv_room (Nat.le_of_ble_eq_true rfl)) dX0_sheet_56 ⟨Nat.le_of_ble_eq_true rfl, Nat.le_of_ble_eq_true rfl⟩) hS (fun H locs hW hS => ?_)
                  obtain ⟨h1, h2⟩ := Prod.mk.inj (Option.some.inj h); subst h1; subst h2
                  refine W.widen (k := 1) (n := 40) (by decide) (by decide) ?_
                  exact x_mono (xQe.of (q := xq E)) (x_iret (x_Fq F _) hr hlk hW hS dX0_sheet_59)
              · rw [if_neg c83] at h
                refine lv_bipush (v := 6) hx hb dX0_sheet_50 (by decide) ?_
                refine lv_goto (tgt := 56) hx hb dX0_sheet_52 (by decide) ?_
                cases g86 : fX0_finding σ 6 with
                | none => rw [g86] at h; cases h
                | some r87 =>
                  rw [g86, Option.bind_some] at h
                  refine x_backi (va_runV (C := RX0) (b := (xa E 0)) (As := [.int 6]) (rest := []) F.1 (mX0_finding l E σ 6 r87.1 r87.2 g86) (cwV 1 hts (lw_V q469 q471 qs2 q99 q472) rfl rfl rfl (by decide +kernel) ⟨Nat.le_of_ble_eq_true rfl, Nat.le_of_ble_eq_true rfl⟩) ⟨xPc.blind, va_recv hK (xO_X hW) (ci := 0) (q0 := 0) rfl rfl, F.pre hW hS (.ref (xa E 0) :: [.int 6])⟩ rfl rfl hl.1 rfl (lv_room (Nat.le_of_ble_eq_true rfl)) dX0_sheet_56 ⟨Nat.le_of_ble_eq_true rfl, Nat.le_of_ble_eq_true rfl⟩) hS (fun H locs hW hS => ?_)
                  obtain ⟨h1, h2⟩ := Prod.mk.inj (Option.some.inj h); subst h1; subst h2
                  refine W.widen (k := 1) (n := 40) (by decide) (by decide) ?_
                  exact x_mono (xQe.of (q := xq E)) (x_iret (x_Fq F _) hr hlk hW hS dX0_sheet_59)
        · rw [if_neg c60] at h
          refine lv_iload_n hx hb dX0_sheet_23 rfl (lv_at hl 2 rfl) ?_
          refine lv_bipush (v := 32) hx hb dX0_sheet_24 (by decide) ?_
          refine lv_icmp_eq (tgt := 35) hx hb dX0_sheet_26 (by decide) (fun c88 => ?_) (fun c88 => ?_)
          · rw [if_pos c88] at h
            refine lv_iload_n hx hb dX0_sheet_35 rfl (lv_at hl 3 rfl) ?_
            refine lv_if_lt (tgt := 45) hx hb dX0_sheet_36 (by decide) (fun c89 => ?_) (fun c89 => ?_)
            · rw [if_pos c89] at h
              refine lv_aload_n hx hb dX0_sheet_45 rfl (lv_at hl 0 rfl) ?_
              refine lv_iload_n hx hb dX0_sheet_46 rfl (lv_at hl 3 rfl) ?_
              refine lv_if_ge (tgt := 55) hx hb dX0_sheet_47 (by decide) (fun c90 => ?_) (fun c90 => ?_)
              · rw [if_pos c90] at h
                refine lv_iconst (v := 0) hx hb dX0_sheet_55 (by decide) ?_
                cases g91 : fX0_finding σ 0 with
                | none => rw [g91] at h; cases h
                | some r92 =>
                  rw [g91, Option.bind_some] at h
                  refine x_backi (va_runV (C := RX0) (b := (xa E 0)) (As := [.int 0]) (rest := []) F.1 (mX0_finding l E σ 0 r92.1 r92.2 g91) (cwV 1 hts (lw_V q469 q471 qs2 q99 q472) rfl rfl rfl (by decide +kernel) ⟨Nat.le_of_ble_eq_true rfl, Nat.le_of_ble_eq_true rfl⟩) ⟨xPc.blind, va_recv hK (xO_X hW) (ci := 0) (q0 := 0) rfl rfl, F.pre hW hS (.ref (xa E 0) :: [.int 0])⟩ rfl rfl hl.1 rfl (lv_room (Nat.le_of_ble_eq_true rfl)) dX0_sheet_56 ⟨Nat.le_of_ble_eq_true rfl, Nat.le_of_ble_eq_true rfl⟩) hS (fun H locs hW hS => ?_)
                  obtain ⟨h1, h2⟩ := Prod.mk.inj (Option.some.inj h); subst h1; subst h2
                  refine W.widen (k := 1) (n := 40) (by decide) (by decide) ?_
                  exact x_mono (xQe.of (q := xq E)) (x_iret (x_Fq F _) hr hlk hW hS dX0_sheet_59)
              · rw [if_neg c90] at h
                refine lv_bipush (v := 6) hx hb dX0_sheet_50 (by decide) ?_
                refine lv_goto (tgt := 56) hx hb dX0_sheet_52 (by decide) ?_
                cases g93 : fX0_finding σ 6 with
                | none => rw [g93] at h; cases h
                | some r94 =>
                  rw [g93, Option.bind_some] at h
                  refine x_backi (va_runV (C := RX0) (b := (xa E 0)) (As := [.int 6]) (rest := []) F.1 (mX0_finding l E σ 6 r94.1 r94.2 g93) (cwV 1 hts (lw_V q469 q471 qs2 q99 q472) rfl rfl rfl (by decide +kernel) ⟨Nat.le_of_ble_eq_true rfl, Nat.le_of_ble_eq_true rfl⟩) ⟨xPc.blind, va_recv hK (xO_X hW) (ci := 0) (q0 := 0) rfl rfl, F.pre hW hS (.ref (xa E 0) :: [.int 6])⟩ rfl rfl hl.1 rfl (lv_room (Nat.le_of_ble_eq_true rfl)) dX0_sheet_56 ⟨Nat.le_of_ble_eq_true rfl, Nat.le_of_ble_eq_true rfl⟩) hS (fun H locs hW hS => ?_)
                  obtain ⟨h1, h2⟩ := Prod.mk.inj (Option.some.inj h); subst h1; subst h2
                  refine W.widen (k := 1) (n := 40) (by decide) (by decide) ?_
                  exact x_mono (xQe.of (q := xq E)) (x_iret (x_Fq F _) hr hlk hW hS dX0_sheet_59)
            · rw [if_neg c89] at h
              refine lv_iload_n hx hb dX0_sheet_39 rfl (lv_at hl 3 rfl) ?_
              refine lv_bipush (v := 40) hx hb dX0_sheet_40 (by decide) ?_
              refine lv_icmp_le (tgt := 60) hx hb dX0_sheet_42 (by decide) (fun c95 => ?_) (fun c95 => ?_)
              · rw [if_pos c95] at h
                refine lv_aload_n hx hb dX0_sheet_60 rfl (lv_at hl 0 rfl) ?_
                refine va_get (D := xD E) (ci := 0) (v := .ref (xa E 55)) (C := RX0) (T := TX0) (N := 15) hx hb hts in_X0 hown hK (xO_X hW) 0 rfl rfl 9 (by decide) (hts _ q422) (fun _ h9 => h9) rfl dX0_sheet_61 ?_
                refine lv_iload_n hx hb dX0_sheet_64 rfl (lv_at hl 1 rfl) ?_
                by_cases hi96 : xin a1 4
                · rw [if_pos hi96] at h
                  refine x_aald (g := fun j => xa E (182 + j)) (j := (a1.toNatClampNeg)) F 5 5 4 (xR_55 hW) rfl rfl hi96 rfl dX0_sheet_65 ?_
                  refine lv_iload_n hx hb dX0_sheet_66 rfl (lv_at hl 2 rfl) ?_
                  refine lv_if_ne (tgt := 74) hx hb dX0_sheet_67 (by decide) (fun c97 => ?_) (fun c97 => ?_)
                  · rw [if_neg c97] at h
                    refine lv_iload_n hx hb dX0_sheet_74 rfl (lv_at hl 2 rfl) ?_
                    refine lv_bipush (v := 8) hx hb dX0_sheet_75 (by decide) ?_
                    refine lv_icmp_ne (tgt := 86) hx hb dX0_sheet_77 (by decide) (fun c98 => ?_) (fun c98 => ?_)
                    · rw [if_neg c98] at h
                      refine lv_iload_n hx hb dX0_sheet_86 rfl (lv_at hl 2 rfl) ?_
                      refine lv_bipush (v := 16) hx hb dX0_sheet_87 (by decide) ?_
                      refine lv_icmp_ne (tgt := 98) hx hb dX0_sheet_89 (by decide) (fun c99 => ?_) (fun c99 => ?_)
                      · rw [if_neg c99] at h
                        refine lv_iload_n hx hb dX0_sheet_98 rfl (lv_at hl 3 rfl) ?_
                        by_cases hs100 : ¬ a3 < 0 ∧ a3.toNatClampNeg ≤ 40
                        · rw [if_pos hs100] at h
                          refine x_newS F hW hS 0 .int (hts _ q269) rfl rfl (F.2.1.1.2 0 _ rfl).2 rfl (by decide) hs100.1 hs100.2 (Nat.le_of_ble_eq_true rfl) (Nat.le_of_ble_eq_true rfl) dX0_sheet_99 (fun H a hH hW ha1 ha2 hS => ?_)
                          by_cases hs101 : xs40 σ
                          · rw [if_pos hs101] at h
                            refine x_putSh F hW hS a1.toNatClampNeg (x_lt hi96) hs101 (va_Nw.use rfl (F.2.1.2.1 _ q308 rfl)) 32 a3 hs100.2 a (.ref a) rfl (fun _ => ⟨hH, ha1, ha2⟩) dX0_sheet_101 (fun H locs hW hS => ?_)
                            refine lv_iload_n hx hb dX0_sheet_104 rfl (lv_at hl 2 rfl) ?_
                            refine lv_if_ne (tgt := 112) hx hb dX0_sheet_105 (by decide) (fun c102 => ?_) (fun c102 => ?_)
                            · rw [if_neg c102] at h
                              refine lv_iload_n hx hb dX0_sheet_112 rfl (lv_at hl 3 rfl) ?_
                              obtain ⟨h1, h2⟩ := Prod.mk.inj (Option.some.inj h); subst h1; subst h2
                              refine W.widen (k := 1) (n := 40) (Nat.le_refl _) hs100.2 ?_
                              exact x_mono (xQe.of (q := _)) (x_iret (x_Fq F _) hr hlk hW hS dX0_sheet_113)
                            · rw [if_pos c102] at h
                              refine lv_iconst (v := 0) hx hb dX0_sheet_108 (by decide) ?_
                              refine lv_goto (tgt := 113) hx hb dX0_sheet_109 (by decide) ?_
                              obtain ⟨h1, h2⟩ := Prod.mk.inj (Option.some.inj h); subst h1; subst h2
                              refine W.widen (k := 1) (n := 40) (Nat.le_refl _) hs100.2 ?_
                              exact x_mono (xQe.of (q := _)) (x_iret (x_Fq F _) hr hlk hW hS dX0_sheet_113)
                          · rw [if_neg hs101] at h; cases h
                        · rw [if_neg hs100] at h; cases h
                      · rw [if_pos c99] at h
                        refine lv_iload_n hx hb dX0_sheet_92 rfl (lv_at hl 3 rfl) ?_
                        by_cases hs103 : ¬ a3 < 0 ∧ a3.toNatClampNeg ≤ 40
                        · rw [if_pos hs103] at h
                          refine x_newS F hW hS 2 .short (hts _ q1122) rfl rfl (F.2.1.1.2 2 _ rfl).2 rfl (by decide) hs103.1 hs103.2 (Nat.le_of_ble_eq_true rfl) (Nat.le_of_ble_eq_true rfl) dX0_sheet_93 (fun H a hH hW ha1 ha2 hS => ?_)
                          refine lv_goto (tgt := 101) hx hb dX0_sheet_95 (by decide) ?_
                          by_cases hs104 : xs40 σ
                          · rw [if_pos hs104] at h
                            refine x_putSh F hW hS a1.toNatClampNeg (x_lt hi96) hs104 (va_Nw.use rfl (F.2.1.2.1 _ q308 rfl)) 16 a3 hs103.2 a (.ref a) rfl (fun _ => ⟨hH, ha1, ha2⟩) dX0_sheet_101 (fun H locs hW hS => ?_)
                            refine lv_iload_n hx hb dX0_sheet_104 rfl (lv_at hl 2 rfl) ?_
                            refine lv_if_ne (tgt := 112) hx hb dX0_sheet_105 (by decide) (fun c105 => ?_) (fun c105 => ?_)
                            · rw [if_neg c105] at h
                              refine lv_iload_n hx hb dX0_sheet_112 rfl (lv_at hl 3 rfl) ?_
                              obtain ⟨h1, h2⟩ := Prod.mk.inj (Option.some.inj h); subst h1; subst h2
                              refine W.widen (k := 1) (n := 40) (Nat.le_refl _) hs103.2 ?_
                              exact x_mono (xQe.of (q := _)) (x_iret (x_Fq F _) hr hlk hW hS dX0_sheet_113)
                            · rw [if_pos c105] at h
                              refine lv_iconst (v := 0) hx hb dX0_sheet_108 (by decide) ?_
                              refine lv_goto (tgt := 113) hx hb dX0_sheet_109 (by decide) ?_
                              obtain ⟨h1, h2⟩ := Prod.mk.inj (Option.some.inj h); subst h1; subst h2
                              refine W.widen (k := 1) (n := 40) (Nat.le_refl _) hs103.2 ?_
                              exact x_mono (xQe.of (q := _)) (x_iret (x_Fq F _) hr hlk hW hS dX0_sheet_113)
                          · rw [if_neg hs104] at h; cases h
                        · rw [if_neg hs103] at h; cases h
                    · rw [if_pos c98] at h
                      refine lv_iload_n hx hb dX0_sheet_80 rfl (lv_at hl 3 rfl) ?_
                      by_cases hs106 : ¬ a3 < 0 ∧ a3.toNatClampNeg ≤ 40
                      · rw [if_pos hs106] at h
                        refine x_newS F hW hS 1 .byte (hts _ q268) rfl rfl (F.2.1.1.2 1 _ rfl).2 rfl (by decide) hs106.1 hs106.2 (Nat.le_of_ble_eq_true rfl) (Nat.le_of_ble_eq_true rfl) dX0_sheet_81 (fun H a hH hW ha1 ha2 hS => ?_)
                        refine lv_goto (tgt := 101) hx hb dX0_sheet_83 (by decide) ?_
                        by_cases hs107 : xs40 σ
                        · rw [if_pos hs107] at h
                          refine x_putSh F hW hS a1.toNatClampNeg (x_lt hi96) hs107 (va_Nw.use rfl (F.2.1.2.1 _ q308 rfl)) 8 a3 hs106.2 a (.ref a) rfl (fun _ => ⟨hH, ha1, ha2⟩) dX0_sheet_101 (fun H locs hW hS => ?_)
                          refine lv_iload_n hx hb dX0_sheet_104 rfl (lv_at hl 2 rfl) ?_
                          refine lv_if_ne (tgt := 112) hx hb dX0_sheet_105 (by decide) (fun c108 => ?_) (fun c108 => ?_)
                          · rw [if_neg c108] at h
                            refine lv_iload_n hx hb dX0_sheet_112 rfl (lv_at hl 3 rfl) ?_
                            obtain ⟨h1, h2⟩ := Prod.mk.inj (Option.some.inj h); subst h1; subst h2
                            refine W.widen (k := 1) (n := 40) (Nat.le_refl _) hs106.2 ?_
                            exact x_mono (xQe.of (q := _)) (x_iret (x_Fq F _) hr hlk hW hS dX0_sheet_113)
                          · rw [if_pos c108] at h
                            refine lv_iconst (v := 0) hx hb dX0_sheet_108 (by decide) ?_
                            refine lv_goto (tgt := 113) hx hb dX0_sheet_109 (by decide) ?_
                            obtain ⟨h1, h2⟩ := Prod.mk.inj (Option.some.inj h); subst h1; subst h2
                            refine W.widen (k := 1) (n := 40) (Nat.le_refl _) hs106.2 ?_
                            exact x_mono (xQe.of (q := _)) (x_iret (x_Fq F _) hr hlk hW hS dX0_sheet_113)
                        · rw [if_neg hs107] at h; cases h
                      · rw [if_neg hs106] at h; cases h
                  · rw [if_pos c97] at h
                    refine lv_null hx hb dX0_sheet_70 ?_
                    refine lv_goto (tgt := 101) hx hb dX0_sheet_71 (by decide) ?_
                    by_cases hs109 : xs40 σ
                    · rw [if_pos hs109] at h
                      refine x_putSh F hW hS a1.toNatClampNeg (x_lt hi96) hs109 (va_Nw.use rfl (F.2.1.2.1 _ q308 rfl)) 0 0 (by decide) 0 .null rfl (fun h9 => absurd rfl h9) dX0_sheet_101 (fun H locs hW hS => ?_)
                      refine lv_iload_n hx hb dX0_sheet_104 rfl (lv_at hl 2 rfl) ?_
                      refine lv_if_ne (tgt := 112) hx hb dX0_sheet_105 (by decide) (fun c110 => ?_) (fun c110 => ?_)
                      · rw [if_neg c110] at h
                        refine lv_iload_n hx hb dX0_sheet_112 rfl (lv_at hl 3 rfl) ?_
                        obtain ⟨h1, h2⟩ := Prod.mk.inj (Option.some.inj h); subst h1; subst h2
                        refine W.widen (k := 1) (n := 40) (by decide) (by decide) ?_
                        exact x_mono (xQe.of (q := _)) (x_iret (x_Fq F _) hr hlk hW hS dX0_sheet_113)
                      · rw [if_pos c110] at h
                        refine lv_iconst (v := 0) hx hb dX0_sheet_108 (by decide) ?_
                        refine lv_goto (tgt := 113) hx hb dX0_sheet_109 (by decide) ?_
                        obtain ⟨h1, h2⟩ := Prod.mk.inj (Option.some.inj h); subst h1; subst h2
                        refine W.widen (k := 1) (n := 40) (by decide) (by decide) ?_
                        exact x_mono (xQe.of (q := _)) (x_iret (x_Fq F _) hr hlk hW hS dX0_sheet_113)
                    · rw [if_neg hs109] at h; cases h
                · rw [if_neg hi96] at h; cases h
              · rw [if_neg c95] at h
                refine lv_aload_n hx hb dX0_sheet_45 rfl (lv_at hl 0 rfl) ?_
                refine lv_iload_n hx hb dX0_sheet_46 rfl (lv_at hl 3 rfl) ?_
                refine lv_if_ge (tgt := 55) hx hb dX0_sheet_47 (by decide) (fun c111 => ?_) (fun c111 => ?_)
                · rw [if_pos c111] at h
                  refine lv_iconst (v := 0) hx hb dX0_sheet_55 (by decide) ?_
                  cases g112 : fX0_finding σ 0 with
                  | none => rw [g112] at h; cases h
                  | some r113 =>
                    rw [g112, Option.bind_some] at h
                    refine x_backi (va_runV (C := RX0) (b := (xa E 0)) (As := [.int 0]) (rest := []) F.1 (mX0_finding l E σ 0 r113.1 r113.2 g112) (cwV 1 hts (lw_V q469 q471 qs2 q99 q472) rfl rfl rfl (by decide +kernel) ⟨Nat.le_of_ble_eq_true rfl, Nat.le_of_ble_eq_true rfl⟩) ⟨xPc.blind, va_recv hK (xO_X hW) (ci := 0) (q0 := 0) rfl rfl, F.pre hW hS (.ref (xa E 0) :: [.int 0])⟩ rfl rfl hl.1 rfl (lv_room (Nat.le_of_ble_eq_true rfl)) dX0_sheet_56 ⟨Nat.le_of_ble_eq_true rfl, Nat.le_of_ble_eq_true rfl⟩) hS (fun H locs hW hS => ?_)
                    obtain ⟨h1, h2⟩ := Prod.mk.inj (Option.some.inj h); subst h1; subst h2
                    refine W.widen (k := 1) (n := 40) (by decide) (by decide) ?_
                    exact x_mono (xQe.of (q := xq E)) (x_iret (x_Fq F _) hr hlk hW hS dX0_sheet_59)
                · rw [if_neg c111] at h
                  refine lv_bipush (v := 6) hx hb dX0_sheet_50 (by decide) ?_
                  refine lv_goto (tgt := 56) hx hb dX0_sheet_52 (by decide) ?_
                  cases g114 : fX0_finding σ 6 with
                  | none => rw [g114] at h; cases h
                  | some r115 =>
                    rw [g114, Option.bind_some] at h
                    refine x_backi (va_runV (C := RX0) (b := (xa E 0)) (As := [.int 6]) (rest := []) F.1 (mX0_finding l E σ 6 r115.1 r115.2 g114) (cwV 1 hts (lw_V q469 q471 qs2 q99 q472) rfl rfl rfl (by decide +kernel) ⟨Nat.le_of_ble_eq_true rfl, Nat.le_of_ble_eq_true rfl⟩) ⟨xPc.blind, va_recv hK (xO_X hW) (ci := 0) (q0 := 0) rfl rfl, F.pre hW hS (.ref (xa E 0) :: [.int 6])⟩ rfl rfl hl.1 rfl (lv_room (Nat.le_of_ble_eq_true rfl)) dX0_sheet_56 ⟨Nat.le_of_ble_eq_true rfl, Nat.le_of_ble_eq_true rfl⟩) hS (fun H locs hW hS => ?_)
                    obtain ⟨h1, h2⟩ := Prod.mk.inj (Option.some.inj h); subst h1; subst h2
                    refine W.widen (k := 1) (n := 40) (by decide) (by decide) ?_
                    exact x_mono (xQe.of (q := xq E)) (x_iret (x_Fq F _) hr hlk hW hS dX0_sheet_59)
          · rw [if_neg c88] at h
            refine lv_aload_n hx hb dX0_sheet_29 rfl (lv_at hl 0 rfl) ?_
            refine lv_iconst (v := 0) hx hb dX0_sheet_30 (by decide) ?_
            cases g116 : fX0_finding σ 0 with
            | none => rw [g116] at h; cases h
            | some r117 =>
              rw [g116, Option.bind_some] at h
              refine x_backi (va_runV (C := RX0) (b := (xa E 0)) (As := [.int 0]) (rest := []) F.1 (mX0_finding l E σ 0 r117.1 r117.2 g116) (cwV 1 hts (lw_V q469 q471 qs2 q99 q472) rfl rfl rfl (by decide +kernel) ⟨Nat.le_of_ble_eq_true rfl, Nat.le_of_ble_eq_true rfl⟩) ⟨xPc.blind, va_recv hK (xO_X hW) (ci := 0) (q0 := 0) rfl rfl, F.pre hW hS (.ref (xa E 0) :: [.int 0])⟩ rfl rfl hl.1 rfl (lv_room (Nat.le_of_ble_eq_true rfl)) dX0_sheet_31 ⟨Nat.le_of_ble_eq_true rfl, Nat.le_of_ble_eq_true rfl⟩) hS (fun H locs hW hS => ?_)
              obtain ⟨h1, h2⟩ := Prod.mk.inj (Option.some.inj h); subst h1; subst h2
              refine W.widen (k := 1) (n := 40) (by decide) (by decide) ?_
              exact x_mono (xQe.of (q := xq E)) (x_iret (x_Fq F _) hr hlk hW hS dX0_sheet_34)
