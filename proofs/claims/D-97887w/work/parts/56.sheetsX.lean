set_option maxRecDepth 100000
/-! null or a row -/
def xro {β : Type} (r : Option Nat) (n : Option β) (k : Nat → Option β) : Option β :=
  match r with
  | none => n
  | some j => k j
theorem xro_n {β : Type} {n : Option β} {k : Nat → Option β} : xro none n k = n := rfl
theorem xro_s {β : Type} {n : Option β} {k : Nat → Option β} {j : Nat} : xro (some j) n k = k j := rfl
abbrev xcok (σ : xM) (j1 j2 : Nat) (sp dp n : Int32) (ty : FieldType) : Prop := ¬ sp < 0 ∧ ¬ dp < 0 ∧ ¬ n < 0 ∧ sp.toNatClampNeg + n.toNatClampNeg ≤ (σ 14 j1).toNatClampNeg ∧ dp.toNatClampNeg + n.toNatClampNeg ≤ (σ 14 j2).toNatClampNeg ∧ xs40 σ ∧ ∀ i, i < n.toNatClampNeg → fits ty (.int (σ 15 (40 * j1 + (sp.toNatClampNeg + i)))) = true
/-! WildBells.refused(I)LWildBells$Refusal; -/
def fX0_refused (σ : xM) (a1 : Int32) : Option xM :=
  some (xup σ 11 0 a1)
set_option maxHeartbeats 4000000 in
theorem mX0_refused (l : Launch) (E : xE) (σ : xM) (a1 : Int32) (σ' : xM) (h : fX0_refused σ a1 = some σ') : Met l yX0_refused (ws_ yX0_refused cX0_refused 2 (some (.object "WildBells$Refusal"))) ({ frames := 0, cells := 0, slots := 0, locals := 0 } : Room) (xPc E σ [.ref (xa E 0), .int a1]) (xQc E (.returned (some (.ref (xa E 1)))) σ') 0 0 (xA E) := by
  refine x_of (C := RX0) (n := "refused") (d := "(I)LWildBells$Refusal;") (r := (some (.object "WildBells$Refusal"))) (by decide) rfl (by first | decide | exact Nat.le_of_ble_eq_true rfl) ?_
  intro p e s m below meth c ls F hr hlk hW hS hl
  have hl : lv_has ls 2 [(0, .ref (xa E 0)), (1, .int a1)] := hl
  obtain ⟨hx, hb, hml, hown, hts⟩ := id F.1
  have hK := F.2.1.1
  unfold fX0_refused at h
  refine lv_aload_n hx hb dX0_refused_0 rfl (lv_at hl 0 rfl) ?_
  refine va_get (D := xD E) (ci := 0) (v := .ref (xa E 1)) (C := RX0) (T := TX0) (N := 15) hx hb hts in_X0 hown hK (xO_X hW) 0 rfl rfl 0 (by decide) (hts _ q411) (fun _ h9 => h9) rfl dX0_refused_1 ?_
  refine lv_iload_n hx hb dX0_refused_4 rfl (lv_at hl 1 rfl) ?_
  refine x_putN (C := RX1) (T := TX1) (N := 7) (ci := 1) (ty := .int) F hW hS in_X1 tyX1 tyX1_ok nmX1 rfl 1 6 11 0 (by decide) rfl (by decide) rfl (by decide) (va_Nw.use rfl (F.2.1.2.1 _ q183 rfl)) (fun _ h9 => h9) rfl (by decide +kernel) rfl rfl dX0_refused_5 (fun H locs hW hS => ?_)
  refine lv_aload_n hx hb dX0_refused_8 rfl (lv_at hl 0 rfl) ?_
  refine va_get (D := xD E) (ci := 0) (v := .ref (xa E 1)) (C := RX0) (T := TX0) (N := 15) hx hb hts in_X0 hown hK (xO_X hW) 0 rfl rfl 0 (by decide) (hts _ q411) (fun _ h9 => h9) rfl dX0_refused_9 ?_
  have h := Option.some.inj h; subst h
  exact x_aret F hr (Or.inl ⟨_, rfl⟩) hlk hW hS dX0_refused_12
/-! WildBells.need(ZI)V -/
def fX0_need (σ : xM) (a1 : Int32) (a2 : Int32) : Option (Option Unit × xM) :=
  if a1 = 0 then ((fX0_refused σ a2).bind (fun r3 => some (none, r3))) else (some (some (), σ))
set_option maxHeartbeats 4000000 in
theorem mX0_need (l : Launch) (E : xE) (σ : xM) (a1 : Int32) (a2 : Int32) (o : Option Unit) (σ' : xM) (h : fX0_need σ a1 a2 = some (o, σ')) : xMT l yX0_need (ws_ yX0_need cX0_need 3 none) ({ frames := 1, cells := 0, slots := 0, locals := 21 } : Room) (xPc E σ [.ref (xa E 0), .int a1, .int a2]) (xQc E (xoV (xa E 1) o) σ') (xA E) := by
  refine x_ofT (C := RX0) (n := "need") (d := "(ZI)V") (r := none) (by decide) (by first | decide | exact Nat.le_of_ble_eq_true rfl) ?_
  intro p e s m below meth c ls F hr hlk hno hW hS hl
  have hl : lv_has ls 3 [(0, .ref (xa E 0)), (1, .int a1), (2, .int a2)] := hl
  obtain ⟨hx, hb, hml, hown, hts⟩ := id F.1
  have hK := F.2.1.1
  unfold fX0_need at h
  refine lv_iload_n hx hb dX0_need_0 rfl (lv_at hl 1 rfl) ?_
  refine lv_if_ne (tgt := 10) hx hb dX0_need_1 (by decide) (fun c1 => ?_) (fun c1 => ?_)
  · rw [if_neg c1] at h
    obtain ⟨h1, h2⟩ := Prod.mk.inj (Option.some.inj h); subst h1; subst h2
    exact x_mono xMQ.of (x_vret F hr hlk hW hS dX0_need_10)
  · rw [if_pos c1] at h
    refine lv_aload_n hx hb dX0_need_4 rfl (lv_at hl 0 rfl) ?_
    refine lv_iload_n hx hb dX0_need_5 rfl (lv_at hl 2 rfl) ?_
    cases g2 : fX0_refused σ a2 with
    | none => rw [g2] at h; cases h
    | some r3 =>
      rw [g2, Option.bind_some] at h
      refine x_backr (va_runV (C := RX0) (b := (xa E 0)) (As := [.int a2]) (rest := []) F.1 (mX0_refused l E σ a2 r3 g2) (cwV 1 hts (lw_V q860 q862 qs26 q99 q863) rfl rfl rfl (by decide +kernel) ⟨Nat.le_of_ble_eq_true rfl, Nat.le_of_ble_eq_true rfl⟩) ⟨xPc.blind, va_recv hK (xO_X hW) (ci := 0) (q0 := 0) rfl rfl, F.pre hW hS (.ref (xa E 0) :: [.int a2])⟩ rfl rfl hl.1 rfl (lv_room (Nat.le_of_ble_eq_true rfl)) dX0_need_6 ⟨Nat.le_refl _, Nat.le_refl _⟩) hS (fun H locs hW hS => ?_)
      obtain ⟨h1, h2⟩ := Prod.mk.inj (Option.some.inj h); subst h1; subst h2
      exact x_athrow F hlk (hno _) hW hS dX0_need_9
/-! WildBells.length(Ljava/lang/Object;)I -/
def fX0_length (σ : xM) (j0 : Nat) : Option Int32 :=
  if σ 13 j0 = 0 then none else (if xsk (σ 13 j0) = 1 then (some (Int32.ofNat (σ 14 j0).toNatClampNeg)) else (if xsk (σ 13 j0) = 2 then (some (Int32.ofNat (σ 14 j0).toNatClampNeg)) else (some (Int32.ofNat (σ 14 j0).toNatClampNeg))))
set_option maxHeartbeats 4000000 in
theorem mX0_length (l : Launch) (E : xE) (σ : xM) (j0 : Nat) (hj0 : j0 < 4) (r : Int32) (h : fX0_length σ j0 = some r) : Met l yX0_length (ws_ yX0_length cX0_length 1 (some .int)) ({ frames := 0, cells := 0, slots := 0, locals := 0 } : Room) (xPc E σ [.ref (xq E j0)]) (xQc E (.returned (some (.int r))) σ) 0 0 (xA E) := by
  refine x_of (C := RX0) (n := "length") (d := "(Ljava/lang/Object;)I") (r := (some .int)) (by decide) rfl (by first | decide | exact Nat.le_of_ble_eq_true rfl) ?_
  intro p e s m below meth c ls F hr hlk hW hS hl
  have hl : lv_has ls 1 [(0, .ref (xq E j0))] := hl
  obtain ⟨hx, hb, hml, hown, hts⟩ := id F.1
  have hK := F.2.1.1
  unfold fX0_length at h
  refine lv_aload_n hx hb dX0_length_0 rfl (lv_at hl 0 rfl) ?_
  by_cases hs1 : σ 13 j0 = 0
  · rw [if_pos hs1] at h; cases h
  · rw [if_neg hs1] at h
    refine x_instB F hW j0 hj0 hs1 (hts _ q874) dX0_length_1 (fun hk2 => ?_) (fun hk2 => ?_)
    · rw [if_pos hk2] at h
      refine lv_if_eq (tgt := 15) hx hb dX0_length_4 (by decide) (fun c => absurd c (by decide)) (fun c => ?_)
      refine lv_aload_n hx hb dX0_length_7 rfl (lv_at hl 0 rfl) ?_
      refine va_castE hx hb hown (hts _ q874) (x_rcv hW j0 hj0 hs1 1 hk2 (x_fc F).1) dX0_length_8 ?_
      refine va_alen (v := Int32.ofNat (σ 14 j0).toNatClampNeg) hx hb hK (xV_s hW j0 hj0 hs1 1 hk2) 0 1 rfl rfl rfl dX0_length_11 ?_
      refine lv_goto (tgt := 35) hx hb dX0_length_12 (by decide) ?_
      have h := Option.some.inj h; subst h
      exact x_iret F hr hlk hW hS dX0_length_35
    · rw [if_neg hk2] at h
      refine lv_if_eq (tgt := 15) hx hb dX0_length_4 (by decide) (fun c => ?_) (fun c => absurd c (by decide))
      refine lv_aload_n hx hb dX0_length_15 rfl (lv_at hl 0 rfl) ?_
      refine x_instS F hW j0 hj0 hs1 hk2 (hts _ q875) dX0_length_16 (fun hk3 => ?_) (fun hk3 => ?_)
      · rw [if_pos hk3] at h
        refine lv_if_eq (tgt := 30) hx hb dX0_length_19 (by decide) (fun c => absurd c (by decide)) (fun c => ?_)
        refine lv_aload_n hx hb dX0_length_22 rfl (lv_at hl 0 rfl) ?_
        refine va_castE hx hb hown (hts _ q875) (x_rcv hW j0 hj0 hs1 2 hk3 (x_fc F).2.1) dX0_length_23 ?_
        refine va_alen (v := Int32.ofNat (σ 14 j0).toNatClampNeg) hx hb hK (xV_s hW j0 hj0 hs1 2 hk3) 0 2 rfl rfl rfl dX0_length_26 ?_
        refine lv_goto (tgt := 35) hx hb dX0_length_27 (by decide) ?_
        have h := Option.some.inj h; subst h
        exact x_iret F hr hlk hW hS dX0_length_35
      · rw [if_neg hk3] at h
        refine lv_if_eq (tgt := 30) hx hb dX0_length_19 (by decide) (fun c => ?_) (fun c => absurd c (by decide))
        refine lv_aload_n hx hb dX0_length_30 rfl (lv_at hl 0 rfl) ?_
        refine va_castE hx hb hown (hts _ q876) (x_rcv hW j0 hj0 hs1 0 (x_k0 hk2 hk3) (x_fc F).2.2) dX0_length_31 ?_
        refine va_alen (v := Int32.ofNat (σ 14 j0).toNatClampNeg) hx hb hK (xV_s hW j0 hj0 hs1 0 (x_k0 hk2 hk3)) 0 0 rfl rfl rfl dX0_length_34 ?_
        have h := Option.some.inj h; subst h
        exact x_iret F hr hlk hW hS dX0_length_35
/-! WildBells.ears(Ljava/lang/Object;)I -/
def fX0_ears (σ : xM) (j0 : Nat) : Option Int32 :=
  (fX0_length σ j0).bind (fun r2 => some (r2 / 2))
set_option maxHeartbeats 4000000 in
theorem mX0_ears (l : Launch) (E : xE) (σ : xM) (j0 : Nat) (hj0 : j0 < 4) (r : Int32) (h : fX0_ears σ j0 = some r) : Met l yX0_ears (ws_ yX0_ears cX0_ears 1 (some .int)) ({ frames := 1, cells := 0, slots := 0, locals := 20 } : Room) (xPc E σ [.ref (xq E j0)]) (xQc E (.returned (some (.int r))) σ) 0 0 (xA E) := by
  refine x_of (C := RX0) (n := "ears") (d := "(Ljava/lang/Object;)I") (r := (some .int)) (by decide) rfl (by first | decide | exact Nat.le_of_ble_eq_true rfl) ?_
  intro p e s m below meth c ls F hr hlk hW hS hl
  have hl : lv_has ls 1 [(0, .ref (xq E j0))] := hl
  obtain ⟨hx, hb, hml, hown, hts⟩ := id F.1
  have hK := F.2.1.1
  unfold fX0_ears at h
  refine lv_aload_n hx hb dX0_ears_0 rfl (lv_at hl 0 rfl) ?_
  cases g1 : fX0_length σ j0 with
  | none => rw [g1] at h; cases h
  | some r2 =>
    rw [g1, Option.bind_some] at h
    refine x_backi (va_runS (As := [.ref (xq E j0)]) (rest := []) F.1 (mX0_length l E σ j0 hj0 r2 g1) (va_cwS 1 hts (lw_S q871 q872 q99 q873) rfl rfl rfl (by decide +kernel) ⟨Nat.le_of_ble_eq_true rfl, Nat.le_of_ble_eq_true rfl⟩) ⟨xPc.blind, F.pre hW hS [.ref (xq E j0)]⟩ rfl rfl hl.1 rfl (lv_room (Nat.le_of_ble_eq_true rfl)) dX0_ears_1 ⟨Nat.le_refl _, Nat.le_refl _⟩) hS (fun H locs hW hS => ?_)
    refine lv_iconst (v := 2) hx hb dX0_ears_4 (by decide) ?_
    refine lv_idiv hx hb dX0_ears_5 (by decide) ?_
    have h := Option.some.inj h; subst h
    exact x_iret F hr hlk hW hS dX0_ears_6
/-! WildBells.rowAt(I)Ljava/lang/Object; -/
def fX0_rowAt (σ : xM) (a1 : Int32) : Option (Option (Option Nat) × xM) :=
  xbt (fX0_need σ (fX0_isSheet a1) 0) (fun r2 σ3 => if xin a1 4 then (if σ3 13 a1.toNatClampNeg = 0 then (some (some none, σ3)) else (some (some (some a1.toNatClampNeg), σ3))) else none)
set_option maxHeartbeats 4000000 in
theorem mX0_rowAt (l : Launch) (E : xE) (σ : xM) (a1 : Int32) (o : Option (Option Nat)) (σ' : xM) (h : fX0_rowAt σ a1 = some (o, σ')) : xMT l yX0_rowAt (ws_ yX0_rowAt cX0_rowAt 2 (some (.object "java/lang/Object"))) ({ frames := 2, cells := 0, slots := 0, locals := 43 } : Room) (xPc E σ [.ref (xa E 0), .int a1]) (xQc E (xoR E (xa E 1) o) σ') (xA E) := by
  refine x_ofT (C := RX0) (n := "rowAt") (d := "(I)Ljava/lang/Object;") (r := (some (.object "java/lang/Object"))) (by decide) (by first | decide | exact Nat.le_of_ble_eq_true rfl) ?_
  intro p e s m below meth c ls F hr hlk hno hW hS hl
  have hl : lv_has ls 2 [(0, .ref (xa E 0)), (1, .int a1)] := hl
  obtain ⟨hx, hb, hml, hown, hts⟩ := id F.1
  have hK := F.2.1.1
  unfold fX0_rowAt at h
  refine lv_aload_n hx hb dX0_rowAt_0 rfl (lv_at hl 0 rfl) ?_
  refine lv_iload_n hx hb dX0_rowAt_1 rfl (lv_at hl 1 rfl) ?_
  refine x_backi (va_runS (As := [.int a1]) (rest := [.ref (xa E 0)]) F.1 (mX0_isSheet l E σ a1) (va_cwS 1 hts (lw_S q853 q854 q99 q855) rfl rfl rfl (by decide +kernel) ⟨Nat.le_of_ble_eq_true rfl, Nat.le_of_ble_eq_true rfl⟩) ⟨xPc.blind, F.pre hW hS [.int a1]⟩ rfl rfl hl.1 rfl (lv_room (Nat.le_of_ble_eq_true rfl)) dX0_rowAt_2 ⟨Nat.le_refl _, Nat.le_refl _⟩) hS (fun H locs hW hS => ?_)
  refine lv_iconst (v := 0) hx hb dX0_rowAt_5 (by decide) ?_
  rcases g1 : fX0_need σ (fX0_isSheet a1) 0 with _ | ⟨_ | r2, σ3⟩
  · rw [g1] at h; cases h
  · rw [g1, xbt_t] at h
    obtain ⟨h1, h2⟩ := Prod.mk.inj (Option.some.inj h); subst h1; subst h2
    exact x_backTl (x_runVT (C := RX0) (b := (xa E 0)) (As := [.int (fX0_isSheet a1), .int 0]) (rest := []) F.1 (mX0_need l E σ (fX0_isSheet a1) 0 none σ3 g1) (cwV 2 hts (lw_V q856 q858 qs25 q99 q859) rfl rfl rfl (by decide +kernel) ⟨Nat.le_of_ble_eq_true rfl, Nat.le_of_ble_eq_true rfl⟩) ⟨xPc.blind, va_recv hK (xO_X hW) (ci := 0) (q0 := 0) rfl rfl, F.pre hW hS (.ref (xa E 0) :: [.int (fX0_isSheet a1), .int 0])⟩ rfl rfl hl.1 rfl (lv_room (Nat.le_of_ble_eq_true rfl)) dX0_rowAt_6 ⟨Nat.le_refl _, Nat.le_refl _⟩) hS hlk (hno _)
  · rw [g1, xbt_r] at h
    refine x_backTv (x_runVT (C := RX0) (b := (xa E 0)) (As := [.int (fX0_isSheet a1), .int 0]) (rest := []) F.1 (mX0_need l E σ (fX0_isSheet a1) 0 (some r2) σ3 g1) (cwV 2 hts (lw_V q856 q858 qs25 q99 q859) rfl rfl rfl (by decide +kernel) ⟨Nat.le_of_ble_eq_true rfl, Nat.le_of_ble_eq_true rfl⟩) ⟨xPc.blind, va_recv hK (xO_X hW) (ci := 0) (q0 := 0) rfl rfl, F.pre hW hS (.ref (xa E 0) :: [.int (fX0_isSheet a1), .int 0])⟩ rfl rfl hl.1 rfl (lv_room (Nat.le_of_ble_eq_true rfl)) dX0_rowAt_6 ⟨Nat.le_refl _, Nat.le_refl _⟩) hS (fun H locs hW hS => ?_)
    refine lv_aload_n hx hb dX0_rowAt_9 rfl (lv_at hl 0 rfl) ?_
    refine va_get (D := xD E) (ci := 0) (v := .ref (xa E 55)) (C := RX0) (T := TX0) (N := 15) hx hb hts in_X0 hown hK (xO_X hW) 0 rfl rfl 9 (by decide) (hts _ q422) (fun _ h9 => h9) rfl dX0_rowAt_10 ?_
    refine lv_iload_n hx hb dX0_rowAt_13 rfl (lv_at hl 1 rfl) ?_
    by_cases hi4 : xin a1 4
    · rw [if_pos hi4] at h
      refine x_aald (g := fun j => xa E (182 + j)) (j := (a1.toNatClampNeg)) F 5 5 4 (xR_55 hW) rfl rfl hi4 rfl dX0_rowAt_14 ?_
      by_cases hs5 : σ3 13 a1.toNatClampNeg = 0
      · rw [if_pos hs5] at h
        have hv : va_P (xD E) xCl [(xa E (182 + a1.toNatClampNeg), .inr (5, [.null]))] H := by
          have h9 := xO_ss hW a1.toNatClampNeg (x_lt hi4)
          rw [if_pos hs5] at h9
          exact h9
        refine va_getN (D := xD E) (ci := 5) (v := .null) (C := RX5) (T := TX5) (N := 1) hx hb hts in_X5 hown hK hv 0 rfl rfl 0 (by decide) (va_Nw.use rfl (F.2.1.2.1 _ q308 rfl)) (fun _ h9 => h9) rfl dX0_rowAt_15 ?_
        obtain ⟨h1, h2⟩ := Prod.mk.inj (Option.some.inj h); subst h1; subst h2
        exact x_mono xMQ.of (x_aretN F hr (Or.inl ⟨_, rfl⟩) hlk hW hS dX0_rowAt_18)
      · rw [if_neg hs5] at h
        have hv : va_P (xD E) xCl [(xa E (182 + a1.toNatClampNeg), .inr (5, [.ref (xq E a1.toNatClampNeg)]))] H := by
          have h9 := xO_ss hW a1.toNatClampNeg (x_lt hi4)
          rw [if_neg hs5] at h9
          exact h9
        refine va_getN (D := xD E) (ci := 5) (v := .ref (xq E a1.toNatClampNeg)) (C := RX5) (T := TX5) (N := 1) hx hb hts in_X5 hown hK hv 0 rfl rfl 0 (by decide) (va_Nw.use rfl (F.2.1.2.1 _ q308 rfl)) (fun _ h9 => h9) rfl dX0_rowAt_15 ?_
        obtain ⟨h1, h2⟩ := Prod.mk.inj (Option.some.inj h); subst h1; subst h2
        exact x_mono xMQ.of (x_aret F hr (Or.inl ⟨_, rfl⟩) hlk hW hS dX0_rowAt_18)
    · rw [if_neg hi4] at h; cases h
/-! WildBells.earsOf(I)Ljava/lang/Object; -/
def fX0_earsOf (σ : xM) (a1 : Int32) : Option (Option (Option Nat) × xM) :=
  xbt (fX0_rowAt σ a1) (fun r2 σ3 => xro r2 (xbt (fX0_need σ3 0 5) (fun r5 σ6 => none)) (fun j7 => if j7 < 4 then (xbt (fX0_need σ3 1 5) (fun r10 σ11 => some (some (some j7), σ11))) else none))
set_option maxHeartbeats 4000000 in
theorem mX0_earsOf (l : Launch) (E : xE) (σ : xM) (a1 : Int32) (o : Option (Option Nat)) (σ' : xM) (h : fX0_earsOf σ a1 = some (o, σ')) : xMT l yX0_earsOf (ws_ yX0_earsOf cX0_earsOf 3 (some (.object "java/lang/Object"))) ({ frames := 3, cells := 0, slots := 0, locals := 64 } : Room) (xPc E σ [.ref (xa E 0), .int a1]) (xQc E (xoR E (xa E 1) o) σ') (xA E) := by
  refine x_ofT (C := RX0) (n := "earsOf") (d := "(I)Ljava/lang/Object;") (r := (some (.object "java/lang/Object"))) (by decide) (by first | decide | exact Nat.le_of_ble_eq_true rfl) ?_
  intro p e s m below meth c ls F hr hlk hno hW hS hl
  have hl : lv_has ls 3 [(0, .ref (xa E 0)), (1, .int a1)] := hl
  obtain ⟨hx, hb, hml, hown, hts⟩ := id F.1
  have hK := F.2.1.1
  unfold fX0_earsOf at h
  refine lv_aload_n hx hb dX0_earsOf_0 rfl (lv_at hl 0 rfl) ?_
  refine lv_iload_n hx hb dX0_earsOf_1 rfl (lv_at hl 1 rfl) ?_
  rcases g1 : fX0_rowAt σ a1 with _ | ⟨_ | r2, σ3⟩
  · rw [g1] at h; cases h
  · rw [g1, xbt_t] at h
    obtain ⟨h1, h2⟩ := Prod.mk.inj (Option.some.inj h); subst h1; subst h2
    exact x_backTl (x_runVT (C := RX0) (b := (xa E 0)) (As := [.int a1]) (rest := []) F.1 (mX0_rowAt l E σ a1 none σ3 g1) (cwV 1 hts (lw_V q849 q851 qs24 q99 q852) rfl rfl rfl (by decide +kernel) ⟨Nat.le_of_ble_eq_true rfl, Nat.le_of_ble_eq_true rfl⟩) ⟨xPc.blind, va_recv hK (xO_X hW) (ci := 0) (q0 := 0) rfl rfl, F.pre hW hS (.ref (xa E 0) :: [.int a1])⟩ rfl rfl hl.1 rfl (lv_room (Nat.le_of_ble_eq_true rfl)) dX0_earsOf_2 ⟨Nat.le_refl _, Nat.le_refl _⟩) hS hlk (hno _)
  · rw [g1, xbt_r] at h
    rcases r2 with _ | j7
    · rw [xro_n] at h
      refine x_backTn (x_runVT (C := RX0) (b := (xa E 0)) (As := [.int a1]) (rest := []) F.1 (mX0_rowAt l E σ a1 (some none) σ3 g1) (cwV 1 hts (lw_V q849 q851 qs24 q99 q852) rfl rfl rfl (by decide +kernel) ⟨Nat.le_of_ble_eq_true rfl, Nat.le_of_ble_eq_true rfl⟩) ⟨xPc.blind, va_recv hK (xO_X hW) (ci := 0) (q0 := 0) rfl rfl, F.pre hW hS (.ref (xa E 0) :: [.int a1])⟩ rfl rfl hl.1 rfl (lv_room (Nat.le_of_ble_eq_true rfl)) dX0_earsOf_2 ⟨Nat.le_refl _, Nat.le_refl _⟩) hS (fun H locs hW hS => ?_)
      refine lv_astore_nN (lv' := [(2, .null), (0, .ref (xa E 0)), (1, .int a1)]) hx hb dX0_earsOf_5 rfl hl (by decide) rfl (fun ls hl => ?_)
      refine lv_aload_n hx hb dX0_earsOf_6 rfl (lv_at hl 1 rfl) ?_
      refine lv_aload_nN hx hb dX0_earsOf_7 rfl (lv_at hl 0 rfl) ?_
      refine lv_ifnullN (tgt := 15) hx hb dX0_earsOf_8 (by decide) ?_
      refine lv_iconst (v := 0) hx hb dX0_earsOf_15 (by decide) ?_
      refine lv_iconst (v := 5) hx hb dX0_earsOf_16 (by decide) ?_
      rcases g4 : fX0_need σ3 0 5 with _ | ⟨_ | r5, σ6⟩
      · rw [g4] at h; cases h
      · rw [g4, xbt_t] at h
        obtain ⟨h1, h2⟩ := Prod.mk.inj (Option.some.inj h); subst h1; subst h2
        exact x_backTl (x_runVT (C := RX0) (b := (xa E 0)) (As := [.int 0, .int 5]) (rest := []) F.1 (mX0_need l E σ3 0 5 none σ6 g4) (cwV 2 hts (lw_V q856 q858 qs25 q99 q859) rfl rfl rfl (by decide +kernel) ⟨Nat.le_of_ble_eq_true rfl, Nat.le_of_ble_eq_true rfl⟩) ⟨xPc.blind, va_recv hK (xO_X hW) (ci := 0) (q0 := 0) rfl rfl, F.pre hW hS (.ref (xa E 0) :: [.int 0, .int 5])⟩ rfl rfl hl.1 rfl (lv_room (Nat.le_of_ble_eq_true rfl)) dX0_earsOf_17 ⟨Nat.le_refl _, Nat.le_refl _⟩) hS hlk (hno _)
      · rw [g4, xbt_r] at h
        refine x_backTv (x_runVT (C := RX0) (b := (xa E 0)) (As := [.int 0, .int 5]) (rest := []) F.1 (mX0_need l E σ3 0 5 (some r5) σ6 g4) (cwV 2 hts (lw_V q856 q858 qs25 q99 q859) rfl rfl rfl (by decide +kernel) ⟨Nat.le_of_ble_eq_true rfl, Nat.le_of_ble_eq_true rfl⟩) ⟨xPc.blind, va_recv hK (xO_X hW) (ci := 0) (q0 := 0) rfl rfl, F.pre hW hS (.ref (xa E 0) :: [.int 0, .int 5])⟩ rfl rfl hl.1 rfl (lv_room (Nat.le_of_ble_eq_true rfl)) dX0_earsOf_17 ⟨Nat.le_refl _, Nat.le_refl _⟩) hS (fun H locs hW hS => ?_)
        cases h
    · rw [xro_s] at h
      by_cases hj8 : j7 < 4
      · rw [if_pos hj8] at h
        refine x_backTr (x_runVT (C := RX0) (b := (xa E 0)) (As := [.int a1]) (rest := []) F.1 (mX0_rowAt l E σ a1 (some (some j7)) σ3 g1) (cwV 1 hts (lw_V q849 q851 qs24 q99 q852) rfl rfl rfl (by decide +kernel) ⟨Nat.le_of_ble_eq_true rfl, Nat.le_of_ble_eq_true rfl⟩) ⟨xPc.blind, va_recv hK (xO_X hW) (ci := 0) (q0 := 0) rfl rfl, F.pre hW hS (.ref (xa E 0) :: [.int a1])⟩ rfl rfl hl.1 rfl (lv_room (Nat.le_of_ble_eq_true rfl)) dX0_earsOf_2 ⟨Nat.le_refl _, Nat.le_refl _⟩) hS (fun H locs hW hS => ?_)
        refine lv_astore_n (lv' := [(2, .ref (xq E j7)), (0, .ref (xa E 0)), (1, .int a1)]) hx hb dX0_earsOf_5 rfl hl (by decide) rfl (fun ls hl => ?_)
        refine lv_aload_n hx hb dX0_earsOf_6 rfl (lv_at hl 1 rfl) ?_
        refine lv_aload_n hx hb dX0_earsOf_7 rfl (lv_at hl 0 rfl) ?_
        refine lv_ifnull hx hb dX0_earsOf_8 ?_
        refine lv_iconst (v := 1) hx hb dX0_earsOf_11 (by decide) ?_
        refine lv_goto (tgt := 16) hx hb dX0_earsOf_12 (by decide) ?_
        refine lv_iconst (v := 5) hx hb dX0_earsOf_16 (by decide) ?_
        rcases g9 : fX0_need σ3 1 5 with _ | ⟨_ | r10, σ11⟩
        · rw [g9] at h; cases h
        · rw [g9, xbt_t] at h
          obtain ⟨h1, h2⟩ := Prod.mk.inj (Option.some.inj h); subst h1; subst h2
          exact x_backTl (x_runVT (C := RX0) (b := (xa E 0)) (As := [.int 1, .int 5]) (rest := []) F.1 (mX0_need l E σ3 1 5 none σ11 g9) (cwV 2 hts (lw_V q856 q858 qs25 q99 q859) rfl rfl rfl (by decide +kernel) ⟨Nat.le_of_ble_eq_true rfl, Nat.le_of_ble_eq_true rfl⟩) ⟨xPc.blind, va_recv hK (xO_X hW) (ci := 0) (q0 := 0) rfl rfl, F.pre hW hS (.ref (xa E 0) :: [.int 1, .int 5])⟩ rfl rfl hl.1 rfl (lv_room (Nat.le_of_ble_eq_true rfl)) dX0_earsOf_17 ⟨Nat.le_refl _, Nat.le_refl _⟩) hS hlk (hno _)
        · rw [g9, xbt_r] at h
          refine x_backTv (x_runVT (C := RX0) (b := (xa E 0)) (As := [.int 1, .int 5]) (rest := []) F.1 (mX0_need l E σ3 1 5 (some r10) σ11 g9) (cwV 2 hts (lw_V q856 q858 qs25 q99 q859) rfl rfl rfl (by decide +kernel) ⟨Nat.le_of_ble_eq_true rfl, Nat.le_of_ble_eq_true rfl⟩) ⟨xPc.blind, va_recv hK (xO_X hW) (ci := 0) (q0 := 0) rfl rfl, F.pre hW hS (.ref (xa E 0) :: [.int 1, .int 5])⟩ rfl rfl hl.1 rfl (lv_room (Nat.le_of_ble_eq_true rfl)) dX0_earsOf_17 ⟨Nat.le_refl _, Nat.le_refl _⟩) hS (fun H locs hW hS => ?_)
          refine lv_aload_n hx hb dX0_earsOf_20 rfl (lv_at hl 0 rfl) ?_
          obtain ⟨h1, h2⟩ := Prod.mk.inj (Option.some.inj h); subst h1; subst h2
          exact x_mono xMQ.of (x_aret F hr (Or.inl ⟨_, rfl⟩) hlk hW hS dX0_earsOf_21)
      · rw [if_neg hj8] at h; cases h
/-! WildBells.number(Ljava/lang/Object;I)I -/
def fX0_number (σ : xM) (j0 : Nat) (a1 : Int32) : Option Int32 :=
  if σ 13 j0 = 0 then none else (if xsk (σ 13 j0) = 1 then (if xin a1 (σ 14 j0).toNatClampNeg then (some (σ 15 (40 * j0 + a1.toNatClampNeg))) else none) else (if xsk (σ 13 j0) = 2 then (if xin a1 (σ 14 j0).toNatClampNeg then (some (σ 15 (40 * j0 + a1.toNatClampNeg))) else none) else (if xin a1 (σ 14 j0).toNatClampNeg then (some (σ 15 (40 * j0 + a1.toNatClampNeg))) else none)))
set_option maxHeartbeats 4000000 in
theorem mX0_number (l : Launch) (E : xE) (σ : xM) (j0 : Nat) (hj0 : j0 < 4) (a1 : Int32) (r : Int32) (h : fX0_number σ j0 a1 = some r) : Met l yX0_number (ws_ yX0_number cX0_number 2 (some .int)) ({ frames := 0, cells := 0, slots := 0, locals := 0 } : Room) (xPc E σ [.ref (xq E j0), .int a1]) (xQc E (.returned (some (.int r))) σ) 0 0 (xA E) := by
  refine x_of (C := RX0) (n := "number") (d := "(Ljava/lang/Object;I)I") (r := (some .int)) (by decide) rfl (by first | decide | exact Nat.le_of_ble_eq_true rfl) ?_
  intro p e s m below meth c ls F hr hlk hW hS hl
  have hl : lv_has ls 2 [(0, .ref (xq E j0)), (1, .int a1)] := hl
  obtain ⟨hx, hb, hml, hown, hts⟩ := id F.1
  have hK := F.2.1.1
  unfold fX0_number at h
  refine lv_aload_n hx hb dX0_number_0 rfl (lv_at hl 0 rfl) ?_
  by_cases hs1 : σ 13 j0 = 0
  · rw [if_pos hs1] at h; cases h
  · rw [if_neg hs1] at h
    refine x_instB F hW j0 hj0 hs1 (hts _ q874) dX0_number_1 (fun hk2 => ?_) (fun hk2 => ?_)
    · rw [if_pos hk2] at h
      refine lv_if_eq (tgt := 16) hx hb dX0_number_4 (by decide) (fun c => absurd c (by decide)) (fun c => ?_)
      refine lv_aload_n hx hb dX0_number_7 rfl (lv_at hl 0 rfl) ?_
      refine va_castE hx hb hown (hts _ q874) (x_rcv hW j0 hj0 hs1 1 hk2 (x_fc F).1) dX0_number_8 ?_
      refine lv_iload_n hx hb dX0_number_11 rfl (lv_at hl 1 rfl) ?_
      by_cases hs3 : xin a1 (σ 14 j0).toNatClampNeg
      · rw [if_pos hs3] at h
        refine va_bald hx hb hK (xV_s hW j0 hj0 hs1 1 hk2) 0 1 rfl rfl hs3 dX0_number_12 ?_
        refine lv_goto (tgt := 38) hx hb dX0_number_13 (by decide) ?_
        have h := Option.some.inj h; subst h
        exact x_iret F hr hlk hW hS dX0_number_38
      · rw [if_neg hs3] at h; cases h
    · rw [if_neg hk2] at h
      refine lv_if_eq (tgt := 16) hx hb dX0_number_4 (by decide) (fun c => ?_) (fun c => absurd c (by decide))
      refine lv_aload_n hx hb dX0_number_16 rfl (lv_at hl 0 rfl) ?_
      refine x_instS F hW j0 hj0 hs1 hk2 (hts _ q875) dX0_number_17 (fun hk4 => ?_) (fun hk4 => ?_)
      · rw [if_pos hk4] at h
        refine lv_if_eq (tgt := 32) hx hb dX0_number_20 (by decide) (fun c => absurd c (by decide)) (fun c => ?_)
        refine lv_aload_n hx hb dX0_number_23 rfl (lv_at hl 0 rfl) ?_
        refine va_castE hx hb hown (hts _ q875) (x_rcv hW j0 hj0 hs1 2 hk4 (x_fc F).2.1) dX0_number_24 ?_
        refine lv_iload_n hx hb dX0_number_27 rfl (lv_at hl 1 rfl) ?_
        by_cases hs5 : xin a1 (σ 14 j0).toNatClampNeg
        · rw [if_pos hs5] at h
          refine va_sald hx hb hK (xV_s hW j0 hj0 hs1 2 hk4) 0 2 rfl rfl hs5 dX0_number_28 ?_
          refine lv_goto (tgt := 38) hx hb dX0_number_29 (by decide) ?_
          have h := Option.some.inj h; subst h
          exact x_iret F hr hlk hW hS dX0_number_38
        · rw [if_neg hs5] at h; cases h
      · rw [if_neg hk4] at h
        refine lv_if_eq (tgt := 32) hx hb dX0_number_20 (by decide) (fun c => ?_) (fun c => absurd c (by decide))
        refine lv_aload_n hx hb dX0_number_32 rfl (lv_at hl 0 rfl) ?_
        refine va_castE hx hb hown (hts _ q876) (x_rcv hW j0 hj0 hs1 0 (x_k0 hk2 hk4) (x_fc F).2.2) dX0_number_33 ?_
        refine lv_iload_n hx hb dX0_number_36 rfl (lv_at hl 1 rfl) ?_
        by_cases hs6 : xin a1 (σ 14 j0).toNatClampNeg
        · rw [if_pos hs6] at h
          refine va_iald hx hb hK (xV_s hW j0 hj0 hs1 0 (x_k0 hk2 hk4)) 0 0 rfl rfl hs6 dX0_number_37 ?_
          have h := Option.some.inj h; subst h
          exact x_iret F hr hlk hW hS dX0_number_38
        · rw [if_neg hs6] at h; cases h
/-! WildBells.needEars(Ljava/lang/Object;)V -/
def gX0_needEars_2 (j1 : Nat) : Nat → Int32 → xM → Option (Option Int32 × xM)
  | 0, _, _ => none
  | n + 1, x2, σ => (fX0_ears σ j1).bind (fun r2 => if r2 ≤ x2 then (some (some x2, σ)) else ((fX0_number σ j1 (2 * x2)).bind (fun r5 => xbt (fX0_need σ (fX0_isCell r5) 4) (fun r7 σ8 => gX0_needEars_2 j1 n (x2 + 1) σ8))))
def fX0_needEars (σ : xM) (j1 : Nat) : Option (Option Unit × xM) :=
  xbt (gX0_needEars_2 j1 xfu 0 σ) (fun q10 σ11 => some (some (), σ11))
set_option maxHeartbeats 4000000 in
theorem lX0_needEars_2 {p : Program} {l : Launch} {e : Env} {s : State} {m : MethodId} {av : Array Value} {below : List Frame} {meth : Method} {c : Code} {E : xE} {j1 : Nat} (hj1 : j1 < 4) {Qc : Array Value → State → Outcome → State → Prop} (F : xFx p m c cX0_needEars 3 s av RX0 E) (hlk : meth.locks = false) (hno : ∀ pc, ∀ x ∈ c.exceptionTable.toList, covers x pc = false) : ∀ (n : Nat) (x2 : Int32) (σ : xM) (o : Option Int32) (σ' : xM), gX0_needEars_2 j1 n x2 σ = some (o, σ') → ∀ (H : Heap) (locs : List Loc) (ls : Array Slot), xW E σ H → va_S (xA E) s.heap H locs → lv_has ls 3 [(2, .int x2), (0, .ref (xa E 0)), (1, .ref (xq E j1))] → (o = none → Qc = xQc E (.threw (xa E 1)) σ') → (∀ q, o = some q → ∀ (H : Heap) (locs : List Loc) (ls : Array Slot), xW E σ' H → va_S (xA E) s.heap H locs → lv_has ls 3 [(2, .int q), (0, .ref (xa E 0)), (1, .ref (xq E j1))] → W p l e ({ frames := 2, cells := 0, slots := 0, locals := 43 } : Room) s m av below meth c H locs 0 0 (xMQ below Qc av s (xA E)) (F0 m 31 ls [])) → W p l e ({ frames := 2, cells := 0, slots := 0, locals := 43 } : Room) s m av below meth c H locs 0 0 (xMQ below Qc av s (xA E)) (F0 m 2 ls []) := by
  obtain ⟨hx, hb, hml, hown, hts⟩ := id F.1
  have hK := F.2.1.1
  intro n
  induction n with
  | zero =>
    intro x2 σ o σ' h
    cases h
  | succ n ih =>
    intro x2 σ o σ' h H locs ls hW hS hl ht kk
    rw [gX0_needEars_2] at h
    refine lv_iload_n hx hb dX0_needEars_2 rfl (lv_at hl 0 rfl) ?_
    refine lv_aload_n hx hb dX0_needEars_3 rfl (lv_at hl 2 rfl) ?_
    cases g1 : fX0_ears σ j1 with
    | none => rw [g1] at h; cases h
    | some r2 =>
      rw [g1, Option.bind_some] at h
      refine x_backi (va_runS (As := [.ref (xq E j1)]) (rest := [.int x2]) F.1 (mX0_ears l E σ j1 hj1 r2 g1) (va_cwS 1 hts (lw_S q868 q869 q99 q870) rfl rfl rfl (by decide +kernel) ⟨Nat.le_of_ble_eq_true rfl, Nat.le_of_ble_eq_true rfl⟩) ⟨xPc.blind, F.pre hW hS [.ref (xq E j1)]⟩ rfl rfl hl.1 rfl (lv_room (Nat.le_of_ble_eq_true rfl)) dX0_needEars_4 ⟨Nat.le_refl _, Nat.le_refl _⟩) hS (fun H locs hW hS => ?_)
      refine lv_icmp_ge (tgt := 31) hx hb dX0_needEars_7 (by decide) (fun c3 => ?_) (fun c3 => ?_)
      · rw [if_pos c3] at h
        obtain ⟨h1, h2⟩ := Prod.mk.inj (Option.some.inj h); subst h1; subst h2
        exact kk _ rfl _ _ _ hW hS (lv_sub hl [0, 1, 2] rfl)
      · rw [if_neg c3] at h
        refine lv_aload_n hx hb dX0_needEars_10 rfl (lv_at hl 1 rfl) ?_
        refine lv_aload_n hx hb dX0_needEars_11 rfl (lv_at hl 2 rfl) ?_
        refine lv_iconst (v := 2) hx hb dX0_needEars_12 (by decide) ?_
        refine lv_iload_n hx hb dX0_needEars_13 rfl (lv_at hl 0 rfl) ?_
        refine lv_imul hx hb dX0_needEars_14 ?_
        cases g4 : fX0_number σ j1 (2 * x2) with
        | none => rw [g4] at h; cases h
        | some r5 =>
          rw [g4, Option.bind_some] at h
          refine x_backi (va_runS (As := [.ref (xq E j1), .int (2 * x2)]) (rest := [.ref (xa E 0)]) F.1 (mX0_number l E σ j1 hj1 (2 * x2) r5 g4) (va_cwS 2 hts (lw_S q877 q878 q99 q879) rfl rfl rfl (by decide +kernel) ⟨Nat.le_of_ble_eq_true rfl, Nat.le_of_ble_eq_true rfl⟩) ⟨xPc.blind, F.pre hW hS [.ref (xq E j1), .int (2 * x2)]⟩ rfl rfl hl.1 rfl (lv_room (Nat.le_of_ble_eq_true rfl)) dX0_needEars_15 ⟨Nat.le_refl _, Nat.le_refl _⟩) hS (fun H locs hW hS => ?_)
          refine x_backi (va_runS (As := [.int r5]) (rest := [.ref (xa E 0)]) F.1 (mX0_isCell l E σ r5) (va_cwS 1 hts (lw_S q463 q464 q99 q465) rfl rfl rfl (by decide +kernel) ⟨Nat.le_of_ble_eq_true rfl, Nat.le_of_ble_eq_true rfl⟩) ⟨xPc.blind, F.pre hW hS [.int r5]⟩ rfl rfl hl.1 rfl (lv_room (Nat.le_of_ble_eq_true rfl)) dX0_needEars_18 ⟨Nat.le_refl _, Nat.le_refl _⟩) hS (fun H locs hW hS => ?_)
          refine lv_iconst (v := 4) hx hb dX0_needEars_21 (by decide) ?_
          rcases g6 : fX0_need σ (fX0_isCell r5) 4 with _ | ⟨_ | r7, σ8⟩
          · rw [g6] at h; cases h
          · rw [g6, xbt_t] at h
            obtain ⟨h1, h2⟩ := Prod.mk.inj (Option.some.inj h); subst h1; subst h2
            rw [ht rfl]
            exact x_backTl (x_runVT (C := RX0) (b := (xa E 0)) (As := [.int (fX0_isCell r5), .int 4]) (rest := []) F.1 (mX0_need l E σ (fX0_isCell r5) 4 none σ8 g6) (cwV 2 hts (lw_V q856 q858 qs25 q99 q859) rfl rfl rfl (by decide +kernel) ⟨Nat.le_of_ble_eq_true rfl, Nat.le_of_ble_eq_true rfl⟩) ⟨xPc.blind, va_recv hK (xO_X hW) (ci := 0) (q0 := 0) rfl rfl, F.pre hW hS (.ref (xa E 0) :: [.int (fX0_isCell r5), .int 4])⟩ rfl rfl hl.1 rfl (lv_room (Nat.le_of_ble_eq_true rfl)) dX0_needEars_22 ⟨Nat.le_refl _, Nat.le_refl _⟩) hS hlk (hno _)
          · rw [g6, xbt_r] at h
            refine x_backTv (x_runVT (C := RX0) (b := (xa E 0)) (As := [.int (fX0_isCell r5), .int 4]) (rest := []) F.1 (mX0_need l E σ (fX0_isCell r5) 4 (some r7) σ8 g6) (cwV 2 hts (lw_V q856 q858 qs25 q99 q859) rfl rfl rfl (by decide +kernel) ⟨Nat.le_of_ble_eq_true rfl, Nat.le_of_ble_eq_true rfl⟩) ⟨xPc.blind, va_recv hK (xO_X hW) (ci := 0) (q0 := 0) rfl rfl, F.pre hW hS (.ref (xa E 0) :: [.int (fX0_isCell r5), .int 4])⟩ rfl rfl hl.1 rfl (lv_room (Nat.le_of_ble_eq_true rfl)) dX0_needEars_22 ⟨Nat.le_refl _, Nat.le_refl _⟩) hS (fun H locs hW hS => ?_)
            refine lv_iinc (k := 0) (v := (x2 + 1)) (lv' := [(2, .int (x2 + 1)), (0, .ref (xa E 0)), (1, .ref (xq E j1))]) hx hb dX0_needEars_25 hl rfl rfl (by decide) rfl (fun ls hl => ?_)
            refine lv_goto (tgt := 2) hx hb dX0_needEars_28 (by decide) ?_
            exact ih (x2 + 1) σ8 _ _ h _ _ _ hW hS (lv_sub hl [0, 1, 2] rfl) ht kk
set_option maxHeartbeats 4000000 in
theorem mX0_needEars (l : Launch) (E : xE) (σ : xM) (j1 : Nat) (hj1 : j1 < 4) (o : Option Unit) (σ' : xM) (h : fX0_needEars σ j1 = some (o, σ')) : xMT l yX0_needEars (ws_ yX0_needEars cX0_needEars 3 none) ({ frames := 2, cells := 0, slots := 0, locals := 43 } : Room) (xPc E σ [.ref (xa E 0), .ref (xq E j1)]) (xQc E (xoV (xa E 1) o) σ') (xA E) := by
  refine x_ofT (C := RX0) (n := "needEars") (d := "(Ljava/lang/Object;)V") (r := none) (by decide) (by first | decide | exact Nat.le_of_ble_eq_true rfl) ?_
  intro p e s m below meth c ls F hr hlk hno hW hS hl
  have hl : lv_has ls 3 [(0, .ref (xa E 0)), (1, .ref (xq E j1))] := hl
  obtain ⟨hx, hb, hml, hown, hts⟩ := id F.1
  have hK := F.2.1.1
  unfold fX0_needEars at h
  refine lv_iconst (v := 0) hx hb dX0_needEars_0 (by decide) ?_
  refine lv_istore_n (lv' := [(2, .int 0), (0, .ref (xa E 0)), (1, .ref (xq E j1))]) hx hb dX0_needEars_1 rfl hl (by decide) rfl (fun ls hl => ?_)
  rcases g9 : gX0_needEars_2 j1 xfu 0 σ with _ | ⟨_ | q10, σ11⟩
  · rw [g9] at h; cases h
  · rw [g9, xbt_t] at h
    obtain ⟨h1, h2⟩ := Prod.mk.inj (Option.some.inj h); subst h1; subst h2
    exact lX0_needEars_2 hj1 F hlk hno xfu 0 σ none σ11 g9 _ _ _ hW hS (lv_sub hl [0, 1, 2] rfl) (fun _ => rfl) (fun q hq => by cases hq)
  · rw [g9, xbt_r] at h
    refine lX0_needEars_2 hj1 F hlk hno xfu 0 σ (some q10) σ11 g9 _ _ _ hW hS (lv_sub hl [0, 1, 2] rfl) (fun hq => by cases hq) (fun q hq H locs ls hW hS hl => ?_)
    cases hq
    obtain ⟨h1, h2⟩ := Prod.mk.inj (Option.some.inj h); subst h1; subst h2
    exact x_mono xMQ.of (x_vret F hr hlk hW hS dX0_needEars_31)
/-! WildBells.soundsSo(Ljava/lang/Object;II)Z -/
def gX0_soundsSo_5 (σ : xM) (j0 : Nat) (b1 : Int32) (b2 : Int32) : Nat → Int32 → Int32 → Option (Int32 × Int32)
  | 0, _, _ => none
  | n + 1, x3, x4 => (fX0_ears σ j0).bind (fun r2 => if r2 ≤ x4 then (some (x3, x4)) else (if x3 = 0 then (gX0_soundsSo_5 σ j0 b1 b2 n 0 (x4 + 1)) else ((fX0_number σ j0 (2 * x4)).bind (fun r6 => (fX0_number σ j0 ((2 * x4) + 1)).bind (fun r8 => if (fX0_loudBy b1 (fX0_apart r6 b2)) = r8 then (gX0_soundsSo_5 σ j0 b1 b2 n 1 (x4 + 1)) else (gX0_soundsSo_5 σ j0 b1 b2 n 0 (x4 + 1)))))))
def fX0_soundsSo (σ : xM) (j0 : Nat) (a1 : Int32) (a2 : Int32) : Option Int32 :=
  (gX0_soundsSo_5 σ j0 a1 a2 xfu 1 0).bind (fun q11 => if q11.1 = 0 ∨ q11.1 = 1 then (some q11.1) else none)
set_option maxHeartbeats 4000000 in
theorem lX0_soundsSo_5 {p : Program} {l : Launch} {e : Env} {s : State} {m : MethodId} {av : Array Value} {below : List Frame} {meth : Method} {c : Code} {Q : State → Prop} {E : xE} {σ : xM} {j0 : Nat} (hj0 : j0 < 4) {b1 : Int32} {b2 : Int32} (F : xFx p m c cX0_soundsSo 5 s av RX0 E) : ∀ (n : Nat) (x3 : Int32) (x4 : Int32) (q : (Int32 × Int32)), gX0_soundsSo_5 σ j0 b1 b2 n x3 x4 = some q → ∀ (H : Heap) (locs : List Loc) (ls : Array Slot), xW E σ H → va_S (xA E) s.heap H locs → lv_has ls 5 [(4, .int x4), (3, .int x3), (0, .ref (xq E j0)), (1, .int b1), (2, .int b2)] → (∀ (H : Heap) (locs : List Loc) (ls : Array Slot), xW E σ H → va_S (xA E) s.heap H locs → lv_has ls 5 [(4, .int q.2), (3, .int q.1), (0, .ref (xq E j0)), (1, .int b1), (2, .int b2)] → W p l e ({ frames := 2, cells := 0, slots := 0, locals := 42 } : Room) s m av below meth c H locs 0 0 Q (F0 m 59 ls [])) → W p l e ({ frames := 2, cells := 0, slots := 0, locals := 42 } : Room) s m av below meth c H locs 0 0 Q (F0 m 5 ls []) := by
  obtain ⟨hx, hb, hml, hown, hts⟩ := id F.1
  have hK := F.2.1.1
  intro n
  induction n with
  | zero =>
    intro x3 x4 q h
    cases h
  | succ n ih =>
    intro x3 x4 q h H locs ls hW hS hl kk
    rw [gX0_soundsSo_5] at h
    refine lv_iload hx hb dX0_soundsSo_5 (lv_at hl 0 rfl) ?_
    refine lv_aload_n hx hb dX0_soundsSo_7 rfl (lv_at hl 2 rfl) ?_
    cases g1 : fX0_ears σ j0 with
    | none => rw [g1] at h; cases h
    | some r2 =>
      rw [g1, Option.bind_some] at h
      refine x_backi (va_runS (As := [.ref (xq E j0)]) (rest := [.int x4]) F.1 (mX0_ears l E σ j0 hj0 r2 g1) (va_cwS 1 hts (lw_S q868 q869 q99 q870) rfl rfl rfl (by decide +kernel) ⟨Nat.le_of_ble_eq_true rfl, Nat.le_of_ble_eq_true rfl⟩) ⟨xPc.blind, F.pre hW hS [.ref (xq E j0)]⟩ rfl rfl hl.1 rfl (lv_room (Nat.le_of_ble_eq_true rfl)) dX0_soundsSo_8 ⟨Nat.le_refl _, Nat.le_refl _⟩) hS (fun H locs hW hS => ?_)
      refine lv_icmp_ge (tgt := 59) hx hb dX0_soundsSo_11 (by decide) (fun c3 => ?_) (fun c3 => ?_)
      · rw [if_pos c3] at h
        have h := Option.some.inj h; subst h
        exact kk _ _ _ hW hS (lv_sub hl [0, 1, 2, 3, 4] rfl)
      · rw [if_neg c3] at h
        refine lv_iload_n hx hb dX0_soundsSo_14 rfl (lv_at hl 1 rfl) ?_
        refine lv_if_eq (tgt := 51) hx hb dX0_soundsSo_15 (by decide) (fun c4 => ?_) (fun c4 => ?_)
        · rw [if_pos c4] at h
          refine lv_iconst (v := 0) hx hb dX0_soundsSo_51 (by decide) ?_
          refine lv_istore_n (lv' := [(3, .int 0), (4, .int x4), (0, .ref (xq E j0)), (1, .int b1), (2, .int b2)]) hx hb dX0_soundsSo_52 rfl hl (by decide) rfl (fun ls hl => ?_)
          refine lv_iinc (k := 1) (v := (x4 + 1)) (lv' := [(4, .int (x4 + 1)), (3, .int 0), (0, .ref (xq E j0)), (1, .int b1), (2, .int b2)]) hx hb dX0_soundsSo_53 hl rfl rfl (by decide) rfl (fun ls hl => ?_)
          refine lv_goto (tgt := 5) hx hb dX0_soundsSo_56 (by decide) ?_
          exact ih 0 (x4 + 1) _ h _ _ _ hW hS (lv_sub hl [0, 1, 2, 3, 4] rfl) kk
        · rw [if_neg c4] at h
          refine lv_iload_n hx hb dX0_soundsSo_18 rfl (lv_at hl 3 rfl) ?_
          refine lv_aload_n hx hb dX0_soundsSo_19 rfl (lv_at hl 2 rfl) ?_
          refine lv_iconst (v := 2) hx hb dX0_soundsSo_20 (by decide) ?_
          refine lv_iload hx hb dX0_soundsSo_21 (lv_at hl 0 rfl) ?_
          refine lv_imul hx hb dX0_soundsSo_23 ?_
          cases g5 : fX0_number σ j0 (2 * x4) with
          | none => rw [g5] at h; cases h
          | some r6 =>
            rw [g5, Option.bind_some] at h
            refine x_backi (va_runS (As := [.ref (xq E j0), .int (2 * x4)]) (rest := [.int b1]) F.1 (mX0_number l E σ j0 hj0 (2 * x4) r6 g5) (va_cwS 2 hts (lw_S q877 q878 q99 q879) rfl rfl rfl (by decide +kernel) ⟨Nat.le_of_ble_eq_true rfl, Nat.le_of_ble_eq_true rfl⟩) ⟨xPc.blind, F.pre hW hS [.ref (xq E j0), .int (2 * x4)]⟩ rfl rfl hl.1 rfl (lv_room (Nat.le_of_ble_eq_true rfl)) dX0_soundsSo_24 ⟨Nat.le_refl _, Nat.le_refl _⟩) hS (fun H locs hW hS => ?_)
            refine lv_iload_n hx hb dX0_soundsSo_27 rfl (lv_at hl 4 rfl) ?_
            refine x_backi (va_runS (As := [.int r6, .int b2]) (rest := [.int b1]) F.1 (mX0_apart l E σ r6 b2) (va_cwS 2 hts (lw_S q638 q495 q99 q496) rfl rfl rfl (by decide +kernel) ⟨Nat.le_of_ble_eq_true rfl, Nat.le_of_ble_eq_true rfl⟩) ⟨xPc.blind, F.pre hW hS [.int r6, .int b2]⟩ rfl rfl hl.1 rfl (lv_room (Nat.le_of_ble_eq_true rfl)) dX0_soundsSo_28 ⟨Nat.le_refl _, Nat.le_refl _⟩) hS (fun H locs hW hS => ?_)
            refine x_backi (va_runS (As := [.int b1, .int (fX0_apart r6 b2)]) (rest := []) F.1 (mX0_loudBy l E σ b1 (fX0_apart r6 b2)) (va_cwS 2 hts (lw_S q883 q501 q99 q502) rfl rfl rfl (by decide +kernel) ⟨Nat.le_of_ble_eq_true rfl, Nat.le_of_ble_eq_true rfl⟩) ⟨xPc.blind, F.pre hW hS [.int b1, .int (fX0_apart r6 b2)]⟩ rfl rfl hl.1 rfl (lv_room (Nat.le_of_ble_eq_true rfl)) dX0_soundsSo_31 ⟨Nat.le_refl _, Nat.le_refl _⟩) hS (fun H locs hW hS => ?_)
            refine lv_aload_n hx hb dX0_soundsSo_34 rfl (lv_at hl 2 rfl) ?_
            refine lv_iconst (v := 2) hx hb dX0_soundsSo_35 (by decide) ?_
            refine lv_iload hx hb dX0_soundsSo_36 (lv_at hl 0 rfl) ?_
            refine lv_imul hx hb dX0_soundsSo_38 ?_
            refine lv_iconst (v := 1) hx hb dX0_soundsSo_39 (by decide) ?_
            refine lv_iadd hx hb dX0_soundsSo_40 ?_
            cases g7 : fX0_number σ j0 ((2 * x4) + 1) with
            | none => rw [g7] at h; cases h
            | some r8 =>
              rw [g7, Option.bind_some] at h
              refine x_backi (va_runS (As := [.ref (xq E j0), .int ((2 * x4) + 1)]) (rest := [.int (fX0_loudBy b1 (fX0_apart r6 b2))]) F.1 (mX0_number l E σ j0 hj0 ((2 * x4) + 1) r8 g7) (va_cwS 2 hts (lw_S q877 q878 q99 q879) rfl rfl rfl (by decide +kernel) ⟨Nat.le_of_ble_eq_true rfl, Nat.le_of_ble_eq_true rfl⟩) ⟨xPc.blind, F.pre hW hS [.ref (xq E j0), .int ((2 * x4) + 1)]⟩ rfl rfl hl.1 rfl (lv_room (Nat.le_of_ble_eq_true rfl)) dX0_soundsSo_41 ⟨Nat.le_refl _, Nat.le_refl _⟩) hS (fun H locs hW hS => ?_)
              refine lv_icmp_ne (tgt := 51) hx hb dX0_soundsSo_44 (by decide) (fun c9 => ?_) (fun c9 => ?_)
              · rw [if_neg c9] at h
                refine lv_iconst (v := 0) hx hb dX0_soundsSo_51 (by decide) ?_
                refine lv_istore_n (lv' := [(3, .int 0), (4, .int x4), (0, .ref (xq E j0)), (1, .int b1), (2, .int b2)]) hx hb dX0_soundsSo_52 rfl hl (by decide) rfl (fun ls hl => ?_)
                refine lv_iinc (k := 1) (v := (x4 + 1)) (lv' := [(4, .int (x4 + 1)), (3, .int 0), (0, .ref (xq E j0)), (1, .int b1), (2, .int b2)]) hx hb dX0_soundsSo_53 hl rfl rfl (by decide) rfl (fun ls hl => ?_)
                refine lv_goto (tgt := 5) hx hb dX0_soundsSo_56 (by decide) ?_
                exact ih 0 (x4 + 1) _ h _ _ _ hW hS (lv_sub hl [0, 1, 2, 3, 4] rfl) kk
              · rw [if_pos c9] at h
                refine lv_iconst (v := 1) hx hb dX0_soundsSo_47 (by decide) ?_
                refine lv_goto (tgt := 52) hx hb dX0_soundsSo_48 (by decide) ?_
                refine lv_istore_n (lv' := [(3, .int 1), (4, .int x4), (0, .ref (xq E j0)), (1, .int b1), (2, .int b2)]) hx hb dX0_soundsSo_52 rfl hl (by decide) rfl (fun ls hl => ?_)
                refine lv_iinc (k := 1) (v := (x4 + 1)) (lv' := [(4, .int (x4 + 1)), (3, .int 1), (0, .ref (xq E j0)), (1, .int b1), (2, .int b2)]) hx hb dX0_soundsSo_53 hl rfl rfl (by decide) rfl (fun ls hl => ?_)
                refine lv_goto (tgt := 5) hx hb dX0_soundsSo_56 (by decide) ?_
                exact ih 1 (x4 + 1) _ h _ _ _ hW hS (lv_sub hl [0, 1, 2, 3, 4] rfl) kk
set_option maxHeartbeats 4000000 in
theorem mX0_soundsSo (l : Launch) (E : xE) (σ : xM) (j0 : Nat) (hj0 : j0 < 4) (a1 : Int32) (a2 : Int32) (r : Int32) (h : fX0_soundsSo σ j0 a1 a2 = some r) : Met l yX0_soundsSo (ws_ yX0_soundsSo cX0_soundsSo 5 (some .boolean)) ({ frames := 2, cells := 0, slots := 0, locals := 42 } : Room) (xPc E σ [.ref (xq E j0), .int a1, .int a2]) (xQc E (.returned (some (.int r))) σ) 0 0 (xA E) := by
  refine x_of (C := RX0) (n := "soundsSo") (d := "(Ljava/lang/Object;II)Z") (r := (some .boolean)) (by decide) rfl (by first | decide | exact Nat.le_of_ble_eq_true rfl) ?_
  intro p e s m below meth c ls F hr hlk hW hS hl
  have hl : lv_has ls 5 [(0, .ref (xq E j0)), (1, .int a1), (2, .int a2)] := hl
  obtain ⟨hx, hb, hml, hown, hts⟩ := id F.1
  have hK := F.2.1.1
  unfold fX0_soundsSo at h
  refine lv_iconst (v := 1) hx hb dX0_soundsSo_0 (by decide) ?_
  refine lv_istore_n (lv' := [(3, .int 1), (0, .ref (xq E j0)), (1, .int a1), (2, .int a2)]) hx hb dX0_soundsSo_1 rfl hl (by decide) rfl (fun ls hl => ?_)
  refine lv_iconst (v := 0) hx hb dX0_soundsSo_2 (by decide) ?_
  refine lv_istore (lv' := [(4, .int 0), (3, .int 1), (0, .ref (xq E j0)), (1, .int a1), (2, .int a2)]) hx hb dX0_soundsSo_3 hl (by decide) rfl (fun ls hl => ?_)
  cases g10 : gX0_soundsSo_5 σ j0 a1 a2 xfu 1 0 with
  | none => rw [g10] at h; cases h
  | some q11 =>
    rw [g10, Option.bind_some] at h
    refine lX0_soundsSo_5 hj0 F xfu 1 0 q11 g10 _ _ _ hW hS (lv_sub hl [0, 1, 2, 3, 4] rfl) (fun H locs ls hW hS hl => ?_)
    refine lv_iload_n hx hb dX0_soundsSo_59 rfl (lv_at hl 1 rfl) ?_
    by_cases hz12 : q11.1 = 0 ∨ q11.1 = 1
    · rw [if_pos hz12] at h
      have h := Option.some.inj h; subst h
      exact x_zret F hr hlk hW hS (x_b01 hz12) dX0_soundsSo_60
    · rw [if_neg hz12] at h; cases h
/-! WildBells.tellsFits(II)I -/
def gX0_tellsFits_32 (y3 : Nat) (b2 : Int32) : Nat → Int32 → Int32 → xM → Option (Int32 × Int32 × xM)
  | 0, _, _, _ => none
  | n + 1, x4, x5, σ => if x5 < 0 then (some (x4, x5, σ)) else ((fX0_soundsSo σ y3 b2 x5).bind (fun r14 => if xin x5 64 then (if xin x5 64 then (if ((xup σ 9 (x5.toNatClampNeg) (vp_nar .boolean r14)) 9 (x5.toNatClampNeg)) = 0 then (if xin x5 64 then (if ((xup (xup σ 9 (x5.toNatClampNeg) (vp_nar .boolean r14)) 6 2 ((xup σ 9 (x5.toNatClampNeg) (vp_nar .boolean r14)) 6 2)) 9 (x5.toNatClampNeg)) = 0 then (gX0_tellsFits_32 y3 b2 n (x4 + 0) (x5 + (-1)) (xup (xup σ 9 (x5.toNatClampNeg) (vp_nar .boolean r14)) 6 2 ((xup σ 9 (x5.toNatClampNeg) (vp_nar .boolean r14)) 6 2))) else (gX0_tellsFits_32 y3 b2 n (x4 + 1) (x5 + (-1)) (xup (xup σ 9 (x5.toNatClampNeg) (vp_nar .boolean r14)) 6 2 ((xup σ 9 (x5.toNatClampNeg) (vp_nar .boolean r14)) 6 2)))) else none) else (if xin x5 64 then (if ((xup (xup σ 9 (x5.toNatClampNeg) (vp_nar .boolean r14)) 6 2 x5) 9 (x5.toNatClampNeg)) = 0 then (gX0_tellsFits_32 y3 b2 n (x4 + 0) (x5 + (-1)) (xup (xup σ 9 (x5.toNatClampNeg) (vp_nar .boolean r14)) 6 2 x5)) else (gX0_tellsFits_32 y3 b2 n (x4 + 1) (x5 + (-1)) (xup (xup σ 9 (x5.toNatClampNeg) (vp_nar .boolean r14)) 6 2 x5))) else none)) else none) else none))
def fX0_tellsFits (σ : xM) (a1 : Int32) (a2 : Int32) : Option (Option Int32 × xM) :=
  xbt (fX0_earsOf σ a1) (fun r2 σ3 => xro r2 none (fun j4 => if j4 < 4 then (xbt (fX0_need σ3 (fX0_isWeight a2) 0) (fun r7 σ8 => xbt (fX0_needEars σ8 j4) (fun r10 σ11 => (gX0_tellsFits_32 j4 a2 xfu 0 63 (xup σ11 6 2 (-1))).bind (fun q23 => some (some q23.1, q23.2.2))))) else none))
set_option maxHeartbeats 4000000 in
theorem lX0_tellsFits_32 {p : Program} {l : Launch} {e : Env} {s : State} {m : MethodId} {av : Array Value} {below : List Frame} {meth : Method} {c : Code} {Q : State → Prop} {E : xE} {y3 : Nat} (hy3 : y3 < 4) {b1 : Int32} {b2 : Int32} (F : xFx p m c cX0_tellsFits 6 s av RX0 E) : ∀ (n : Nat) (x4 : Int32) (x5 : Int32) (σ : xM) (q : (Int32 × Int32 × xM)), gX0_tellsFits_32 y3 b2 n x4 x5 σ = some q → ∀ (H : Heap) (locs : List Loc) (ls : Array Slot), xW E σ H → va_S (xA E) s.heap H locs → lv_has ls 6 [(5, .int x5), (4, .int x4), (3, .ref (xq E y3)), (0, .ref (xa E 0)), (1, .int b1), (2, .int b2)] → (∀ (H : Heap) (locs : List Loc) (ls : Array Slot), xW E q.2.2 H → va_S (xA E) s.heap H locs → lv_has ls 6 [(5, .int q.2.1), (4, .int q.1), (3, .ref (xq E y3)), (0, .ref (xa E 0)), (1, .int b1), (2, .int b2)] → W p l e ({ frames := 4, cells := 0, slots := 0, locals := 86 } : Room) s m av below meth c H locs 0 0 Q (F0 m 100 ls [])) → W p l e ({ frames := 4, cells := 0, slots := 0, locals := 86 } : Room) s m av below meth c H locs 0 0 Q (F0 m 32 ls []) := by
  obtain ⟨hx, hb, hml, hown, hts⟩ := id F.1
  have hK := F.2.1.1
  intro n
  induction n with
  | zero =>
    intro x4 x5 σ q h
    cases h
  | succ n ih =>
    intro x4 x5 σ q h H locs ls hW hS hl kk
    rw [gX0_tellsFits_32] at h
    refine lv_iload hx hb dX0_tellsFits_32 (lv_at hl 0 rfl) ?_
    refine lv_if_lt (tgt := 100) hx hb dX0_tellsFits_34 (by decide) (fun c12 => ?_) (fun c12 => ?_)
    · rw [if_pos c12] at h
      have h := Option.some.inj h; subst h
      exact kk _ _ _ hW hS (lv_sub hl [0, 1, 2, 3, 4, 5] rfl)
    · rw [if_neg c12] at h
      refine lv_aload_n hx hb dX0_tellsFits_37 rfl (lv_at hl 3 rfl) ?_
      refine va_get (D := xD E) (ci := 0) (v := .ref (xa E 58)) (C := RX0) (T := TX0) (N := 15) hx hb hts in_X0 hown hK (xO_X hW) 0 rfl rfl 12 (by decide) (hts _ q425) (fun _ h9 => h9) rfl dX0_tellsFits_38 ?_
      refine lv_iload hx hb dX0_tellsFits_41 (lv_at hl 0 rfl) ?_
      refine lv_aload_n hx hb dX0_tellsFits_43 rfl (lv_at hl 2 rfl) ?_
      refine lv_iload_n hx hb dX0_tellsFits_44 rfl (lv_at hl 5 rfl) ?_
      refine lv_iload hx hb dX0_tellsFits_45 (lv_at hl 0 rfl) ?_
      cases g13 : fX0_soundsSo σ y3 b2 x5 with
      | none => rw [g13] at h; cases h
      | some r14 =>
        rw [g13, Option.bind_some] at h
        refine x_backi (va_runS (As := [.ref (xq E y3), .int b2, .int x5]) (rest := [.int x5, .ref (xa E 58)]) F.1 (mX0_soundsSo l E σ y3 hy3 b2 x5 r14 g13) (va_cwS 3 hts (lw_S q880 q881 q99 q882) rfl rfl rfl (by decide +kernel) ⟨Nat.le_of_ble_eq_true rfl, Nat.le_of_ble_eq_true rfl⟩) ⟨xPc.blind, F.pre hW hS [.ref (xq E y3), .int b2, .int x5]⟩ rfl rfl hl.1 rfl (lv_room (Nat.le_of_ble_eq_true rfl)) dX0_tellsFits_47 ⟨Nat.le_refl _, Nat.le_refl _⟩) hS (fun H locs hW hS => ?_)
        by_cases hi15 : xin x5 64
        · rw [if_pos hi15] at h
          refine x_zast F hW hS 58 64 9 (fun j => j) xp_58.1 xp_58.2.1 xp_58.2.2.1 xp_58.2.2.2 hi15 dX0_tellsFits_50 (fun H locs hW hS => ?_)
          refine lv_aload_n hx hb dX0_tellsFits_51 rfl (lv_at hl 3 rfl) ?_
          refine lv_aload_n hx hb dX0_tellsFits_52 rfl (lv_at hl 3 rfl) ?_
          refine va_get (D := xD E) (ci := 0) (v := .ref (xa E 58)) (C := RX0) (T := TX0) (N := 15) hx hb hts in_X0 hown hK (xO_X hW) 0 rfl rfl 12 (by decide) (hts _ q425) (fun _ h9 => h9) rfl dX0_tellsFits_53 ?_
          refine lv_iload hx hb dX0_tellsFits_56 (lv_at hl 0 rfl) ?_
          by_cases hi16 : xin x5 64
          · rw [if_pos hi16] at h
            refine va_zald hx hb hK (xV_p hW xp_58) 0 3 rfl rfl hi16 dX0_tellsFits_58 ?_
            refine lv_if_eq (tgt := 67) hx hb dX0_tellsFits_59 (by decide) (fun c17 => ?_) (fun c17 => ?_)
            · rw [if_pos c17] at h
              refine lv_aload_n hx hb dX0_tellsFits_67 rfl (lv_at hl 3 rfl) ?_
              refine va_get (D := xD E) (ci := 0) (v := .int ((xup σ 9 (x5.toNatClampNeg) (vp_nar .boolean r14)) 6 2)) (C := RX0) (T := TX0) (N := 15) hx hb hts in_X0 hown hK (xO_X hW) 0 rfl rfl 13 (by decide) (hts _ q426) (fun _ h9 => h9) rfl dX0_tellsFits_68 ?_
              refine x_put (C := RX0) (T := TX0) (N := 15) (ci := 0) (ty := .int) F hW hS in_X0 tyX0 tyX0_ok nmX0 rfl 0 13 6 2 (by decide) rfl (by decide) rfl (by decide) (hts _ q426) (fun _ h9 => h9) rfl (by decide +kernel) rfl rfl dX0_tellsFits_71 (fun H locs hW hS => ?_)
              refine lv_iload hx hb dX0_tellsFits_74 (lv_at hl 1 rfl) ?_
              refine lv_aload_n hx hb dX0_tellsFits_76 rfl (lv_at hl 3 rfl) ?_
              refine va_get (D := xD E) (ci := 0) (v := .ref (xa E 58)) (C := RX0) (T := TX0) (N := 15) hx hb hts in_X0 hown hK (xO_X hW) 0 rfl rfl 12 (by decide) (hts _ q425) (fun _ h9 => h9) rfl dX0_tellsFits_77 ?_
              refine lv_iload hx hb dX0_tellsFits_80 (lv_at hl 0 rfl) ?_
              by_cases hi18 : xin x5 64
              · rw [if_pos hi18] at h
                refine va_zald hx hb hK (xV_p hW xp_58) 0 3 rfl rfl hi18 dX0_tellsFits_82 ?_
                refine lv_if_eq (tgt := 90) hx hb dX0_tellsFits_83 (by decide) (fun c19 => ?_) (fun c19 => ?_)
                · rw [if_pos c19] at h
                  refine lv_iconst (v := 0) hx hb dX0_tellsFits_90 (by decide) ?_
                  refine lv_iadd hx hb dX0_tellsFits_91 ?_
                  refine lv_istore (lv' := [(4, .int (x4 + 0)), (5, .int x5), (3, .ref (xq E y3)), (0, .ref (xa E 0)), (1, .int b1), (2, .int b2)]) hx hb dX0_tellsFits_92 hl (by decide) rfl (fun ls hl => ?_)
                  refine lv_iinc (k := 1) (v := (x5 + (-1))) (lv' := [(5, .int (x5 + (-1))), (4, .int (x4 + 0)), (3, .ref (xq E y3)), (0, .ref (xa E 0)), (1, .int b1), (2, .int b2)]) hx hb dX0_tellsFits_94 hl rfl rfl (by decide) rfl (fun ls hl => ?_)
                  refine lv_goto (tgt := 32) hx hb dX0_tellsFits_97 (by decide) ?_
                  exact ih (x4 + 0) (x5 + (-1)) (xup (xup σ 9 (x5.toNatClampNeg) (vp_nar .boolean r14)) 6 2 ((xup σ 9 (x5.toNatClampNeg) (vp_nar .boolean r14)) 6 2)) _ h _ _ _ hW hS (lv_sub hl [0, 1, 2, 3, 4, 5] rfl) kk
                · rw [if_neg c19] at h
                  refine lv_iconst (v := 1) hx hb dX0_tellsFits_86 (by decide) ?_
                  refine lv_goto (tgt := 91) hx hb dX0_tellsFits_87 (by decide) ?_
                  refine lv_iadd hx hb dX0_tellsFits_91 ?_
                  refine lv_istore (lv' := [(4, .int (x4 + 1)), (5, .int x5), (3, .ref (xq E y3)), (0, .ref (xa E 0)), (1, .int b1), (2, .int b2)]) hx hb dX0_tellsFits_92 hl (by decide) rfl (fun ls hl => ?_)
                  refine lv_iinc (k := 1) (v := (x5 + (-1))) (lv' := [(5, .int (x5 + (-1))), (4, .int (x4 + 1)), (3, .ref (xq E y3)), (0, .ref (xa E 0)), (1, .int b1), (2, .int b2)]) hx hb dX0_tellsFits_94 hl rfl rfl (by decide) rfl (fun ls hl => ?_)
                  refine lv_goto (tgt := 32) hx hb dX0_tellsFits_97 (by decide) ?_
                  exact ih (x4 + 1) (x5 + (-1)) (xup (xup σ 9 (x5.toNatClampNeg) (vp_nar .boolean r14)) 6 2 ((xup σ 9 (x5.toNatClampNeg) (vp_nar .boolean r14)) 6 2)) _ h _ _ _ hW hS (lv_sub hl [0, 1, 2, 3, 4, 5] rfl) kk
              · rw [if_neg hi18] at h; cases h
            · rw [if_neg c17] at h
              refine lv_iload hx hb dX0_tellsFits_62 (lv_at hl 0 rfl) ?_
              refine lv_goto (tgt := 71) hx hb dX0_tellsFits_64 (by decide) ?_
              refine x_put (C := RX0) (T := TX0) (N := 15) (ci := 0) (ty := .int) F hW hS in_X0 tyX0 tyX0_ok nmX0 rfl 0 13 6 2 (by decide) rfl (by decide) rfl (by decide) (hts _ q426) (fun _ h9 => h9) rfl (by decide +kernel) rfl rfl dX0_tellsFits_71 (fun H locs hW hS => ?_)
              refine lv_iload hx hb dX0_tellsFits_74 (lv_at hl 1 rfl) ?_
              refine lv_aload_n hx hb dX0_tellsFits_76 rfl (lv_at hl 3 rfl) ?_
              refine va_get (D := xD E) (ci := 0) (v := .ref (xa E 58)) (C := RX0) (T := TX0) (N := 15) hx hb hts in_X0 hown hK (xO_X hW) 0 rfl rfl 12 (by decide) (hts _ q425) (fun _ h9 => h9) rfl dX0_tellsFits_77 ?_
              refine lv_iload hx hb dX0_tellsFits_80 (lv_at hl 0 rfl) ?_
              by_cases hi20 : xin x5 64
              · rw [if_pos hi20] at h
                refine va_zald hx hb hK (xV_p hW xp_58) 0 3 rfl rfl hi20 dX0_tellsFits_82 ?_
                refine lv_if_eq (tgt := 90) hx hb dX0_tellsFits_83 (by decide) (fun c21 => ?_) (fun c21 => ?_)
                · rw [if_pos c21] at h
                  refine lv_iconst (v := 0) hx hb dX0_tellsFits_90 (by decide) ?_
                  refine lv_iadd hx hb dX0_tellsFits_91 ?_
                  refine lv_istore (lv' := [(4, .int (x4 + 0)), (5, .int x5), (3, .ref (xq E y3)), (0, .ref (xa E 0)), (1, .int b1), (2, .int b2)]) hx hb dX0_tellsFits_92 hl (by decide) rfl (fun ls hl => ?_)
                  refine lv_iinc (k := 1) (v := (x5 + (-1))) (lv' := [(5, .int (x5 + (-1))), (4, .int (x4 + 0)), (3, .ref (xq E y3)), (0, .ref (xa E 0)), (1, .int b1), (2, .int b2)]) hx hb dX0_tellsFits_94 hl rfl rfl (by decide) rfl (fun ls hl => ?_)
                  refine lv_goto (tgt := 32) hx hb dX0_tellsFits_97 (by decide) ?_
                  exact ih (x4 + 0) (x5 + (-1)) (xup (xup σ 9 (x5.toNatClampNeg) (vp_nar .boolean r14)) 6 2 x5) _ h _ _ _ hW hS (lv_sub hl [0, 1, 2, 3, 4, 5] rfl) kk
                · rw [if_neg c21] at h
                  refine lv_iconst (v := 1) hx hb dX0_tellsFits_86 (by decide) ?_
                  refine lv_goto (tgt := 91) hx hb dX0_tellsFits_87 (by decide) ?_
                  refine lv_iadd hx hb dX0_tellsFits_91 ?_
                  refine lv_istore (lv' := [(4, .int (x4 + 1)), (5, .int x5), (3, .ref (xq E y3)), (0, .ref (xa E 0)), (1, .int b1), (2, .int b2)]) hx hb dX0_tellsFits_92 hl (by decide) rfl (fun ls hl => ?_)
                  refine lv_iinc (k := 1) (v := (x5 + (-1))) (lv' := [(5, .int (x5 + (-1))), (4, .int (x4 + 1)), (3, .ref (xq E y3)), (0, .ref (xa E 0)), (1, .int b1), (2, .int b2)]) hx hb dX0_tellsFits_94 hl rfl rfl (by decide) rfl (fun ls hl => ?_)
                  refine lv_goto (tgt := 32) hx hb dX0_tellsFits_97 (by decide) ?_
                  exact ih (x4 + 1) (x5 + (-1)) (xup (xup σ 9 (x5.toNatClampNeg) (vp_nar .boolean r14)) 6 2 x5) _ h _ _ _ hW hS (lv_sub hl [0, 1, 2, 3, 4, 5] rfl) kk
              · rw [if_neg hi20] at h; cases h
          · rw [if_neg hi16] at h; cases h
        · rw [if_neg hi15] at h; cases h
set_option maxHeartbeats 4000000 in
theorem mX0_tellsFits (l : Launch) (E : xE) (σ : xM) (a1 : Int32) (a2 : Int32) (o : Option Int32) (σ' : xM) (h : fX0_tellsFits σ a1 a2 = some (o, σ')) : xMT l yX0_tellsFits (ws_ yX0_tellsFits cX0_tellsFits 6 (some .int)) ({ frames := 4, cells := 0, slots := 0, locals := 86 } : Room) (xPc E σ [.ref (xa E 0), .int a1, .int a2]) (xQc E (xoI (xa E 1) o) σ') (xA E) := by
  refine x_ofT (C := RX0) (n := "tellsFits") (d := "(II)I") (r := (some .int)) (by decide) (by first | decide | exact Nat.le_of_ble_eq_true rfl) ?_
  intro p e s m below meth c ls F hr hlk hno hW hS hl
  have hl : lv_has ls 6 [(0, .ref (xa E 0)), (1, .int a1), (2, .int a2)] := hl
  obtain ⟨hx, hb, hml, hown, hts⟩ := id F.1
  have hK := F.2.1.1
  unfold fX0_tellsFits at h
  refine lv_aload_n hx hb dX0_tellsFits_0 rfl (lv_at hl 0 rfl) ?_
  refine lv_iload_n hx hb dX0_tellsFits_1 rfl (lv_at hl 1 rfl) ?_
  rcases g1 : fX0_earsOf σ a1 with _ | ⟨_ | r2, σ3⟩
  · rw [g1] at h; cases h
  · rw [g1, xbt_t] at h
    obtain ⟨h1, h2⟩ := Prod.mk.inj (Option.some.inj h); subst h1; subst h2
    exact x_backTl (x_runVT (C := RX0) (b := (xa E 0)) (As := [.int a1]) (rest := []) F.1 (mX0_earsOf l E σ a1 none σ3 g1) (cwV 1 hts (lw_V q845 q847 qs23 q99 q848) rfl rfl rfl (by decide +kernel) ⟨Nat.le_of_ble_eq_true rfl, Nat.le_of_ble_eq_true rfl⟩) ⟨xPc.blind, va_recv hK (xO_X hW) (ci := 0) (q0 := 0) rfl rfl, F.pre hW hS (.ref (xa E 0) :: [.int a1])⟩ rfl rfl hl.1 rfl (lv_room (Nat.le_of_ble_eq_true rfl)) dX0_tellsFits_2 ⟨Nat.le_refl _, Nat.le_refl _⟩) hS hlk (hno _)
  · rw [g1, xbt_r] at h
    rcases r2 with _ | j4
    · rw [xro_n] at h
      refine x_backTn (x_runVT (C := RX0) (b := (xa E 0)) (As := [.int a1]) (rest := []) F.1 (mX0_earsOf l E σ a1 (some none) σ3 g1) (cwV 1 hts (lw_V q845 q847 qs23 q99 q848) rfl rfl rfl (by decide +kernel) ⟨Nat.le_of_ble_eq_true rfl, Nat.le_of_ble_eq_true rfl⟩) ⟨xPc.blind, va_recv hK (xO_X hW) (ci := 0) (q0 := 0) rfl rfl, F.pre hW hS (.ref (xa E 0) :: [.int a1])⟩ rfl rfl hl.1 rfl (lv_room (Nat.le_of_ble_eq_true rfl)) dX0_tellsFits_2 ⟨Nat.le_refl _, Nat.le_refl _⟩) hS (fun H locs hW hS => ?_)
      cases h
    · rw [xro_s] at h
      by_cases hj5 : j4 < 4
      · rw [if_pos hj5] at h
        refine x_backTr (x_runVT (C := RX0) (b := (xa E 0)) (As := [.int a1]) (rest := []) F.1 (mX0_earsOf l E σ a1 (some (some j4)) σ3 g1) (cwV 1 hts (lw_V q845 q847 qs23 q99 q848) rfl rfl rfl (by decide +kernel) ⟨Nat.le_of_ble_eq_true rfl, Nat.le_of_ble_eq_true rfl⟩) ⟨xPc.blind, va_recv hK (xO_X hW) (ci := 0) (q0 := 0) rfl rfl, F.pre hW hS (.ref (xa E 0) :: [.int a1])⟩ rfl rfl hl.1 rfl (lv_room (Nat.le_of_ble_eq_true rfl)) dX0_tellsFits_2 ⟨Nat.le_refl _, Nat.le_refl _⟩) hS (fun H locs hW hS => ?_)
        refine lv_astore_n (lv' := [(3, .ref (xq E j4)), (0, .ref (xa E 0)), (1, .int a1), (2, .int a2)]) hx hb dX0_tellsFits_5 rfl hl (by decide) rfl (fun ls hl => ?_)
        refine lv_aload_n hx hb dX0_tellsFits_6 rfl (lv_at hl 1 rfl) ?_
        refine lv_iload_n hx hb dX0_tellsFits_7 rfl (lv_at hl 3 rfl) ?_
        refine x_backi (va_runS (As := [.int a2]) (rest := [.ref (xa E 0)]) F.1 (mX0_isWeight l E σ3 a2) (va_cwS 1 hts (lw_S q689 q690 q99 q691) rfl rfl rfl (by decide +kernel) ⟨Nat.le_of_ble_eq_true rfl, Nat.le_of_ble_eq_true rfl⟩) ⟨xPc.blind, F.pre hW hS [.int a2]⟩ rfl rfl hl.1 rfl (lv_room (Nat.le_of_ble_eq_true rfl)) dX0_tellsFits_8 ⟨Nat.le_refl _, Nat.le_refl _⟩) hS (fun H locs hW hS => ?_)
        refine lv_iconst (v := 0) hx hb dX0_tellsFits_11 (by decide) ?_
        rcases g6 : fX0_need σ3 (fX0_isWeight a2) 0 with _ | ⟨_ | r7, σ8⟩
        · rw [g6] at h; cases h
        · rw [g6, xbt_t] at h
          obtain ⟨h1, h2⟩ := Prod.mk.inj (Option.some.inj h); subst h1; subst h2
          exact x_backTl (x_runVT (C := RX0) (b := (xa E 0)) (As := [.int (fX0_isWeight a2), .int 0]) (rest := []) F.1 (mX0_need l E σ3 (fX0_isWeight a2) 0 none σ8 g6) (cwV 2 hts (lw_V q856 q858 qs25 q99 q859) rfl rfl rfl (by decide +kernel) ⟨Nat.le_of_ble_eq_true rfl, Nat.le_of_ble_eq_true rfl⟩) ⟨xPc.blind, va_recv hK (xO_X hW) (ci := 0) (q0 := 0) rfl rfl, F.pre hW hS (.ref (xa E 0) :: [.int (fX0_isWeight a2), .int 0])⟩ rfl rfl hl.1 rfl (lv_room (Nat.le_of_ble_eq_true rfl)) dX0_tellsFits_12 ⟨Nat.le_refl _, Nat.le_refl _⟩) hS hlk (hno _)
        · rw [g6, xbt_r] at h
          refine x_backTv (x_runVT (C := RX0) (b := (xa E 0)) (As := [.int (fX0_isWeight a2), .int 0]) (rest := []) F.1 (mX0_need l E σ3 (fX0_isWeight a2) 0 (some r7) σ8 g6) (cwV 2 hts (lw_V q856 q858 qs25 q99 q859) rfl rfl rfl (by decide +kernel) ⟨Nat.le_of_ble_eq_true rfl, Nat.le_of_ble_eq_true rfl⟩) ⟨xPc.blind, va_recv hK (xO_X hW) (ci := 0) (q0 := 0) rfl rfl, F.pre hW hS (.ref (xa E 0) :: [.int (fX0_isWeight a2), .int 0])⟩ rfl rfl hl.1 rfl (lv_room (Nat.le_of_ble_eq_true rfl)) dX0_tellsFits_12 ⟨Nat.le_refl _, Nat.le_refl _⟩) hS (fun H locs hW hS => ?_)
          refine lv_aload_n hx hb dX0_tellsFits_15 rfl (lv_at hl 1 rfl) ?_
          refine lv_aload_n hx hb dX0_tellsFits_16 rfl (lv_at hl 0 rfl) ?_
          rcases g9 : fX0_needEars σ8 j4 with _ | ⟨_ | r10, σ11⟩
          · rw [g9] at h; cases h
          · rw [g9, xbt_t] at h
            obtain ⟨h1, h2⟩ := Prod.mk.inj (Option.some.inj h); subst h1; subst h2
            exact x_backTl (x_runVT (C := RX0) (b := (xa E 0)) (As := [.ref (xq E j4)]) (rest := []) F.1 (mX0_needEars l E σ8 j4 hj5 none σ11 g9) (cwV 1 hts (lw_V q864 q866 qs27 q99 q867) rfl rfl rfl (by decide +kernel) ⟨Nat.le_of_ble_eq_true rfl, Nat.le_of_ble_eq_true rfl⟩) ⟨xPc.blind, va_recv hK (xO_X hW) (ci := 0) (q0 := 0) rfl rfl, F.pre hW hS (.ref (xa E 0) :: [.ref (xq E j4)])⟩ rfl rfl hl.1 rfl (lv_room (Nat.le_of_ble_eq_true rfl)) dX0_tellsFits_17 ⟨Nat.le_refl _, Nat.le_refl _⟩) hS hlk (hno _)
          · rw [g9, xbt_r] at h
            refine x_backTv (x_runVT (C := RX0) (b := (xa E 0)) (As := [.ref (xq E j4)]) (rest := []) F.1 (mX0_needEars l E σ8 j4 hj5 (some r10) σ11 g9) (cwV 1 hts (lw_V q864 q866 qs27 q99 q867) rfl rfl rfl (by decide +kernel) ⟨Nat.le_of_ble_eq_true rfl, Nat.le_of_ble_eq_true rfl⟩) ⟨xPc.blind, va_recv hK (xO_X hW) (ci := 0) (q0 := 0) rfl rfl, F.pre hW hS (.ref (xa E 0) :: [.ref (xq E j4)])⟩ rfl rfl hl.1 rfl (lv_room (Nat.le_of_ble_eq_true rfl)) dX0_tellsFits_17 ⟨Nat.le_refl _, Nat.le_refl _⟩) hS (fun H locs hW hS => ?_)
            refine lv_aload_n hx hb dX0_tellsFits_20 rfl (lv_at hl 1 rfl) ?_
            refine lv_iconst (v := (-1)) hx hb dX0_tellsFits_21 (by decide) ?_
            refine x_put (C := RX0) (T := TX0) (N := 15) (ci := 0) (ty := .int) F hW hS in_X0 tyX0 tyX0_ok nmX0 rfl 0 13 6 2 (by decide) rfl (by decide) rfl (by decide) (hts _ q426) (fun _ h9 => h9) rfl (by decide +kernel) rfl rfl dX0_tellsFits_22 (fun H locs hW hS => ?_)
            refine lv_iconst (v := 0) hx hb dX0_tellsFits_25 (by decide) ?_
            refine lv_istore (lv' := [(4, .int 0), (3, .ref (xq E j4)), (0, .ref (xa E 0)), (1, .int a1), (2, .int a2)]) hx hb dX0_tellsFits_26 hl (by decide) rfl (fun ls hl => ?_)
            refine lv_bipush (v := 63) hx hb dX0_tellsFits_28 (by decide) ?_
            refine lv_istore (lv' := [(5, .int 63), (4, .int 0), (3, .ref (xq E j4)), (0, .ref (xa E 0)), (1, .int a1), (2, .int a2)]) hx hb dX0_tellsFits_30 hl (by decide) rfl (fun ls hl => ?_)
            cases g22 : gX0_tellsFits_32 j4 a2 xfu 0 63 (xup σ11 6 2 (-1)) with
            | none => rw [g22] at h; cases h
            | some q23 =>
              rw [g22, Option.bind_some] at h
              refine lX0_tellsFits_32 hj5 F xfu 0 63 (xup σ11 6 2 (-1)) q23 g22 _ _ _ hW hS (lv_sub hl [0, 1, 2, 3, 4, 5] rfl) (fun H locs ls hW hS hl => ?_)
              refine lv_iload hx hb dX0_tellsFits_100 (lv_at hl 1 rfl) ?_
              obtain ⟨h1, h2⟩ := Prod.mk.inj (Option.some.inj h); subst h1; subst h2
              exact x_mono xMQ.of (x_iret F hr hlk hW hS dX0_tellsFits_102)
      · rw [if_neg hj5] at h; cases h
/-! WildBells.stands(II)I -/
def fX0_stands (σ : xM) (a1 : Int32) (a2 : Int32) : Option (Int32 × xM) :=
  xct (fX0_tellsFits σ a1 a2) (fun r2 σ3 => some (r2, σ3)) (fun σ3 => (fX0_finding σ3 (σ3 11 0)).bind (fun r5 => some (r5.1, r5.2)))
set_option maxHeartbeats 4000000 in
theorem mX0_stands (l : Launch) (E : xE) (σ : xM) (a1 : Int32) (a2 : Int32) (r : Int32) (σ' : xM) (h : fX0_stands σ a1 a2 = some (r, σ')) : Met l yX0_stands (wsW_ yX0_stands cX0_stands 4 (some .int) [(0, 6, 7, 61)]) ({ frames := 5, cells := 0, slots := 0, locals := 111 } : Room) (xPc E σ [.ref (xa E 0), .int a1, .int a2]) (xQc E (.returned (some (.int r))) σ') 0 0 (xA E) := by
  refine x_ofW (C := RX0) (n := "stands") (d := "(II)I") (r := (some .int)) (hh := [(0, 6, 7, 61)]) (by decide) (by first | decide | exact Nat.le_of_ble_eq_true rfl) ?_
  intro p e s m below meth c ls F hr hlk htb hW hS hl
  have hl : lv_has ls 4 [(0, .ref (xa E 0)), (1, .int a1), (2, .int a2)] := hl
  obtain ⟨hx, hb, hml, hown, hts⟩ := id F.1
  have hK := F.2.1.1
  unfold fX0_stands at h
  refine lv_aload_n hx hb dX0_stands_0 rfl (lv_at hl 0 rfl) ?_
  refine lv_iload_n hx hb dX0_stands_1 rfl (lv_at hl 1 rfl) ?_
  refine lv_iload_n hx hb dX0_stands_2 rfl (lv_at hl 2 rfl) ?_
  rcases g1 : fX0_tellsFits σ a1 a2 with _ | ⟨_ | r2, σ3⟩
  · rw [g1] at h; cases h
  · rw [g1, xct_t] at h
    refine x_backTc F (x_runVT (C := RX0) (b := (xa E 0)) (As := [.int a1, .int a2]) (rest := []) F.1 (mX0_tellsFits l E σ a1 a2 none σ3 g1) (cwV 2 hts (lw_V q841 q843 qs22 q99 q844) rfl rfl rfl (by decide +kernel) ⟨Nat.le_of_ble_eq_true rfl, Nat.le_of_ble_eq_true rfl⟩) ⟨xPc.blind, va_recv hK (xO_X hW) (ci := 0) (q0 := 0) rfl rfl, F.pre hW hS (.ref (xa E 0) :: [.int a1, .int a2])⟩ rfl rfl hl.1 rfl (lv_room (Nat.le_of_ble_eq_true rfl)) dX0_stands_3 ⟨Nat.le_refl _, Nat.le_refl _⟩) hS htb ⟨by decide, by decide⟩ (by decide) (hts _ q131) (fun H1 hW1 => va_recv hK (xO_F hW1) (ci := 1) (q0 := 0) rfl rfl) (fun H locs hW hS => ?_)
    refine lv_astore_n (lv' := [(3, .ref (xa E 1)), (0, .ref (xa E 0)), (1, .int a1), (2, .int a2)]) hx hb dX0_stands_7 rfl hl (by decide) rfl (fun ls hl => ?_)
    refine lv_aload_n hx hb dX0_stands_8 rfl (lv_at hl 1 rfl) ?_
    refine lv_aload_n hx hb dX0_stands_9 rfl (lv_at hl 0 rfl) ?_
    refine va_getN (D := xD E) (ci := 1) (v := .int (σ3 11 0)) (C := RX1) (T := TX1) (N := 7) hx hb hts in_X1 hown hK (xO_F hW) 0 rfl rfl 6 (by decide) (va_Nw.use rfl (F.2.1.2.1 _ q183 rfl)) (fun _ h9 => h9) rfl dX0_stands_10 ?_
    cases g4 : fX0_finding σ3 (σ3 11 0) with
    | none => rw [g4] at h; cases h
    | some r5 =>
      rw [g4, Option.bind_some] at h
      refine x_backi (va_runV (C := RX0) (b := (xa E 0)) (As := [.int (σ3 11 0)]) (rest := []) F.1 (mX0_finding l E σ3 (σ3 11 0) r5.1 r5.2 g4) (cwV 1 hts (lw_V q469 q471 qs2 q99 q472) rfl rfl rfl (by decide +kernel) ⟨Nat.le_of_ble_eq_true rfl, Nat.le_of_ble_eq_true rfl⟩) ⟨xPc.blind, va_recv hK (xO_X hW) (ci := 0) (q0 := 0) rfl rfl, F.pre hW hS (.ref (xa E 0) :: [.int (σ3 11 0)])⟩ rfl rfl hl.1 rfl (lv_room (Nat.le_of_ble_eq_true rfl)) dX0_stands_13 ⟨Nat.le_refl _, Nat.le_refl _⟩) hS (fun H locs hW hS => ?_)
      obtain ⟨h1, h2⟩ := Prod.mk.inj (Option.some.inj h); subst h1; subst h2
      exact x_iret F hr hlk hW hS dX0_stands_16
  · rw [g1, xct_r] at h
    refine x_backTi (x_runVT (C := RX0) (b := (xa E 0)) (As := [.int a1, .int a2]) (rest := []) F.1 (mX0_tellsFits l E σ a1 a2 (some r2) σ3 g1) (cwV 2 hts (lw_V q841 q843 qs22 q99 q844) rfl rfl rfl (by decide +kernel) ⟨Nat.le_of_ble_eq_true rfl, Nat.le_of_ble_eq_true rfl⟩) ⟨xPc.blind, va_recv hK (xO_X hW) (ci := 0) (q0 := 0) rfl rfl, F.pre hW hS (.ref (xa E 0) :: [.int a1, .int a2])⟩ rfl rfl hl.1 rfl (lv_room (Nat.le_of_ble_eq_true rfl)) dX0_stands_3 ⟨Nat.le_refl _, Nat.le_refl _⟩) hS (fun H locs hW hS => ?_)
    obtain ⟨h1, h2⟩ := Prod.mk.inj (Option.some.inj h); subst h1; subst h2
    exact x_iret F hr hlk hW hS dX0_stands_6
/-! WildBells.where(II)I -/
def fX0_where (σ : xM) (a1 : Int32) (a2 : Int32) : Option (Int32 × xM) :=
  xct (fX0_tellsFits σ a1 a2) (fun r2 σ3 => if r2 ≤ 0 then (xct (fX0_need σ3 0 3) (fun r6 σ7 => none) (fun σ7 => (fX0_finding σ7 (σ7 11 0)).bind (fun r9 => some (r9.1, r9.2)))) else (xct (fX0_need σ3 1 3) (fun r11 σ12 => some ((σ12 6 2), σ12)) (fun σ12 => (fX0_finding σ12 (σ12 11 0)).bind (fun r14 => some (r14.1, r14.2))))) (fun σ3 => (fX0_finding σ3 (σ3 11 0)).bind (fun r16 => some (r16.1, r16.2)))
set_option maxHeartbeats 4000000 in
theorem mX0_where (l : Launch) (E : xE) (σ : xM) (a1 : Int32) (a2 : Int32) (r : Int32) (σ' : xM) (h : fX0_where σ a1 a2 = some (r, σ')) : Met l yX0_where (wsW_ yX0_where cX0_where 4 (some .int) [(0, 23, 24, 61)]) ({ frames := 5, cells := 0, slots := 0, locals := 111 } : Room) (xPc E σ [.ref (xa E 0), .int a1, .int a2]) (xQc E (.returned (some (.int r))) σ') 0 0 (xA E) := by
  refine x_ofW (C := RX0) (n := "where") (d := "(II)I") (r := (some .int)) (hh := [(0, 23, 24, 61)]) (by decide) (by first | decide | exact Nat.le_of_ble_eq_true rfl) ?_
  intro p e s m below meth c ls F hr hlk htb hW hS hl
  have hl : lv_has ls 4 [(0, .ref (xa E 0)), (1, .int a1), (2, .int a2)] := hl
  obtain ⟨hx, hb, hml, hown, hts⟩ := id F.1
  have hK := F.2.1.1
  unfold fX0_where at h
  refine lv_aload_n hx hb dX0_where_0 rfl (lv_at hl 0 rfl) ?_
  refine lv_aload_n hx hb dX0_where_1 rfl (lv_at hl 0 rfl) ?_
  refine lv_iload_n hx hb dX0_where_2 rfl (lv_at hl 1 rfl) ?_
  refine lv_iload_n hx hb dX0_where_3 rfl (lv_at hl 2 rfl) ?_
  rcases g1 : fX0_tellsFits σ a1 a2 with _ | ⟨_ | r2, σ3⟩
  · rw [g1] at h; cases h
  · rw [g1, xct_t] at h
    refine x_backTc F (x_runVT (C := RX0) (b := (xa E 0)) (As := [.int a1, .int a2]) (rest := [.ref (xa E 0)]) F.1 (mX0_tellsFits l E σ a1 a2 none σ3 g1) (cwV 2 hts (lw_V q841 q843 qs22 q99 q844) rfl rfl rfl (by decide +kernel) ⟨Nat.le_of_ble_eq_true rfl, Nat.le_of_ble_eq_true rfl⟩) ⟨xPc.blind, va_recv hK (xO_X hW) (ci := 0) (q0 := 0) rfl rfl, F.pre hW hS (.ref (xa E 0) :: [.int a1, .int a2])⟩ rfl rfl hl.1 rfl (lv_room (Nat.le_of_ble_eq_true rfl)) dX0_where_4 ⟨Nat.le_refl _, Nat.le_refl _⟩) hS htb ⟨by decide, by decide⟩ (by decide) (hts _ q131) (fun H1 hW1 => va_recv hK (xO_F hW1) (ci := 1) (q0 := 0) rfl rfl) (fun H locs hW hS => ?_)
    refine lv_astore_n (lv' := [(3, .ref (xa E 1)), (0, .ref (xa E 0)), (1, .int a1), (2, .int a2)]) hx hb dX0_where_24 rfl hl (by decide) rfl (fun ls hl => ?_)
    refine lv_aload_n hx hb dX0_where_25 rfl (lv_at hl 1 rfl) ?_
    refine lv_aload_n hx hb dX0_where_26 rfl (lv_at hl 0 rfl) ?_
    refine va_getN (D := xD E) (ci := 1) (v := .int (σ3 11 0)) (C := RX1) (T := TX1) (N := 7) hx hb hts in_X1 hown hK (xO_F hW) 0 rfl rfl 6 (by decide) (va_Nw.use rfl (F.2.1.2.1 _ q183 rfl)) (fun _ h9 => h9) rfl dX0_where_27 ?_
    cases g15 : fX0_finding σ3 (σ3 11 0) with
    | none => rw [g15] at h; cases h
    | some r16 =>
      rw [g15, Option.bind_some] at h
      refine x_backi (va_runV (C := RX0) (b := (xa E 0)) (As := [.int (σ3 11 0)]) (rest := []) F.1 (mX0_finding l E σ3 (σ3 11 0) r16.1 r16.2 g15) (cwV 1 hts (lw_V q469 q471 qs2 q99 q472) rfl rfl rfl (by decide +kernel) ⟨Nat.le_of_ble_eq_true rfl, Nat.le_of_ble_eq_true rfl⟩) ⟨xPc.blind, va_recv hK (xO_X hW) (ci := 0) (q0 := 0) rfl rfl, F.pre hW hS (.ref (xa E 0) :: [.int (σ3 11 0)])⟩ rfl rfl hl.1 rfl (lv_room (Nat.le_of_ble_eq_true rfl)) dX0_where_30 ⟨Nat.le_refl _, Nat.le_refl _⟩) hS (fun H locs hW hS => ?_)
      obtain ⟨h1, h2⟩ := Prod.mk.inj (Option.some.inj h); subst h1; subst h2
      exact x_iret F hr hlk hW hS dX0_where_33
  · rw [g1, xct_r] at h
    refine x_backTi (x_runVT (C := RX0) (b := (xa E 0)) (As := [.int a1, .int a2]) (rest := [.ref (xa E 0)]) F.1 (mX0_tellsFits l E σ a1 a2 (some r2) σ3 g1) (cwV 2 hts (lw_V q841 q843 qs22 q99 q844) rfl rfl rfl (by decide +kernel) ⟨Nat.le_of_ble_eq_true rfl, Nat.le_of_ble_eq_true rfl⟩) ⟨xPc.blind, va_recv hK (xO_X hW) (ci := 0) (q0 := 0) rfl rfl, F.pre hW hS (.ref (xa E 0) :: [.int a1, .int a2])⟩ rfl rfl hl.1 rfl (lv_room (Nat.le_of_ble_eq_true rfl)) dX0_where_4 ⟨Nat.le_refl _, Nat.le_refl _⟩) hS (fun H locs hW hS => ?_)
    refine lv_if_le (tgt := 14) hx hb dX0_where_7 (by decide) (fun c4 => ?_) (fun c4 => ?_)
    · rw [if_pos c4] at h
      refine lv_iconst (v := 0) hx hb dX0_where_14 (by decide) ?_
      refine lv_iconst (v := 3) hx hb dX0_where_15 (by decide) ?_
      rcases g5 : fX0_need σ3 0 3 with _ | ⟨_ | r6, σ7⟩
      · rw [g5] at h; cases h
      · rw [g5, xct_t] at h
        refine x_backTc F (x_runVT (C := RX0) (b := (xa E 0)) (As := [.int 0, .int 3]) (rest := []) F.1 (mX0_need l E σ3 0 3 none σ7 g5) (cwV 2 hts (lw_V q856 q858 qs25 q99 q859) rfl rfl rfl (by decide +kernel) ⟨Nat.le_of_ble_eq_true rfl, Nat.le_of_ble_eq_true rfl⟩) ⟨xPc.blind, va_recv hK (xO_X hW) (ci := 0) (q0 := 0) rfl rfl, F.pre hW hS (.ref (xa E 0) :: [.int 0, .int 3])⟩ rfl rfl hl.1 rfl (lv_room (Nat.le_of_ble_eq_true rfl)) dX0_where_16 ⟨Nat.le_refl _, Nat.le_refl _⟩) hS htb ⟨by decide, by decide⟩ (by decide) (hts _ q131) (fun H1 hW1 => va_recv hK (xO_F hW1) (ci := 1) (q0 := 0) rfl rfl) (fun H locs hW hS => ?_)
        refine lv_astore_n (lv' := [(3, .ref (xa E 1)), (0, .ref (xa E 0)), (1, .int a1), (2, .int a2)]) hx hb dX0_where_24 rfl hl (by decide) rfl (fun ls hl => ?_)
        refine lv_aload_n hx hb dX0_where_25 rfl (lv_at hl 1 rfl) ?_
        refine lv_aload_n hx hb dX0_where_26 rfl (lv_at hl 0 rfl) ?_
        refine va_getN (D := xD E) (ci := 1) (v := .int (σ7 11 0)) (C := RX1) (T := TX1) (N := 7) hx hb hts in_X1 hown hK (xO_F hW) 0 rfl rfl 6 (by decide) (va_Nw.use rfl (F.2.1.2.1 _ q183 rfl)) (fun _ h9 => h9) rfl dX0_where_27 ?_
        cases g8 : fX0_finding σ7 (σ7 11 0) with
        | none => rw [g8] at h; cases h
        | some r9 =>
          rw [g8, Option.bind_some] at h
          refine x_backi (va_runV (C := RX0) (b := (xa E 0)) (As := [.int (σ7 11 0)]) (rest := []) F.1 (mX0_finding l E σ7 (σ7 11 0) r9.1 r9.2 g8) (cwV 1 hts (lw_V q469 q471 qs2 q99 q472) rfl rfl rfl (by decide +kernel) ⟨Nat.le_of_ble_eq_true rfl, Nat.le_of_ble_eq_true rfl⟩) ⟨xPc.blind, va_recv hK (xO_X hW) (ci := 0) (q0 := 0) rfl rfl, F.pre hW hS (.ref (xa E 0) :: [.int (σ7 11 0)])⟩ rfl rfl hl.1 rfl (lv_room (Nat.le_of_ble_eq_true rfl)) dX0_where_30 ⟨Nat.le_refl _, Nat.le_refl _⟩) hS (fun H locs hW hS => ?_)
          obtain ⟨h1, h2⟩ := Prod.mk.inj (Option.some.inj h); subst h1; subst h2
          exact x_iret F hr hlk hW hS dX0_where_33
      · rw [g5, xct_r] at h
        refine x_backTv (x_runVT (C := RX0) (b := (xa E 0)) (As := [.int 0, .int 3]) (rest := []) F.1 (mX0_need l E σ3 0 3 (some r6) σ7 g5) (cwV 2 hts (lw_V q856 q858 qs25 q99 q859) rfl rfl rfl (by decide +kernel) ⟨Nat.le_of_ble_eq_true rfl, Nat.le_of_ble_eq_true rfl⟩) ⟨xPc.blind, va_recv hK (xO_X hW) (ci := 0) (q0 := 0) rfl rfl, F.pre hW hS (.ref (xa E 0) :: [.int 0, .int 3])⟩ rfl rfl hl.1 rfl (lv_room (Nat.le_of_ble_eq_true rfl)) dX0_where_16 ⟨Nat.le_refl _, Nat.le_refl _⟩) hS (fun H locs hW hS => ?_)
        cases h
    · rw [if_neg c4] at h
      refine lv_iconst (v := 1) hx hb dX0_where_10 (by decide) ?_
      refine lv_goto (tgt := 15) hx hb dX0_where_11 (by decide) ?_
      refine lv_iconst (v := 3) hx hb dX0_where_15 (by decide) ?_
      rcases g10 : fX0_need σ3 1 3 with _ | ⟨_ | r11, σ12⟩
      · rw [g10] at h; cases h
      · rw [g10, xct_t] at h
        refine x_backTc F (x_runVT (C := RX0) (b := (xa E 0)) (As := [.int 1, .int 3]) (rest := []) F.1 (mX0_need l E σ3 1 3 none σ12 g10) (cwV 2 hts (lw_V q856 q858 qs25 q99 q859) rfl rfl rfl (by decide +kernel) ⟨Nat.le_of_ble_eq_true rfl, Nat.le_of_ble_eq_true rfl⟩) ⟨xPc.blind, va_recv hK (xO_X hW) (ci := 0) (q0 := 0) rfl rfl, F.pre hW hS (.ref (xa E 0) :: [.int 1, .int 3])⟩ rfl rfl hl.1 rfl (lv_room (Nat.le_of_ble_eq_true rfl)) dX0_where_16 ⟨Nat.le_refl _, Nat.le_refl _⟩) hS htb ⟨by decide, by decide⟩ (by decide) (hts _ q131) (fun H1 hW1 => va_recv hK (xO_F hW1) (ci := 1) (q0 := 0) rfl rfl) (fun H locs hW hS => ?_)
        refine lv_astore_n (lv' := [(3, .ref (xa E 1)), (0, .ref (xa E 0)), (1, .int a1), (2, .int a2)]) hx hb dX0_where_24 rfl hl (by decide) rfl (fun ls hl => ?_)
        refine lv_aload_n hx hb dX0_where_25 rfl (lv_at hl 1 rfl) ?_
        refine lv_aload_n hx hb dX0_where_26 rfl (lv_at hl 0 rfl) ?_
        refine va_getN (D := xD E) (ci := 1) (v := .int (σ12 11 0)) (C := RX1) (T := TX1) (N := 7) hx hb hts in_X1 hown hK (xO_F hW) 0 rfl rfl 6 (by decide) (va_Nw.use rfl (F.2.1.2.1 _ q183 rfl)) (fun _ h9 => h9) rfl dX0_where_27 ?_
        cases g13 : fX0_finding σ12 (σ12 11 0) with
        | none => rw [g13] at h; cases h
        | some r14 =>
          rw [g13, Option.bind_some] at h
          refine x_backi (va_runV (C := RX0) (b := (xa E 0)) (As := [.int (σ12 11 0)]) (rest := []) F.1 (mX0_finding l E σ12 (σ12 11 0) r14.1 r14.2 g13) (cwV 1 hts (lw_V q469 q471 qs2 q99 q472) rfl rfl rfl (by decide +kernel) ⟨Nat.le_of_ble_eq_true rfl, Nat.le_of_ble_eq_true rfl⟩) ⟨xPc.blind, va_recv hK (xO_X hW) (ci := 0) (q0 := 0) rfl rfl, F.pre hW hS (.ref (xa E 0) :: [.int (σ12 11 0)])⟩ rfl rfl hl.1 rfl (lv_room (Nat.le_of_ble_eq_true rfl)) dX0_where_30 ⟨Nat.le_refl _, Nat.le_refl _⟩) hS (fun H locs hW hS => ?_)
          obtain ⟨h1, h2⟩ := Prod.mk.inj (Option.some.inj h); subst h1; subst h2
          exact x_iret F hr hlk hW hS dX0_where_33
      · rw [g10, xct_r] at h
        refine x_backTv (x_runVT (C := RX0) (b := (xa E 0)) (As := [.int 1, .int 3]) (rest := []) F.1 (mX0_need l E σ3 1 3 (some r11) σ12 g10) (cwV 2 hts (lw_V q856 q858 qs25 q99 q859) rfl rfl rfl (by decide +kernel) ⟨Nat.le_of_ble_eq_true rfl, Nat.le_of_ble_eq_true rfl⟩) ⟨xPc.blind, va_recv hK (xO_X hW) (ci := 0) (q0 := 0) rfl rfl, F.pre hW hS (.ref (xa E 0) :: [.int 1, .int 3])⟩ rfl rfl hl.1 rfl (lv_room (Nat.le_of_ble_eq_true rfl)) dX0_where_16 ⟨Nat.le_refl _, Nat.le_refl _⟩) hS (fun H locs hW hS => ?_)
        refine lv_aload_n hx hb dX0_where_19 rfl (lv_at hl 0 rfl) ?_
        refine va_get (D := xD E) (ci := 0) (v := .int (σ12 6 2)) (C := RX0) (T := TX0) (N := 15) hx hb hts in_X0 hown hK (xO_X hW) 0 rfl rfl 13 (by decide) (hts _ q426) (fun _ h9 => h9) rfl dX0_where_20 ?_
        obtain ⟨h1, h2⟩ := Prod.mk.inj (Option.some.inj h); subst h1; subst h2
        exact x_iret F hr hlk hW hS dX0_where_23
/-! WildBells.ear(II)I -/
def fX0_ear (σ : xM) (a1 : Int32) (a2 : Int32) : Option (Int32 × xM) :=
  xct (fX0_tellsFits σ a1 a2) (fun r2 σ3 => if r2 ≤ 0 then (xct (fX0_need σ3 0 3) (fun r6 σ7 => none) (fun σ7 => (fX0_finding σ7 (σ7 11 0)).bind (fun r9 => some (r9.1, r9.2)))) else (xct (fX0_need σ3 1 3) (fun r11 σ12 => (fX0_bestEar σ12 a2).bind (fun r14 => some (r14.1, r14.2))) (fun σ12 => (fX0_finding σ12 (σ12 11 0)).bind (fun r16 => some (r16.1, r16.2))))) (fun σ3 => (fX0_finding σ3 (σ3 11 0)).bind (fun r18 => some (r18.1, r18.2)))
set_option maxHeartbeats 4000000 in
theorem mX0_ear (l : Launch) (E : xE) (σ : xM) (a1 : Int32) (a2 : Int32) (r : Int32) (σ' : xM) (h : fX0_ear σ a1 a2 = some (r, σ')) : Met l yX0_ear (wsW_ yX0_ear cX0_ear 4 (some .int) [(0, 24, 25, 61)]) ({ frames := 5, cells := 0, slots := 0, locals := 111 } : Room) (xPc E σ [.ref (xa E 0), .int a1, .int a2]) (xQc E (.returned (some (.int r))) σ') 0 0 (xA E) := by
  refine x_ofW (C := RX0) (n := "ear") (d := "(II)I") (r := (some .int)) (hh := [(0, 24, 25, 61)]) (by decide) (by first | decide | exact Nat.le_of_ble_eq_true rfl) ?_
  intro p e s m below meth c ls F hr hlk htb hW hS hl
  have hl : lv_has ls 4 [(0, .ref (xa E 0)), (1, .int a1), (2, .int a2)] := hl
  obtain ⟨hx, hb, hml, hown, hts⟩ := id F.1
  have hK := F.2.1.1
  unfold fX0_ear at h
  refine lv_aload_n hx hb dX0_ear_0 rfl (lv_at hl 0 rfl) ?_
  refine lv_aload_n hx hb dX0_ear_1 rfl (lv_at hl 0 rfl) ?_
  refine lv_iload_n hx hb dX0_ear_2 rfl (lv_at hl 1 rfl) ?_
  refine lv_iload_n hx hb dX0_ear_3 rfl (lv_at hl 2 rfl) ?_
  rcases g1 : fX0_tellsFits σ a1 a2 with _ | ⟨_ | r2, σ3⟩
  · rw [g1] at h; cases h
  · rw [g1, xct_t] at h
    refine x_backTc F (x_runVT (C := RX0) (b := (xa E 0)) (As := [.int a1, .int a2]) (rest := [.ref (xa E 0)]) F.1 (mX0_tellsFits l E σ a1 a2 none σ3 g1) (cwV 2 hts (lw_V q841 q843 qs22 q99 q844) rfl rfl rfl (by decide +kernel) ⟨Nat.le_of_ble_eq_true rfl, Nat.le_of_ble_eq_true rfl⟩) ⟨xPc.blind, va_recv hK (xO_X hW) (ci := 0) (q0 := 0) rfl rfl, F.pre hW hS (.ref (xa E 0) :: [.int a1, .int a2])⟩ rfl rfl hl.1 rfl (lv_room (Nat.le_of_ble_eq_true rfl)) dX0_ear_4 ⟨Nat.le_refl _, Nat.le_refl _⟩) hS htb ⟨by decide, by decide⟩ (by decide) (hts _ q131) (fun H1 hW1 => va_recv hK (xO_F hW1) (ci := 1) (q0 := 0) rfl rfl) (fun H locs hW hS => ?_)
    refine lv_astore_n (lv' := [(3, .ref (xa E 1)), (0, .ref (xa E 0)), (1, .int a1), (2, .int a2)]) hx hb dX0_ear_25 rfl hl (by decide) rfl (fun ls hl => ?_)
    refine lv_aload_n hx hb dX0_ear_26 rfl (lv_at hl 1 rfl) ?_
    refine lv_aload_n hx hb dX0_ear_27 rfl (lv_at hl 0 rfl) ?_
    refine va_getN (D := xD E) (ci := 1) (v := .int (σ3 11 0)) (C := RX1) (T := TX1) (N := 7) hx hb hts in_X1 hown hK (xO_F hW) 0 rfl rfl 6 (by decide) (va_Nw.use rfl (F.2.1.2.1 _ q183 rfl)) (fun _ h9 => h9) rfl dX0_ear_28 ?_
    cases g17 : fX0_finding σ3 (σ3 11 0) with
    | none => rw [g17] at h; cases h
    | some r18 =>
      rw [g17, Option.bind_some] at h
      refine x_backi (va_runV (C := RX0) (b := (xa E 0)) (As := [.int (σ3 11 0)]) (rest := []) F.1 (mX0_finding l E σ3 (σ3 11 0) r18.1 r18.2 g17) (cwV 1 hts (lw_V q469 q471 qs2 q99 q472) rfl rfl rfl (by decide +kernel) ⟨Nat.le_of_ble_eq_true rfl, Nat.le_of_ble_eq_true rfl⟩) ⟨xPc.blind, va_recv hK (xO_X hW) (ci := 0) (q0 := 0) rfl rfl, F.pre hW hS (.ref (xa E 0) :: [.int (σ3 11 0)])⟩ rfl rfl hl.1 rfl (lv_room (Nat.le_of_ble_eq_true rfl)) dX0_ear_31 ⟨Nat.le_refl _, Nat.le_refl _⟩) hS (fun H locs hW hS => ?_)
      obtain ⟨h1, h2⟩ := Prod.mk.inj (Option.some.inj h); subst h1; subst h2
      exact x_iret F hr hlk hW hS dX0_ear_34
  · rw [g1, xct_r] at h
    refine x_backTi (x_runVT (C := RX0) (b := (xa E 0)) (As := [.int a1, .int a2]) (rest := [.ref (xa E 0)]) F.1 (mX0_tellsFits l E σ a1 a2 (some r2) σ3 g1) (cwV 2 hts (lw_V q841 q843 qs22 q99 q844) rfl rfl rfl (by decide +kernel) ⟨Nat.le_of_ble_eq_true rfl, Nat.le_of_ble_eq_true rfl⟩) ⟨xPc.blind, va_recv hK (xO_X hW) (ci := 0) (q0 := 0) rfl rfl, F.pre hW hS (.ref (xa E 0) :: [.int a1, .int a2])⟩ rfl rfl hl.1 rfl (lv_room (Nat.le_of_ble_eq_true rfl)) dX0_ear_4 ⟨Nat.le_refl _, Nat.le_refl _⟩) hS (fun H locs hW hS => ?_)
    refine lv_if_le (tgt := 14) hx hb dX0_ear_7 (by decide) (fun c4 => ?_) (fun c4 => ?_)
    · rw [if_pos c4] at h
      refine lv_iconst (v := 0) hx hb dX0_ear_14 (by decide) ?_
      refine lv_iconst (v := 3) hx hb dX0_ear_15 (by decide) ?_
      rcases g5 : fX0_need σ3 0 3 with _ | ⟨_ | r6, σ7⟩
      · rw [g5] at h; cases h
      · rw [g5, xct_t] at h
        refine x_backTc F (x_runVT (C := RX0) (b := (xa E 0)) (As := [.int 0, .int 3]) (rest := []) F.1 (mX0_need l E σ3 0 3 none σ7 g5) (cwV 2 hts (lw_V q856 q858 qs25 q99 q859) rfl rfl rfl (by decide +kernel) ⟨Nat.le_of_ble_eq_true rfl, Nat.le_of_ble_eq_true rfl⟩) ⟨xPc.blind, va_recv hK (xO_X hW) (ci := 0) (q0 := 0) rfl rfl, F.pre hW hS (.ref (xa E 0) :: [.int 0, .int 3])⟩ rfl rfl hl.1 rfl (lv_room (Nat.le_of_ble_eq_true rfl)) dX0_ear_16 ⟨Nat.le_refl _, Nat.le_refl _⟩) hS htb ⟨by decide, by decide⟩ (by decide) (hts _ q131) (fun H1 hW1 => va_recv hK (xO_F hW1) (ci := 1) (q0 := 0) rfl rfl) (fun H locs hW hS => ?_)
        refine lv_astore_n (lv' := [(3, .ref (xa E 1)), (0, .ref (xa E 0)), (1, .int a1), (2, .int a2)]) hx hb dX0_ear_25 rfl hl (by decide) rfl (fun ls hl => ?_)
        refine lv_aload_n hx hb dX0_ear_26 rfl (lv_at hl 1 rfl) ?_
        refine lv_aload_n hx hb dX0_ear_27 rfl (lv_at hl 0 rfl) ?_
        refine va_getN (D := xD E) (ci := 1) (v := .int (σ7 11 0)) (C := RX1) (T := TX1) (N := 7) hx hb hts in_X1 hown hK (xO_F hW) 0 rfl rfl 6 (by decide) (va_Nw.use rfl (F.2.1.2.1 _ q183 rfl)) (fun _ h9 => h9) rfl dX0_ear_28 ?_
        cases g8 : fX0_finding σ7 (σ7 11 0) with
        | none => rw [g8] at h; cases h
        | some r9 =>
          rw [g8, Option.bind_some] at h
          refine x_backi (va_runV (C := RX0) (b := (xa E 0)) (As := [.int (σ7 11 0)]) (rest := []) F.1 (mX0_finding l E σ7 (σ7 11 0) r9.1 r9.2 g8) (cwV 1 hts (lw_V q469 q471 qs2 q99 q472) rfl rfl rfl (by decide +kernel) ⟨Nat.le_of_ble_eq_true rfl, Nat.le_of_ble_eq_true rfl⟩) ⟨xPc.blind, va_recv hK (xO_X hW) (ci := 0) (q0 := 0) rfl rfl, F.pre hW hS (.ref (xa E 0) :: [.int (σ7 11 0)])⟩ rfl rfl hl.1 rfl (lv_room (Nat.le_of_ble_eq_true rfl)) dX0_ear_31 ⟨Nat.le_refl _, Nat.le_refl _⟩) hS (fun H locs hW hS => ?_)
          obtain ⟨h1, h2⟩ := Prod.mk.inj (Option.some.inj h); subst h1; subst h2
          exact x_iret F hr hlk hW hS dX0_ear_34
      · rw [g5, xct_r] at h
        refine x_backTv (x_runVT (C := RX0) (b := (xa E 0)) (As := [.int 0, .int 3]) (rest := []) F.1 (mX0_need l E σ3 0 3 (some r6) σ7 g5) (cwV 2 hts (lw_V q856 q858 qs25 q99 q859) rfl rfl rfl (by decide +kernel) ⟨Nat.le_of_ble_eq_true rfl, Nat.le_of_ble_eq_true rfl⟩) ⟨xPc.blind, va_recv hK (xO_X hW) (ci := 0) (q0 := 0) rfl rfl, F.pre hW hS (.ref (xa E 0) :: [.int 0, .int 3])⟩ rfl rfl hl.1 rfl (lv_room (Nat.le_of_ble_eq_true rfl)) dX0_ear_16 ⟨Nat.le_refl _, Nat.le_refl _⟩) hS (fun H locs hW hS => ?_)
        cases h
    · rw [if_neg c4] at h
      refine lv_iconst (v := 1) hx hb dX0_ear_10 (by decide) ?_
      refine lv_goto (tgt := 15) hx hb dX0_ear_11 (by decide) ?_
      refine lv_iconst (v := 3) hx hb dX0_ear_15 (by decide) ?_
      rcases g10 : fX0_need σ3 1 3 with _ | ⟨_ | r11, σ12⟩
      · rw [g10] at h; cases h
      · rw [g10, xct_t] at h
        refine x_backTc F (x_runVT (C := RX0) (b := (xa E 0)) (As := [.int 1, .int 3]) (rest := []) F.1 (mX0_need l E σ3 1 3 none σ12 g10) (cwV 2 hts (lw_V q856 q858 qs25 q99 q859) rfl rfl rfl (by decide +kernel) ⟨Nat.le_of_ble_eq_true rfl, Nat.le_of_ble_eq_true rfl⟩) ⟨xPc.blind, va_recv hK (xO_X hW) (ci := 0) (q0 := 0) rfl rfl, F.pre hW hS (.ref (xa E 0) :: [.int 1, .int 3])⟩ rfl rfl hl.1 rfl (lv_room (Nat.le_of_ble_eq_true rfl)) dX0_ear_16 ⟨Nat.le_refl _, Nat.le_refl _⟩) hS htb ⟨by decide, by decide⟩ (by decide) (hts _ q131) (fun H1 hW1 => va_recv hK (xO_F hW1) (ci := 1) (q0 := 0) rfl rfl) (fun H locs hW hS => ?_)
        refine lv_astore_n (lv' := [(3, .ref (xa E 1)), (0, .ref (xa E 0)), (1, .int a1), (2, .int a2)]) hx hb dX0_ear_25 rfl hl (by decide) rfl (fun ls hl => ?_)
        refine lv_aload_n hx hb dX0_ear_26 rfl (lv_at hl 1 rfl) ?_
        refine lv_aload_n hx hb dX0_ear_27 rfl (lv_at hl 0 rfl) ?_
        refine va_getN (D := xD E) (ci := 1) (v := .int (σ12 11 0)) (C := RX1) (T := TX1) (N := 7) hx hb hts in_X1 hown hK (xO_F hW) 0 rfl rfl 6 (by decide) (va_Nw.use rfl (F.2.1.2.1 _ q183 rfl)) (fun _ h9 => h9) rfl dX0_ear_28 ?_
        cases g15 : fX0_finding σ12 (σ12 11 0) with
        | none => rw [g15] at h; cases h
        | some r16 =>
          rw [g15, Option.bind_some] at h
          refine x_backi (va_runV (C := RX0) (b := (xa E 0)) (As := [.int (σ12 11 0)]) (rest := []) F.1 (mX0_finding l E σ12 (σ12 11 0) r16.1 r16.2 g15) (cwV 1 hts (lw_V q469 q471 qs2 q99 q472) rfl rfl rfl (by decide +kernel) ⟨Nat.le_of_ble_eq_true rfl, Nat.le_of_ble_eq_true rfl⟩) ⟨xPc.blind, va_recv hK (xO_X hW) (ci := 0) (q0 := 0) rfl rfl, F.pre hW hS (.ref (xa E 0) :: [.int (σ12 11 0)])⟩ rfl rfl hl.1 rfl (lv_room (Nat.le_of_ble_eq_true rfl)) dX0_ear_31 ⟨Nat.le_refl _, Nat.le_refl _⟩) hS (fun H locs hW hS => ?_)
          obtain ⟨h1, h2⟩ := Prod.mk.inj (Option.some.inj h); subst h1; subst h2
          exact x_iret F hr hlk hW hS dX0_ear_34
      · rw [g10, xct_r] at h
        refine x_backTv (x_runVT (C := RX0) (b := (xa E 0)) (As := [.int 1, .int 3]) (rest := []) F.1 (mX0_need l E σ3 1 3 (some r11) σ12 g10) (cwV 2 hts (lw_V q856 q858 qs25 q99 q859) rfl rfl rfl (by decide +kernel) ⟨Nat.le_of_ble_eq_true rfl, Nat.le_of_ble_eq_true rfl⟩) ⟨xPc.blind, va_recv hK (xO_X hW) (ci := 0) (q0 := 0) rfl rfl, F.pre hW hS (.ref (xa E 0) :: [.int 1, .int 3])⟩ rfl rfl hl.1 rfl (lv_room (Nat.le_of_ble_eq_true rfl)) dX0_ear_16 ⟨Nat.le_refl _, Nat.le_refl _⟩) hS (fun H locs hW hS => ?_)
        refine lv_aload_n hx hb dX0_ear_19 rfl (lv_at hl 0 rfl) ?_
        refine lv_iload_n hx hb dX0_ear_20 rfl (lv_at hl 2 rfl) ?_
        cases g13 : fX0_bestEar σ12 a2 with
        | none => rw [g13] at h; cases h
        | some r14 =>
          rw [g13, Option.bind_some] at h
          refine x_backi (va_runV (C := RX0) (b := (xa E 0)) (As := [.int a2]) (rest := []) F.1 (mX0_bestEar l E σ12 a2 r14.1 r14.2 g13) (cwV 1 hts (lw_V q892 q894 qs28 q99 q895) rfl rfl rfl (by decide +kernel) ⟨Nat.le_of_ble_eq_true rfl, Nat.le_of_ble_eq_true rfl⟩) ⟨xPc.blind, va_recv hK (xO_X hW) (ci := 0) (q0 := 0) rfl rfl, F.pre hW hS (.ref (xa E 0) :: [.int a2])⟩ rfl rfl hl.1 rfl (lv_room (Nat.le_of_ble_eq_true rfl)) dX0_ear_21 ⟨Nat.le_refl _, Nat.le_refl _⟩) hS (fun H locs hW hS => ?_)
          obtain ⟨h1, h2⟩ := Prod.mk.inj (Option.some.inj h); subst h1; subst h2
          exact x_iret F hr hlk hW hS dX0_ear_24
/-! WildBells.whose(I)I -/
def gX0_whose_16 (σ : xM) (y2 : Nat) : Nat → Int32 → Int32 → Option (Int32 × Int32)
  | 0, _, _ => none
  | n + 1, x3, x4 => if (σ 0 2) ≤ x4 then (some (x3, x4)) else ((fX4_isCaught σ 0 x4).bind (fun r11 => if r11 = 0 then (if xin x4 8 then (if xin x4 8 then ((fX0_soundsSo σ y2 (σ 0 (146 + 5 * x4.toNatClampNeg + 3)) (σ 0 (146 + 5 * x4.toNatClampNeg + 1))).bind (fun r16 => if r16 = 0 then (gX0_whose_16 σ y2 n (x3 ||| 0) (x4 + 1)) else (gX0_whose_16 σ y2 n (x3 ||| (1 <<< (x4 &&& 31))) (x4 + 1)))) else none) else none) else (gX0_whose_16 σ y2 n (x3 ||| 0) (x4 + 1))))
def fX0_whose (σ : xM) (a1 : Int32) : Option (Int32 × xM) :=
  xct (fX0_earsOf σ a1) (fun r2 σ3 => xro r2 none (fun j4 => if j4 < 4 then (xct (fX0_needEars σ3 j4) (fun r7 σ8 => (gX0_whose_16 σ8 j4 xfu 0 0).bind (fun q19 => some (q19.1, σ8))) (fun σ8 => (fX0_finding σ8 (σ8 11 0)).bind (fun r21 => some (r21.1, r21.2)))) else none)) (fun σ3 => (fX0_finding σ3 (σ3 11 0)).bind (fun r23 => some (r23.1, r23.2)))
set_option maxHeartbeats 4000000 in
theorem lX0_whose_16 {p : Program} {l : Launch} {e : Env} {s : State} {m : MethodId} {av : Array Value} {below : List Frame} {meth : Method} {c : Code} {Q : State → Prop} {E : xE} {σ : xM} {y2 : Nat} (hy2 : y2 < 4) {b1 : Int32} (F : xFx p m c cX0_whose 5 s av RX0 E) : ∀ (n : Nat) (x3 : Int32) (x4 : Int32) (q : (Int32 × Int32)), gX0_whose_16 σ y2 n x3 x4 = some q → ∀ (H : Heap) (locs : List Loc) (ls : Array Slot), xW E σ H → va_S (xA E) s.heap H locs → lv_has ls 5 [(4, .int x4), (3, .int x3), (2, .ref (xq E y2)), (0, .ref (xa E 0)), (1, .int b1)] → (∀ (H : Heap) (locs : List Loc) (ls : Array Slot), xW E σ H → va_S (xA E) s.heap H locs → lv_has ls 5 [(4, .int q.2), (3, .int q.1), (2, .ref (xq E y2)), (0, .ref (xa E 0)), (1, .int b1)] → W p l e ({ frames := 4, cells := 0, slots := 0, locals := 86 } : Room) s m av below meth c H locs 0 0 Q (F0 m 88 ls [])) → W p l e ({ frames := 4, cells := 0, slots := 0, locals := 86 } : Room) s m av below meth c H locs 0 0 Q (F0 m 16 ls []) := by
  obtain ⟨hx, hb, hml, hown, hts⟩ := id F.1
  have hK := F.2.1.1
  intro n
  induction n with
  | zero =>
    intro x3 x4 q h
    cases h
  | succ n ih =>
    intro x3 x4 q h H locs ls hW hS hl kk
    rw [gX0_whose_16] at h
    refine lv_iload hx hb dX0_whose_16 (lv_at hl 0 rfl) ?_
    refine lv_aload_n hx hb dX0_whose_18 rfl (lv_at hl 3 rfl) ?_
    refine va_get (D := xD E) (ci := 0) (v := .ref (xa E (xwc 0 0))) (C := RX0) (T := TX0) (N := 15) hx hb hts in_X0 hown hK (xO_X hW) 0 rfl rfl 3 (by decide) (hts _ q416) (fun _ h9 => h9) rfl dX0_whose_19 ?_
    refine va_getN (D := xD E) (ci := 4) (v := .int (σ 0 2)) (C := RX4) (T := TX4) (N := 8) hx hb hts in_X4 hown hK (xO_W hW 0 (by decide)) 0 rfl rfl 3 (by decide) (va_Nw.use rfl (F.2.1.2.1 _ q241 rfl)) (fun _ h9 => h9) rfl dX0_whose_22 ?_
    refine lv_icmp_ge (tgt := 88) hx hb dX0_whose_25 (by decide) (fun c9 => ?_) (fun c9 => ?_)
    · rw [if_pos c9] at h
      have h := Option.some.inj h; subst h
      exact kk _ _ _ hW hS (lv_sub hl [0, 1, 2, 3, 4] rfl)
    · rw [if_neg c9] at h
      refine lv_iload_n hx hb dX0_whose_28 rfl (lv_at hl 1 rfl) ?_
      refine lv_aload_n hx hb dX0_whose_29 rfl (lv_at hl 3 rfl) ?_
      refine va_get (D := xD E) (ci := 0) (v := .ref (xa E (xwc 0 0))) (C := RX0) (T := TX0) (N := 15) hx hb hts in_X0 hown hK (xO_X hW) 0 rfl rfl 3 (by decide) (hts _ q416) (fun _ h9 => h9) rfl dX0_whose_30 ?_
      refine lv_iload hx hb dX0_whose_33 (lv_at hl 0 rfl) ?_
      cases g10 : fX4_isCaught σ 0 x4 with
      | none => rw [g10] at h; cases h
      | some r11 =>
        rw [g10, Option.bind_some] at h
        refine x_backi (va_runV (C := RX4) (b := (xa E (xwc 0 0))) (As := [.int x4]) (rest := [.int x3]) F.1 (mX4_isCaught l E σ 0 (by decide) x4 r11 g10) (cwV 1 hts (lw_V q616 q487 q488 q106 q489) rfl rfl rfl (by decide +kernel) ⟨Nat.le_of_ble_eq_true rfl, Nat.le_of_ble_eq_true rfl⟩) ⟨xPc.blind, va_recv hK (xO_W hW 0 (by decide)) (ci := 4) (q0 := 0) rfl rfl, F.pre hW hS (.ref (xa E (xwc 0 0)) :: [.int x4])⟩ rfl rfl hl.1 rfl (lv_room (Nat.le_of_ble_eq_true rfl)) dX0_whose_35 ⟨Nat.le_refl _, Nat.le_refl _⟩) hS (fun H locs hW hS => ?_)
        refine lv_if_ne (tgt := 79) hx hb dX0_whose_38 (by decide) (fun c12 => ?_) (fun c12 => ?_)
        · rw [if_neg c12] at h
          refine lv_iconst (v := 0) hx hb dX0_whose_79 (by decide) ?_
          refine lv_ior hx hb dX0_whose_80 ?_
          refine lv_istore_n (lv' := [(3, .int (x3 ||| 0)), (4, .int x4), (2, .ref (xq E y2)), (0, .ref (xa E 0)), (1, .int b1)]) hx hb dX0_whose_81 rfl hl (by decide) rfl (fun ls hl => ?_)
          refine lv_iinc (k := 1) (v := (x4 + 1)) (lv' := [(4, .int (x4 + 1)), (3, .int (x3 ||| 0)), (2, .ref (xq E y2)), (0, .ref (xa E 0)), (1, .int b1)]) hx hb dX0_whose_82 hl rfl rfl (by decide) rfl (fun ls hl => ?_)
          refine lv_goto (tgt := 16) hx hb dX0_whose_85 (by decide) ?_
          exact ih (x3 ||| 0) (x4 + 1) _ h _ _ _ hW hS (lv_sub hl [0, 1, 2, 3, 4] rfl) kk
        · rw [if_pos c12] at h
          refine lv_aload_n hx hb dX0_whose_41 rfl (lv_at hl 2 rfl) ?_
          refine lv_aload_n hx hb dX0_whose_42 rfl (lv_at hl 3 rfl) ?_
          refine va_get (D := xD E) (ci := 0) (v := .ref (xa E (xwc 0 0))) (C := RX0) (T := TX0) (N := 15) hx hb hts in_X0 hown hK (xO_X hW) 0 rfl rfl 3 (by decide) (hts _ q416) (fun _ h9 => h9) rfl dX0_whose_43 ?_
          refine va_getN (D := xD E) (ci := 4) (v := .ref (xa E (xwc 0 5))) (C := RX4) (T := TX4) (N := 8) hx hb hts in_X4 hown hK (xO_W hW 0 (by decide)) 0 rfl rfl 4 (by decide) (va_Nw.use rfl (F.2.1.2.1 _ q244 rfl)) (fun _ h9 => h9) rfl dX0_whose_46 ?_
          refine lv_iconst (v := 3) hx hb dX0_whose_49 (by decide) ?_
          refine x_aald (g := fun j => xa E (xwc 0 (6 + j))) (j := 3) F 4 4 5 (xR_5 hW 0 (by decide)) rfl rfl (x_lit (by decide)) (by decide) dX0_whose_50 ?_
          refine lv_iload hx hb dX0_whose_51 (lv_at hl 0 rfl) ?_
          by_cases hi13 : xin x4 8
          · rw [if_pos hi13] at h
            refine va_iald hx hb hK (xV_6 hW 0 3 (by decide) (by decide)) 0 0 rfl rfl hi13 dX0_whose_53 ?_
            refine lv_aload_n hx hb dX0_whose_54 rfl (lv_at hl 3 rfl) ?_
            refine va_get (D := xD E) (ci := 0) (v := .ref (xa E (xwc 0 0))) (C := RX0) (T := TX0) (N := 15) hx hb hts in_X0 hown hK (xO_X hW) 0 rfl rfl 3 (by decide) (hts _ q416) (fun _ h9 => h9) rfl dX0_whose_55 ?_
            refine va_getN (D := xD E) (ci := 4) (v := .ref (xa E (xwc 0 5))) (C := RX4) (T := TX4) (N := 8) hx hb hts in_X4 hown hK (xO_W hW 0 (by decide)) 0 rfl rfl 4 (by decide) (va_Nw.use rfl (F.2.1.2.1 _ q244 rfl)) (fun _ h9 => h9) rfl dX0_whose_58 ?_
            refine lv_iconst (v := 1) hx hb dX0_whose_61 (by decide) ?_
            refine x_aald (g := fun j => xa E (xwc 0 (6 + j))) (j := 1) F 4 4 5 (xR_5 hW 0 (by decide)) rfl rfl (x_lit (by decide)) (by decide) dX0_whose_62 ?_
            refine lv_iload hx hb dX0_whose_63 (lv_at hl 0 rfl) ?_
            by_cases hi14 : xin x4 8
            · rw [if_pos hi14] at h
              refine va_iald hx hb hK (xV_6 hW 0 1 (by decide) (by decide)) 0 0 rfl rfl hi14 dX0_whose_65 ?_
              cases g15 : fX0_soundsSo σ y2 (σ 0 (146 + 5 * x4.toNatClampNeg + 3)) (σ 0 (146 + 5 * x4.toNatClampNeg + 1)) with
              | none => rw [g15] at h; cases h
              | some r16 =>
                rw [g15, Option.bind_some] at h
                refine x_backi (va_runS (As := [.ref (xq E y2), .int (σ 0 (146 + 5 * x4.toNatClampNeg + 3)), .int (σ 0 (146 + 5 * x4.toNatClampNeg + 1))]) (rest := [.int x3]) F.1 (mX0_soundsSo l E σ y2 hy2 (σ 0 (146 + 5 * x4.toNatClampNeg + 3)) (σ 0 (146 + 5 * x4.toNatClampNeg + 1)) r16 g15) (va_cwS 3 hts (lw_S q880 q881 q99 q882) rfl rfl rfl (by decide +kernel) ⟨Nat.le_of_ble_eq_true rfl, Nat.le_of_ble_eq_true rfl⟩) ⟨xPc.blind, F.pre hW hS [.ref (xq E y2), .int (σ 0 (146 + 5 * x4.toNatClampNeg + 3)), .int (σ 0 (146 + 5 * x4.toNatClampNeg + 1))]⟩ rfl rfl hl.1 rfl (lv_room (Nat.le_of_ble_eq_true rfl)) dX0_whose_66 ⟨Nat.le_refl _, Nat.le_refl _⟩) hS (fun H locs hW hS => ?_)
                refine lv_if_eq (tgt := 79) hx hb dX0_whose_69 (by decide) (fun c17 => ?_) (fun c17 => ?_)
                · rw [if_pos c17] at h
                  refine lv_iconst (v := 0) hx hb dX0_whose_79 (by decide) ?_
                  refine lv_ior hx hb dX0_whose_80 ?_
                  refine lv_istore_n (lv' := [(3, .int (x3 ||| 0)), (4, .int x4), (2, .ref (xq E y2)), (0, .ref (xa E 0)), (1, .int b1)]) hx hb dX0_whose_81 rfl hl (by decide) rfl (fun ls hl => ?_)
                  refine lv_iinc (k := 1) (v := (x4 + 1)) (lv' := [(4, .int (x4 + 1)), (3, .int (x3 ||| 0)), (2, .ref (xq E y2)), (0, .ref (xa E 0)), (1, .int b1)]) hx hb dX0_whose_82 hl rfl rfl (by decide) rfl (fun ls hl => ?_)
                  refine lv_goto (tgt := 16) hx hb dX0_whose_85 (by decide) ?_
                  exact ih (x3 ||| 0) (x4 + 1) _ h _ _ _ hW hS (lv_sub hl [0, 1, 2, 3, 4] rfl) kk
                · rw [if_neg c17] at h
                  refine lv_iconst (v := 1) hx hb dX0_whose_72 (by decide) ?_
                  refine lv_iload hx hb dX0_whose_73 (lv_at hl 0 rfl) ?_
                  refine lv_ishl hx hb dX0_whose_75 ?_
                  refine lv_goto (tgt := 80) hx hb dX0_whose_76 (by decide) ?_
                  refine lv_ior hx hb dX0_whose_80 ?_
                  refine lv_istore_n (lv' := [(3, .int (x3 ||| (1 <<< (x4 &&& 31)))), (4, .int x4), (2, .ref (xq E y2)), (0, .ref (xa E 0)), (1, .int b1)]) hx hb dX0_whose_81 rfl hl (by decide) rfl (fun ls hl => ?_)
                  refine lv_iinc (k := 1) (v := (x4 + 1)) (lv' := [(4, .int (x4 + 1)), (3, .int (x3 ||| (1 <<< (x4 &&& 31)))), (2, .ref (xq E y2)), (0, .ref (xa E 0)), (1, .int b1)]) hx hb dX0_whose_82 hl rfl rfl (by decide) rfl (fun ls hl => ?_)
                  refine lv_goto (tgt := 16) hx hb dX0_whose_85 (by decide) ?_
                  exact ih (x3 ||| (1 <<< (x4 &&& 31))) (x4 + 1) _ h _ _ _ hW hS (lv_sub hl [0, 1, 2, 3, 4] rfl) kk
            · rw [if_neg hi14] at h; cases h
          · rw [if_neg hi13] at h; cases h
set_option maxHeartbeats 4000000 in
theorem mX0_whose (l : Launch) (E : xE) (σ : xM) (a1 : Int32) (r : Int32) (σ' : xM) (h : fX0_whose σ a1 = some (r, σ')) : Met l yX0_whose (wsW_ yX0_whose cX0_whose 5 (some .int) [(0, 89, 90, 61)]) ({ frames := 4, cells := 0, slots := 0, locals := 86 } : Room) (xPc E σ [.ref (xa E 0), .int a1]) (xQc E (.returned (some (.int r))) σ') 0 0 (xA E) := by
  refine x_ofW (C := RX0) (n := "whose") (d := "(I)I") (r := (some .int)) (hh := [(0, 89, 90, 61)]) (by decide) (by first | decide | exact Nat.le_of_ble_eq_true rfl) ?_
  intro p e s m below meth c ls F hr hlk htb hW hS hl
  have hl : lv_has ls 5 [(0, .ref (xa E 0)), (1, .int a1)] := hl
  obtain ⟨hx, hb, hml, hown, hts⟩ := id F.1
  have hK := F.2.1.1
  unfold fX0_whose at h
  refine lv_aload_n hx hb dX0_whose_0 rfl (lv_at hl 0 rfl) ?_
  refine lv_iload_n hx hb dX0_whose_1 rfl (lv_at hl 1 rfl) ?_
  rcases g1 : fX0_earsOf σ a1 with _ | ⟨_ | r2, σ3⟩
  · rw [g1] at h; cases h
  · rw [g1, xct_t] at h
    refine x_backTc F (x_runVT (C := RX0) (b := (xa E 0)) (As := [.int a1]) (rest := []) F.1 (mX0_earsOf l E σ a1 none σ3 g1) (cwV 1 hts (lw_V q845 q847 qs23 q99 q848) rfl rfl rfl (by decide +kernel) ⟨Nat.le_of_ble_eq_true rfl, Nat.le_of_ble_eq_true rfl⟩) ⟨xPc.blind, va_recv hK (xO_X hW) (ci := 0) (q0 := 0) rfl rfl, F.pre hW hS (.ref (xa E 0) :: [.int a1])⟩ rfl rfl hl.1 rfl (lv_room (Nat.le_of_ble_eq_true rfl)) dX0_whose_2 ⟨Nat.le_refl _, Nat.le_refl _⟩) hS htb ⟨by decide, by decide⟩ (by decide) (hts _ q131) (fun H1 hW1 => va_recv hK (xO_F hW1) (ci := 1) (q0 := 0) rfl rfl) (fun H locs hW hS => ?_)
    refine lv_astore_n (lv' := [(2, .ref (xa E 1)), (0, .ref (xa E 0)), (1, .int a1)]) hx hb dX0_whose_90 rfl hl (by decide) rfl (fun ls hl => ?_)
    refine lv_aload_n hx hb dX0_whose_91 rfl (lv_at hl 1 rfl) ?_
    refine lv_aload_n hx hb dX0_whose_92 rfl (lv_at hl 0 rfl) ?_
    refine va_getN (D := xD E) (ci := 1) (v := .int (σ3 11 0)) (C := RX1) (T := TX1) (N := 7) hx hb hts in_X1 hown hK (xO_F hW) 0 rfl rfl 6 (by decide) (va_Nw.use rfl (F.2.1.2.1 _ q183 rfl)) (fun _ h9 => h9) rfl dX0_whose_93 ?_
    cases g22 : fX0_finding σ3 (σ3 11 0) with
    | none => rw [g22] at h; cases h
    | some r23 =>
      rw [g22, Option.bind_some] at h
      refine x_backi (va_runV (C := RX0) (b := (xa E 0)) (As := [.int (σ3 11 0)]) (rest := []) F.1 (mX0_finding l E σ3 (σ3 11 0) r23.1 r23.2 g22) (cwV 1 hts (lw_V q469 q471 qs2 q99 q472) rfl rfl rfl (by decide +kernel) ⟨Nat.le_of_ble_eq_true rfl, Nat.le_of_ble_eq_true rfl⟩) ⟨xPc.blind, va_recv hK (xO_X hW) (ci := 0) (q0 := 0) rfl rfl, F.pre hW hS (.ref (xa E 0) :: [.int (σ3 11 0)])⟩ rfl rfl hl.1 rfl (lv_room (Nat.le_of_ble_eq_true rfl)) dX0_whose_96 ⟨Nat.le_refl _, Nat.le_refl _⟩) hS (fun H locs hW hS => ?_)
      obtain ⟨h1, h2⟩ := Prod.mk.inj (Option.some.inj h); subst h1; subst h2
      exact x_iret F hr hlk hW hS dX0_whose_99
  · rw [g1, xct_r] at h
    rcases r2 with _ | j4
    · rw [xro_n] at h
      refine x_backTn (x_runVT (C := RX0) (b := (xa E 0)) (As := [.int a1]) (rest := []) F.1 (mX0_earsOf l E σ a1 (some none) σ3 g1) (cwV 1 hts (lw_V q845 q847 qs23 q99 q848) rfl rfl rfl (by decide +kernel) ⟨Nat.le_of_ble_eq_true rfl, Nat.le_of_ble_eq_true rfl⟩) ⟨xPc.blind, va_recv hK (xO_X hW) (ci := 0) (q0 := 0) rfl rfl, F.pre hW hS (.ref (xa E 0) :: [.int a1])⟩ rfl rfl hl.1 rfl (lv_room (Nat.le_of_ble_eq_true rfl)) dX0_whose_2 ⟨Nat.le_refl _, Nat.le_refl _⟩) hS (fun H locs hW hS => ?_)
      cases h
    · rw [xro_s] at h
      by_cases hj5 : j4 < 4
      · rw [if_pos hj5] at h
        refine x_backTr (x_runVT (C := RX0) (b := (xa E 0)) (As := [.int a1]) (rest := []) F.1 (mX0_earsOf l E σ a1 (some (some j4)) σ3 g1) (cwV 1 hts (lw_V q845 q847 qs23 q99 q848) rfl rfl rfl (by decide +kernel) ⟨Nat.le_of_ble_eq_true rfl, Nat.le_of_ble_eq_true rfl⟩) ⟨xPc.blind, va_recv hK (xO_X hW) (ci := 0) (q0 := 0) rfl rfl, F.pre hW hS (.ref (xa E 0) :: [.int a1])⟩ rfl rfl hl.1 rfl (lv_room (Nat.le_of_ble_eq_true rfl)) dX0_whose_2 ⟨Nat.le_refl _, Nat.le_refl _⟩) hS (fun H locs hW hS => ?_)
        refine lv_astore_n (lv' := [(2, .ref (xq E j4)), (0, .ref (xa E 0)), (1, .int a1)]) hx hb dX0_whose_5 rfl hl (by decide) rfl (fun ls hl => ?_)
        refine lv_aload_n hx hb dX0_whose_6 rfl (lv_at hl 1 rfl) ?_
        refine lv_aload_n hx hb dX0_whose_7 rfl (lv_at hl 0 rfl) ?_
        rcases g6 : fX0_needEars σ3 j4 with _ | ⟨_ | r7, σ8⟩
        · rw [g6] at h; cases h
        · rw [g6, xct_t] at h
          refine x_backTc F (x_runVT (C := RX0) (b := (xa E 0)) (As := [.ref (xq E j4)]) (rest := []) F.1 (mX0_needEars l E σ3 j4 hj5 none σ8 g6) (cwV 1 hts (lw_V q864 q866 qs27 q99 q867) rfl rfl rfl (by decide +kernel) ⟨Nat.le_of_ble_eq_true rfl, Nat.le_of_ble_eq_true rfl⟩) ⟨xPc.blind, va_recv hK (xO_X hW) (ci := 0) (q0 := 0) rfl rfl, F.pre hW hS (.ref (xa E 0) :: [.ref (xq E j4)])⟩ rfl rfl hl.1 rfl (lv_room (Nat.le_of_ble_eq_true rfl)) dX0_whose_8 ⟨Nat.le_refl _, Nat.le_refl _⟩) hS htb ⟨by decide, by decide⟩ (by decide) (hts _ q131) (fun H1 hW1 => va_recv hK (xO_F hW1) (ci := 1) (q0 := 0) rfl rfl) (fun H locs hW hS => ?_)
          refine lv_astore_n (lv' := [(2, .ref (xa E 1)), (0, .ref (xa E 0)), (1, .int a1)]) hx hb dX0_whose_90 rfl hl (by decide) rfl (fun ls hl => ?_)
          refine lv_aload_n hx hb dX0_whose_91 rfl (lv_at hl 1 rfl) ?_
          refine lv_aload_n hx hb dX0_whose_92 rfl (lv_at hl 0 rfl) ?_
          refine va_getN (D := xD E) (ci := 1) (v := .int (σ8 11 0)) (C := RX1) (T := TX1) (N := 7) hx hb hts in_X1 hown hK (xO_F hW) 0 rfl rfl 6 (by decide) (va_Nw.use rfl (F.2.1.2.1 _ q183 rfl)) (fun _ h9 => h9) rfl dX0_whose_93 ?_
          cases g20 : fX0_finding σ8 (σ8 11 0) with
          | none => rw [g20] at h; cases h
          | some r21 =>
            rw [g20, Option.bind_some] at h
            refine x_backi (va_runV (C := RX0) (b := (xa E 0)) (As := [.int (σ8 11 0)]) (rest := []) F.1 (mX0_finding l E σ8 (σ8 11 0) r21.1 r21.2 g20) (cwV 1 hts (lw_V q469 q471 qs2 q99 q472) rfl rfl rfl (by decide +kernel) ⟨Nat.le_of_ble_eq_true rfl, Nat.le_of_ble_eq_true rfl⟩) ⟨xPc.blind, va_recv hK (xO_X hW) (ci := 0) (q0 := 0) rfl rfl, F.pre hW hS (.ref (xa E 0) :: [.int (σ8 11 0)])⟩ rfl rfl hl.1 rfl (lv_room (Nat.le_of_ble_eq_true rfl)) dX0_whose_96 ⟨Nat.le_refl _, Nat.le_refl _⟩) hS (fun H locs hW hS => ?_)
            obtain ⟨h1, h2⟩ := Prod.mk.inj (Option.some.inj h); subst h1; subst h2
            exact x_iret F hr hlk hW hS dX0_whose_99
        · rw [g6, xct_r] at h
          refine x_backTv (x_runVT (C := RX0) (b := (xa E 0)) (As := [.ref (xq E j4)]) (rest := []) F.1 (mX0_needEars l E σ3 j4 hj5 (some r7) σ8 g6) (cwV 1 hts (lw_V q864 q866 qs27 q99 q867) rfl rfl rfl (by decide +kernel) ⟨Nat.le_of_ble_eq_true rfl, Nat.le_of_ble_eq_true rfl⟩) ⟨xPc.blind, va_recv hK (xO_X hW) (ci := 0) (q0 := 0) rfl rfl, F.pre hW hS (.ref (xa E 0) :: [.ref (xq E j4)])⟩ rfl rfl hl.1 rfl (lv_room (Nat.le_of_ble_eq_true rfl)) dX0_whose_8 ⟨Nat.le_refl _, Nat.le_refl _⟩) hS (fun H locs hW hS => ?_)
          refine lv_iconst (v := 0) hx hb dX0_whose_11 (by decide) ?_
          refine lv_istore_n (lv' := [(3, .int 0), (2, .ref (xq E j4)), (0, .ref (xa E 0)), (1, .int a1)]) hx hb dX0_whose_12 rfl hl (by decide) rfl (fun ls hl => ?_)
          refine lv_iconst (v := 0) hx hb dX0_whose_13 (by decide) ?_
          refine lv_istore (lv' := [(4, .int 0), (3, .int 0), (2, .ref (xq E j4)), (0, .ref (xa E 0)), (1, .int a1)]) hx hb dX0_whose_14 hl (by decide) rfl (fun ls hl => ?_)
          cases g18 : gX0_whose_16 σ8 j4 xfu 0 0 with
          | none => rw [g18] at h; cases h
          | some q19 =>
            rw [g18, Option.bind_some] at h
            refine lX0_whose_16 hj5 F xfu 0 0 q19 g18 _ _ _ hW hS (lv_sub hl [0, 1, 2, 3, 4] rfl) (fun H locs ls hW hS hl => ?_)
            refine lv_iload_n hx hb dX0_whose_88 rfl (lv_at hl 1 rfl) ?_
            obtain ⟨h1, h2⟩ := Prod.mk.inj (Option.some.inj h); subst h1; subst h2
            exact x_iret F hr hlk hW hS dX0_whose_89
      · rw [if_neg hj5] at h; cases h
/-! WildBells.widthOf(Ljava/lang/Object;)I -/
def fX0_widthOf (σ : xM) (j0 : Nat) : Option Int32 :=
  if σ 13 j0 = 0 then none else (if xsk (σ 13 j0) = 1 then (some 8) else (if xsk (σ 13 j0) = 2 then (some 16) else (some 32)))
set_option maxHeartbeats 4000000 in
theorem mX0_widthOf (l : Launch) (E : xE) (σ : xM) (j0 : Nat) (hj0 : j0 < 4) (r : Int32) (h : fX0_widthOf σ j0 = some r) : Met l yX0_widthOf (ws_ yX0_widthOf cX0_widthOf 1 (some .int)) ({ frames := 0, cells := 0, slots := 0, locals := 0 } : Room) (xPc E σ [.ref (xq E j0)]) (xQc E (.returned (some (.int r))) σ) 0 0 (xA E) := by
  refine x_of (C := RX0) (n := "widthOf") (d := "(Ljava/lang/Object;)I") (r := (some .int)) (by decide) rfl (by first | decide | exact Nat.le_of_ble_eq_true rfl) ?_
  intro p e s m below meth c ls F hr hlk hW hS hl
  have hl : lv_has ls 1 [(0, .ref (xq E j0))] := hl
  obtain ⟨hx, hb, hml, hown, hts⟩ := id F.1
  have hK := F.2.1.1
  unfold fX0_widthOf at h
  refine lv_aload_n hx hb dX0_widthOf_0 rfl (lv_at hl 0 rfl) ?_
  by_cases hs1 : σ 13 j0 = 0
  · rw [if_pos hs1] at h; cases h
  · rw [if_neg hs1] at h
    refine x_instB F hW j0 hj0 hs1 (hts _ q874) dX0_widthOf_1 (fun hk2 => ?_) (fun hk2 => ?_)
    · rw [if_pos hk2] at h
      refine lv_if_eq (tgt := 12) hx hb dX0_widthOf_4 (by decide) (fun c => absurd c (by decide)) (fun c => ?_)
      refine lv_bipush (v := 8) hx hb dX0_widthOf_7 (by decide) ?_
      refine lv_goto (tgt := 26) hx hb dX0_widthOf_9 (by decide) ?_
      have h := Option.some.inj h; subst h
      exact x_iret F hr hlk hW hS dX0_widthOf_26
    · rw [if_neg hk2] at h
      refine lv_if_eq (tgt := 12) hx hb dX0_widthOf_4 (by decide) (fun c => ?_) (fun c => absurd c (by decide))
      refine lv_aload_n hx hb dX0_widthOf_12 rfl (lv_at hl 0 rfl) ?_
      refine x_instS F hW j0 hj0 hs1 hk2 (hts _ q875) dX0_widthOf_13 (fun hk3 => ?_) (fun hk3 => ?_)
      · rw [if_pos hk3] at h
        refine lv_if_eq (tgt := 24) hx hb dX0_widthOf_16 (by decide) (fun c => absurd c (by decide)) (fun c => ?_)
        refine lv_bipush (v := 16) hx hb dX0_widthOf_19 (by decide) ?_
        refine lv_goto (tgt := 26) hx hb dX0_widthOf_21 (by decide) ?_
        have h := Option.some.inj h; subst h
        exact x_iret F hr hlk hW hS dX0_widthOf_26
      · rw [if_neg hk3] at h
        refine lv_if_eq (tgt := 24) hx hb dX0_widthOf_16 (by decide) (fun c => ?_) (fun c => absurd c (by decide))
        refine lv_bipush (v := 32) hx hb dX0_widthOf_24 (by decide) ?_
        have h := Option.some.inj h; subst h
        exact x_iret F hr hlk hW hS dX0_widthOf_26
/-! WildBells.lay(Ljava/lang/Object;II)V -/
def fX0_lay (σ : xM) (j0 : Nat) (a1 : Int32) (a2 : Int32) : Option xM :=
  if σ 13 j0 = 0 then none else (if xsk (σ 13 j0) = 1 then (if xs40 σ then (if xin a1 (σ 14 j0).toNatClampNeg then (some (xup σ 15 (40 * j0 + a1.toNatClampNeg) ((((a2 : Int32).toInt8.toInt32) : Int32).toInt8.toInt32))) else none) else none) else (if xsk (σ 13 j0) = 2 then (if xs40 σ then (if xin a1 (σ 14 j0).toNatClampNeg then (some (xup σ 15 (40 * j0 + a1.toNatClampNeg) ((((a2 : Int32).toInt16.toInt32) : Int32).toInt16.toInt32))) else none) else none) else (if xs40 σ then (if xin a1 (σ 14 j0).toNatClampNeg then (some (xup σ 15 (40 * j0 + a1.toNatClampNeg) a2)) else none) else none)))
set_option maxHeartbeats 4000000 in
theorem mX0_lay (l : Launch) (E : xE) (σ : xM) (j0 : Nat) (hj0 : j0 < 4) (a1 : Int32) (a2 : Int32) (σ' : xM) (h : fX0_lay σ j0 a1 a2 = some σ') : Met l yX0_lay (ws_ yX0_lay cX0_lay 3 none) ({ frames := 0, cells := 0, slots := 0, locals := 0 } : Room) (xPc E σ [.ref (xq E j0), .int a1, .int a2]) (xQc E (.returned none) σ') 0 0 (xA E) := by
  refine x_of (C := RX0) (n := "lay") (d := "(Ljava/lang/Object;II)V") (r := none) (by decide) rfl (by first | decide | exact Nat.le_of_ble_eq_true rfl) ?_
  intro p e s m below meth c ls F hr hlk hW hS hl
  have hl : lv_has ls 3 [(0, .ref (xq E j0)), (1, .int a1), (2, .int a2)] := hl
  obtain ⟨hx, hb, hml, hown, hts⟩ := id F.1
  have hK := F.2.1.1
  unfold fX0_lay at h
  refine lv_aload_n hx hb dX0_lay_0 rfl (lv_at hl 0 rfl) ?_
  by_cases hs1 : σ 13 j0 = 0
  · rw [if_pos hs1] at h; cases h
  · rw [if_neg hs1] at h
    refine x_instB F hW j0 hj0 hs1 (hts _ q874) dX0_lay_1 (fun hk2 => ?_) (fun hk2 => ?_)
    · rw [if_pos hk2] at h
      refine lv_if_eq (tgt := 18) hx hb dX0_lay_4 (by decide) (fun c => absurd c (by decide)) (fun c => ?_)
      refine lv_aload_n hx hb dX0_lay_7 rfl (lv_at hl 0 rfl) ?_
      refine va_castE hx hb hown (hts _ q874) (x_rcv hW j0 hj0 hs1 1 hk2 (x_fc F).1) dX0_lay_8 ?_
      refine lv_iload_n hx hb dX0_lay_11 rfl (lv_at hl 1 rfl) ?_
      refine lv_iload_n hx hb dX0_lay_12 rfl (lv_at hl 2 rfl) ?_
      refine lv_i2b (v := (a2 : Int32).toInt8.toInt32) hx hb dX0_lay_13 rfl ?_
      by_cases hs3 : xs40 σ
      · rw [if_pos hs3] at h
        by_cases hs4 : xin a1 (σ 14 j0).toNatClampNeg
        · rw [if_pos hs4] at h
          refine x_rbast F hW hS j0 hj0 hs1 hs3 hk2 hs4 dX0_lay_14 (fun H locs hW hS => ?_)
          refine lv_goto (tgt := 43) hx hb dX0_lay_15 (by decide) ?_
          have h := Option.some.inj h; subst h
          exact x_vret F hr hlk hW hS dX0_lay_43
        · rw [if_neg hs4] at h; cases h
      · rw [if_neg hs3] at h; cases h
    · rw [if_neg hk2] at h
      refine lv_if_eq (tgt := 18) hx hb dX0_lay_4 (by decide) (fun c => ?_) (fun c => absurd c (by decide))
      refine lv_aload_n hx hb dX0_lay_18 rfl (lv_at hl 0 rfl) ?_
      refine x_instS F hW j0 hj0 hs1 hk2 (hts _ q875) dX0_lay_19 (fun hk5 => ?_) (fun hk5 => ?_)
      · rw [if_pos hk5] at h
        refine lv_if_eq (tgt := 36) hx hb dX0_lay_22 (by decide) (fun c => absurd c (by decide)) (fun c => ?_)
        refine lv_aload_n hx hb dX0_lay_25 rfl (lv_at hl 0 rfl) ?_
        refine va_castE hx hb hown (hts _ q875) (x_rcv hW j0 hj0 hs1 2 hk5 (x_fc F).2.1) dX0_lay_26 ?_
        refine lv_iload_n hx hb dX0_lay_29 rfl (lv_at hl 1 rfl) ?_
        refine lv_iload_n hx hb dX0_lay_30 rfl (lv_at hl 2 rfl) ?_
        refine lv_i2s (v := (a2 : Int32).toInt16.toInt32) hx hb dX0_lay_31 rfl ?_
        by_cases hs6 : xs40 σ
        · rw [if_pos hs6] at h
          by_cases hs7 : xin a1 (σ 14 j0).toNatClampNeg
          · rw [if_pos hs7] at h
            refine x_rsast F hW hS j0 hj0 hs1 hs6 hk5 hs7 dX0_lay_32 (fun H locs hW hS => ?_)
            refine lv_goto (tgt := 43) hx hb dX0_lay_33 (by decide) ?_
            have h := Option.some.inj h; subst h
            exact x_vret F hr hlk hW hS dX0_lay_43
          · rw [if_neg hs7] at h; cases h
        · rw [if_neg hs6] at h; cases h
      · rw [if_neg hk5] at h
        refine lv_if_eq (tgt := 36) hx hb dX0_lay_22 (by decide) (fun c => ?_) (fun c => absurd c (by decide))
        refine lv_aload_n hx hb dX0_lay_36 rfl (lv_at hl 0 rfl) ?_
        refine va_castE hx hb hown (hts _ q876) (x_rcv hW j0 hj0 hs1 0 (x_k0 hk2 hk5) (x_fc F).2.2) dX0_lay_37 ?_
        refine lv_iload_n hx hb dX0_lay_40 rfl (lv_at hl 1 rfl) ?_
        refine lv_iload_n hx hb dX0_lay_41 rfl (lv_at hl 2 rfl) ?_
        by_cases hs8 : xs40 σ
        · rw [if_pos hs8] at h
          by_cases hs9 : xin a1 (σ 14 j0).toNatClampNeg
          · rw [if_pos hs9] at h
            refine x_riast F hW hS j0 hj0 hs1 hs8 (x_k0 hk2 hk5) hs9 dX0_lay_42 (fun H locs hW hS => ?_)
            have h := Option.some.inj h; subst h
            exact x_vret F hr hlk hW hS dX0_lay_43
          · rw [if_neg hs9] at h; cases h
        · rw [if_neg hs8] at h; cases h
/-! WildBells.write(III)I -/
def fX0_write (σ : xM) (a1 : Int32) (a2 : Int32) (a3 : Int32) : Option (Int32 × xM) :=
  xct (fX0_rowAt σ a1) (fun r2 σ3 => xro r2 (xct (fX0_need σ3 0 5) (fun r5 σ6 => none) (fun σ6 => (fX0_finding σ6 (σ6 11 0)).bind (fun r8 => some (r8.1, r8.2)))) (fun j9 => if j9 < 4 then (xct (fX0_need σ3 1 5) (fun r12 σ13 => (fX0_length σ13 j9).bind (fun r15 => xct (fX0_need σ13 (fX0_in a2 0 (r15 - 1)) 0) (fun r17 σ18 => (fX0_lay σ18 j9 a2 a3).bind (fun r20 => some (1, r20))) (fun σ18 => (fX0_finding σ18 (σ18 11 0)).bind (fun r22 => some (r22.1, r22.2))))) (fun σ13 => (fX0_finding σ13 (σ13 11 0)).bind (fun r24 => some (r24.1, r24.2)))) else none)) (fun σ3 => (fX0_finding σ3 (σ3 11 0)).bind (fun r26 => some (r26.1, r26.2)))
set_option maxHeartbeats 4000000 in
theorem mX0_write (l : Launch) (E : xE) (σ : xM) (a1 : Int32) (a2 : Int32) (a3 : Int32) (r : Int32) (σ' : xM) (h : fX0_write σ a1 a2 a3 = some (r, σ')) : Met l yX0_write (wsW_ yX0_write cX0_write 5 (some .int) [(0, 47, 48, 61)]) ({ frames := 3, cells := 0, slots := 0, locals := 64 } : Room) (xPc E σ [.ref (xa E 0), .int a1, .int a2, .int a3]) (xQc E (.returned (some (.int r))) σ') 0 0 (xA E) := by
  refine x_ofW (C := RX0) (n := "write") (d := "(III)I") (r := (some .int)) (hh := [(0, 47, 48, 61)]) (by decide) (by first | decide | exact Nat.le_of_ble_eq_true rfl) ?_
  intro p e s m below meth c ls F hr hlk htb hW hS hl
  have hl : lv_has ls 5 [(0, .ref (xa E 0)), (1, .int a1), (2, .int a2), (3, .int a3)] := hl
  obtain ⟨hx, hb, hml, hown, hts⟩ := id F.1
  have hK := F.2.1.1
  unfold fX0_write at h
  refine lv_aload_n hx hb dX0_write_0 rfl (lv_at hl 0 rfl) ?_
  refine lv_iload_n hx hb dX0_write_1 rfl (lv_at hl 1 rfl) ?_
  rcases g1 : fX0_rowAt σ a1 with _ | ⟨_ | r2, σ3⟩
  · rw [g1] at h; cases h
  · rw [g1, xct_t] at h
    refine x_backTc F (x_runVT (C := RX0) (b := (xa E 0)) (As := [.int a1]) (rest := []) F.1 (mX0_rowAt l E σ a1 none σ3 g1) (cwV 1 hts (lw_V q849 q851 qs24 q99 q852) rfl rfl rfl (by decide +kernel) ⟨Nat.le_of_ble_eq_true rfl, Nat.le_of_ble_eq_true rfl⟩) ⟨xPc.blind, va_recv hK (xO_X hW) (ci := 0) (q0 := 0) rfl rfl, F.pre hW hS (.ref (xa E 0) :: [.int a1])⟩ rfl rfl hl.1 rfl (lv_room (Nat.le_of_ble_eq_true rfl)) dX0_write_2 ⟨Nat.le_refl _, Nat.le_refl _⟩) hS htb ⟨by decide, by decide⟩ (by decide) (hts _ q131) (fun H1 hW1 => va_recv hK (xO_F hW1) (ci := 1) (q0 := 0) rfl rfl) (fun H locs hW hS => ?_)
    refine lv_astore (lv' := [(4, .ref (xa E 1)), (0, .ref (xa E 0)), (1, .int a1), (2, .int a2), (3, .int a3)]) hx hb dX0_write_48 hl (by decide) rfl (fun ls hl => ?_)
    refine lv_aload_n hx hb dX0_write_50 rfl (lv_at hl 1 rfl) ?_
    refine lv_aload hx hb dX0_write_51 (lv_at hl 0 rfl) ?_
    refine va_getN (D := xD E) (ci := 1) (v := .int (σ3 11 0)) (C := RX1) (T := TX1) (N := 7) hx hb hts in_X1 hown hK (xO_F hW) 0 rfl rfl 6 (by decide) (va_Nw.use rfl (F.2.1.2.1 _ q183 rfl)) (fun _ h9 => h9) rfl dX0_write_53 ?_
    cases g25 : fX0_finding σ3 (σ3 11 0) with
    | none => rw [g25] at h; cases h
    | some r26 =>
      rw [g25, Option.bind_some] at h
      refine x_backi (va_runV (C := RX0) (b := (xa E 0)) (As := [.int (σ3 11 0)]) (rest := []) F.1 (mX0_finding l E σ3 (σ3 11 0) r26.1 r26.2 g25) (cwV 1 hts (lw_V q469 q471 qs2 q99 q472) rfl rfl rfl (by decide +kernel) ⟨Nat.le_of_ble_eq_true rfl, Nat.le_of_ble_eq_true rfl⟩) ⟨xPc.blind, va_recv hK (xO_X hW) (ci := 0) (q0 := 0) rfl rfl, F.pre hW hS (.ref (xa E 0) :: [.int (σ3 11 0)])⟩ rfl rfl hl.1 rfl (lv_room (Nat.le_of_ble_eq_true rfl)) dX0_write_56 ⟨Nat.le_refl _, Nat.le_refl _⟩) hS (fun H locs hW hS => ?_)
      obtain ⟨h1, h2⟩ := Prod.mk.inj (Option.some.inj h); subst h1; subst h2
      exact x_iret F hr hlk hW hS dX0_write_59
  · rw [g1, xct_r] at h
    rcases r2 with _ | j9
    · rw [xro_n] at h
      refine x_backTn (x_runVT (C := RX0) (b := (xa E 0)) (As := [.int a1]) (rest := []) F.1 (mX0_rowAt l E σ a1 (some none) σ3 g1) (cwV 1 hts (lw_V q849 q851 qs24 q99 q852) rfl rfl rfl (by decide +kernel) ⟨Nat.le_of_ble_eq_true rfl, Nat.le_of_ble_eq_true rfl⟩) ⟨xPc.blind, va_recv hK (xO_X hW) (ci := 0) (q0 := 0) rfl rfl, F.pre hW hS (.ref (xa E 0) :: [.int a1])⟩ rfl rfl hl.1 rfl (lv_room (Nat.le_of_ble_eq_true rfl)) dX0_write_2 ⟨Nat.le_refl _, Nat.le_refl _⟩) hS (fun H locs hW hS => ?_)
      refine lv_astoreN (lv' := [(4, .null), (0, .ref (xa E 0)), (1, .int a1), (2, .int a2), (3, .int a3)]) hx hb dX0_write_5 hl (by decide) rfl (fun ls hl => ?_)
      refine lv_aload_n hx hb dX0_write_7 rfl (lv_at hl 1 rfl) ?_
      refine lv_aloadN hx hb dX0_write_8 (lv_at hl 0 rfl) ?_
      refine lv_ifnullN (tgt := 17) hx hb dX0_write_10 (by decide) ?_
      refine lv_iconst (v := 0) hx hb dX0_write_17 (by decide) ?_
      refine lv_iconst (v := 5) hx hb dX0_write_18 (by decide) ?_
      rcases g4 : fX0_need σ3 0 5 with _ | ⟨_ | r5, σ6⟩
      · rw [g4] at h; cases h
      · rw [g4, xct_t] at h
        refine x_backTc F (x_runVT (C := RX0) (b := (xa E 0)) (As := [.int 0, .int 5]) (rest := []) F.1 (mX0_need l E σ3 0 5 none σ6 g4) (cwV 2 hts (lw_V q856 q858 qs25 q99 q859) rfl rfl rfl (by decide +kernel) ⟨Nat.le_of_ble_eq_true rfl, Nat.le_of_ble_eq_true rfl⟩) ⟨xPc.blind, va_recv hK (xO_X hW) (ci := 0) (q0 := 0) rfl rfl, F.pre hW hS (.ref (xa E 0) :: [.int 0, .int 5])⟩ rfl rfl hl.1 rfl (lv_room (Nat.le_of_ble_eq_true rfl)) dX0_write_19 ⟨Nat.le_refl _, Nat.le_refl _⟩) hS htb ⟨by decide, by decide⟩ (by decide) (hts _ q131) (fun H1 hW1 => va_recv hK (xO_F hW1) (ci := 1) (q0 := 0) rfl rfl) (fun H locs hW hS => ?_)
        refine lv_astore (lv' := [(4, .ref (xa E 1)), (0, .ref (xa E 0)), (1, .int a1), (2, .int a2), (3, .int a3)]) hx hb dX0_write_48 hl (by decide) rfl (fun ls hl => ?_)
        refine lv_aload_n hx hb dX0_write_50 rfl (lv_at hl 1 rfl) ?_
        refine lv_aload hx hb dX0_write_51 (lv_at hl 0 rfl) ?_
        refine va_getN (D := xD E) (ci := 1) (v := .int (σ6 11 0)) (C := RX1) (T := TX1) (N := 7) hx hb hts in_X1 hown hK (xO_F hW) 0 rfl rfl 6 (by decide) (va_Nw.use rfl (F.2.1.2.1 _ q183 rfl)) (fun _ h9 => h9) rfl dX0_write_53 ?_
        cases g7 : fX0_finding σ6 (σ6 11 0) with
        | none => rw [g7] at h; cases h
        | some r8 =>
          rw [g7, Option.bind_some] at h
          refine x_backi (va_runV (C := RX0) (b := (xa E 0)) (As := [.int (σ6 11 0)]) (rest := []) F.1 (mX0_finding l E σ6 (σ6 11 0) r8.1 r8.2 g7) (cwV 1 hts (lw_V q469 q471 qs2 q99 q472) rfl rfl rfl (by decide +kernel) ⟨Nat.le_of_ble_eq_true rfl, Nat.le_of_ble_eq_true rfl⟩) ⟨xPc.blind, va_recv hK (xO_X hW) (ci := 0) (q0 := 0) rfl rfl, F.pre hW hS (.ref (xa E 0) :: [.int (σ6 11 0)])⟩ rfl rfl hl.1 rfl (lv_room (Nat.le_of_ble_eq_true rfl)) dX0_write_56 ⟨Nat.le_refl _, Nat.le_refl _⟩) hS (fun H locs hW hS => ?_)
          obtain ⟨h1, h2⟩ := Prod.mk.inj (Option.some.inj h); subst h1; subst h2
          exact x_iret F hr hlk hW hS dX0_write_59
      · rw [g4, xct_r] at h
        refine x_backTv (x_runVT (C := RX0) (b := (xa E 0)) (As := [.int 0, .int 5]) (rest := []) F.1 (mX0_need l E σ3 0 5 (some r5) σ6 g4) (cwV 2 hts (lw_V q856 q858 qs25 q99 q859) rfl rfl rfl (by decide +kernel) ⟨Nat.le_of_ble_eq_true rfl, Nat.le_of_ble_eq_true rfl⟩) ⟨xPc.blind, va_recv hK (xO_X hW) (ci := 0) (q0 := 0) rfl rfl, F.pre hW hS (.ref (xa E 0) :: [.int 0, .int 5])⟩ rfl rfl hl.1 rfl (lv_room (Nat.le_of_ble_eq_true rfl)) dX0_write_19 ⟨Nat.le_refl _, Nat.le_refl _⟩) hS (fun H locs hW hS => ?_)
        cases h
    · rw [xro_s] at h
      by_cases hj10 : j9 < 4
      · rw [if_pos hj10] at h
        refine x_backTr (x_runVT (C := RX0) (b := (xa E 0)) (As := [.int a1]) (rest := []) F.1 (mX0_rowAt l E σ a1 (some (some j9)) σ3 g1) (cwV 1 hts (lw_V q849 q851 qs24 q99 q852) rfl rfl rfl (by decide +kernel) ⟨Nat.le_of_ble_eq_true rfl, Nat.le_of_ble_eq_true rfl⟩) ⟨xPc.blind, va_recv hK (xO_X hW) (ci := 0) (q0 := 0) rfl rfl, F.pre hW hS (.ref (xa E 0) :: [.int a1])⟩ rfl rfl hl.1 rfl (lv_room (Nat.le_of_ble_eq_true rfl)) dX0_write_2 ⟨Nat.le_refl _, Nat.le_refl _⟩) hS (fun H locs hW hS => ?_)
        refine lv_astore (lv' := [(4, .ref (xq E j9)), (0, .ref (xa E 0)), (1, .int a1), (2, .int a2), (3, .int a3)]) hx hb dX0_write_5 hl (by decide) rfl (fun ls hl => ?_)
        refine lv_aload_n hx hb dX0_write_7 rfl (lv_at hl 1 rfl) ?_
        refine lv_aload hx hb dX0_write_8 (lv_at hl 0 rfl) ?_
        refine lv_ifnull hx hb dX0_write_10 ?_
        refine lv_iconst (v := 1) hx hb dX0_write_13 (by decide) ?_
        refine lv_goto (tgt := 18) hx hb dX0_write_14 (by decide) ?_
        refine lv_iconst (v := 5) hx hb dX0_write_18 (by decide) ?_
        rcases g11 : fX0_need σ3 1 5 with _ | ⟨_ | r12, σ13⟩
        · rw [g11] at h; cases h
        · rw [g11, xct_t] at h
          refine x_backTc F (x_runVT (C := RX0) (b := (xa E 0)) (As := [.int 1, .int 5]) (rest := []) F.1 (mX0_need l E σ3 1 5 none σ13 g11) (cwV 2 hts (lw_V q856 q858 qs25 q99 q859) rfl rfl rfl (by decide +kernel) ⟨Nat.le_of_ble_eq_true rfl, Nat.le_of_ble_eq_true rfl⟩) ⟨xPc.blind, va_recv hK (xO_X hW) (ci := 0) (q0 := 0) rfl rfl, F.pre hW hS (.ref (xa E 0) :: [.int 1, .int 5])⟩ rfl rfl hl.1 rfl (lv_room (Nat.le_of_ble_eq_true rfl)) dX0_write_19 ⟨Nat.le_refl _, Nat.le_refl _⟩) hS htb ⟨by decide, by decide⟩ (by decide) (hts _ q131) (fun H1 hW1 => va_recv hK (xO_F hW1) (ci := 1) (q0 := 0) rfl rfl) (fun H locs hW hS => ?_)
          refine lv_astore (lv' := [(4, .ref (xa E 1)), (0, .ref (xa E 0)), (1, .int a1), (2, .int a2), (3, .int a3)]) hx hb dX0_write_48 hl (by decide) rfl (fun ls hl => ?_)
          refine lv_aload_n hx hb dX0_write_50 rfl (lv_at hl 1 rfl) ?_
          refine lv_aload hx hb dX0_write_51 (lv_at hl 0 rfl) ?_
          refine va_getN (D := xD E) (ci := 1) (v := .int (σ13 11 0)) (C := RX1) (T := TX1) (N := 7) hx hb hts in_X1 hown hK (xO_F hW) 0 rfl rfl 6 (by decide) (va_Nw.use rfl (F.2.1.2.1 _ q183 rfl)) (fun _ h9 => h9) rfl dX0_write_53 ?_
          cases g23 : fX0_finding σ13 (σ13 11 0) with
          | none => rw [g23] at h; cases h
          | some r24 =>
            rw [g23, Option.bind_some] at h
            refine x_backi (va_runV (C := RX0) (b := (xa E 0)) (As := [.int (σ13 11 0)]) (rest := []) F.1 (mX0_finding l E σ13 (σ13 11 0) r24.1 r24.2 g23) (cwV 1 hts (lw_V q469 q471 qs2 q99 q472) rfl rfl rfl (by decide +kernel) ⟨Nat.le_of_ble_eq_true rfl, Nat.le_of_ble_eq_true rfl⟩) ⟨xPc.blind, va_recv hK (xO_X hW) (ci := 0) (q0 := 0) rfl rfl, F.pre hW hS (.ref (xa E 0) :: [.int (σ13 11 0)])⟩ rfl rfl hl.1 rfl (lv_room (Nat.le_of_ble_eq_true rfl)) dX0_write_56 ⟨Nat.le_refl _, Nat.le_refl _⟩) hS (fun H locs hW hS => ?_)
            obtain ⟨h1, h2⟩ := Prod.mk.inj (Option.some.inj h); subst h1; subst h2
            exact x_iret F hr hlk hW hS dX0_write_59
        · rw [g11, xct_r] at h
          refine x_backTv (x_runVT (C := RX0) (b := (xa E 0)) (As := [.int 1, .int 5]) (rest := []) F.1 (mX0_need l E σ3 1 5 (some r12) σ13 g11) (cwV 2 hts (lw_V q856 q858 qs25 q99 q859) rfl rfl rfl (by decide +kernel) ⟨Nat.le_of_ble_eq_true rfl, Nat.le_of_ble_eq_true rfl⟩) ⟨xPc.blind, va_recv hK (xO_X hW) (ci := 0) (q0 := 0) rfl rfl, F.pre hW hS (.ref (xa E 0) :: [.int 1, .int 5])⟩ rfl rfl hl.1 rfl (lv_room (Nat.le_of_ble_eq_true rfl)) dX0_write_19 ⟨Nat.le_refl _, Nat.le_refl _⟩) hS (fun H locs hW hS => ?_)
          refine lv_aload_n hx hb dX0_write_22 rfl (lv_at hl 1 rfl) ?_
          refine lv_iload_n hx hb dX0_write_23 rfl (lv_at hl 3 rfl) ?_
          refine lv_iconst (v := 0) hx hb dX0_write_24 (by decide) ?_
          refine lv_aload hx hb dX0_write_25 (lv_at hl 0 rfl) ?_
          cases g14 : fX0_length σ13 j9 with
          | none => rw [g14] at h; cases h
          | some r15 =>
            rw [g14, Option.bind_some] at h
            refine x_backi (va_runS (As := [.ref (xq E j9)]) (rest := [.int 0, .int a2, .ref (xa E 0)]) F.1 (mX0_length l E σ13 j9 hj10 r15 g14) (va_cwS 1 hts (lw_S q871 q872 q99 q873) rfl rfl rfl (by decide +kernel) ⟨Nat.le_of_ble_eq_true rfl, Nat.le_of_ble_eq_true rfl⟩) ⟨xPc.blind, F.pre hW hS [.ref (xq E j9)]⟩ rfl rfl hl.1 rfl (lv_room (Nat.le_of_ble_eq_true rfl)) dX0_write_27 ⟨Nat.le_refl _, Nat.le_refl _⟩) hS (fun H locs hW hS => ?_)
            refine lv_iconst (v := 1) hx hb dX0_write_30 (by decide) ?_
            refine lv_isub hx hb dX0_write_31 ?_
            refine x_backi (va_runS (As := [.int a2, .int 0, .int (r15 - 1)]) (rest := [.ref (xa E 0)]) F.1 (mX0_in l E σ13 a2 0 (r15 - 1)) (va_cwS 3 hts (lw_S q466 q467 q99 q468) rfl rfl rfl (by decide +kernel) ⟨Nat.le_of_ble_eq_true rfl, Nat.le_of_ble_eq_true rfl⟩) ⟨xPc.blind, F.pre hW hS [.int a2, .int 0, .int (r15 - 1)]⟩ rfl rfl hl.1 rfl (lv_room (Nat.le_of_ble_eq_true rfl)) dX0_write_32 ⟨Nat.le_refl _, Nat.le_refl _⟩) hS (fun H locs hW hS => ?_)
            refine lv_iconst (v := 0) hx hb dX0_write_35 (by decide) ?_
            rcases g16 : fX0_need σ13 (fX0_in a2 0 (r15 - 1)) 0 with _ | ⟨_ | r17, σ18⟩
            · rw [g16] at h; cases h
            · rw [g16, xct_t] at h
              refine x_backTc F (x_runVT (C := RX0) (b := (xa E 0)) (As := [.int (fX0_in a2 0 (r15 - 1)), .int 0]) (rest := []) F.1 (mX0_need l E σ13 (fX0_in a2 0 (r15 - 1)) 0 none σ18 g16) (cwV 2 hts (lw_V q856 q858 qs25 q99 q859) rfl rfl rfl (by decide +kernel) ⟨Nat.le_of_ble_eq_true rfl, Nat.le_of_ble_eq_true rfl⟩) ⟨xPc.blind, va_recv hK (xO_X hW) (ci := 0) (q0 := 0) rfl rfl, F.pre hW hS (.ref (xa E 0) :: [.int (fX0_in a2 0 (r15 - 1)), .int 0])⟩ rfl rfl hl.1 rfl (lv_room (Nat.le_of_ble_eq_true rfl)) dX0_write_36 ⟨Nat.le_refl _, Nat.le_refl _⟩) hS htb ⟨by decide, by decide⟩ (by decide) (hts _ q131) (fun H1 hW1 => va_recv hK (xO_F hW1) (ci := 1) (q0 := 0) rfl rfl) (fun H locs hW hS => ?_)
              refine lv_astore (lv' := [(4, .ref (xa E 1)), (0, .ref (xa E 0)), (1, .int a1), (2, .int a2), (3, .int a3)]) hx hb dX0_write_48 hl (by decide) rfl (fun ls hl => ?_)
              refine lv_aload_n hx hb dX0_write_50 rfl (lv_at hl 1 rfl) ?_
              refine lv_aload hx hb dX0_write_51 (lv_at hl 0 rfl) ?_
              refine va_getN (D := xD E) (ci := 1) (v := .int (σ18 11 0)) (C := RX1) (T := TX1) (N := 7) hx hb hts in_X1 hown hK (xO_F hW) 0 rfl rfl 6 (by decide) (va_Nw.use rfl (F.2.1.2.1 _ q183 rfl)) (fun _ h9 => h9) rfl dX0_write_53 ?_
              cases g21 : fX0_finding σ18 (σ18 11 0) with
              | none => rw [g21] at h; cases h
              | some r22 =>
                rw [g21, Option.bind_some] at h
                refine x_backi (va_runV (C := RX0) (b := (xa E 0)) (As := [.int (σ18 11 0)]) (rest := []) F.1 (mX0_finding l E σ18 (σ18 11 0) r22.1 r22.2 g21) (cwV 1 hts (lw_V q469 q471 qs2 q99 q472) rfl rfl rfl (by decide +kernel) ⟨Nat.le_of_ble_eq_true rfl, Nat.le_of_ble_eq_true rfl⟩) ⟨xPc.blind, va_recv hK (xO_X hW) (ci := 0) (q0 := 0) rfl rfl, F.pre hW hS (.ref (xa E 0) :: [.int (σ18 11 0)])⟩ rfl rfl hl.1 rfl (lv_room (Nat.le_of_ble_eq_true rfl)) dX0_write_56 ⟨Nat.le_refl _, Nat.le_refl _⟩) hS (fun H locs hW hS => ?_)
                obtain ⟨h1, h2⟩ := Prod.mk.inj (Option.some.inj h); subst h1; subst h2
                exact x_iret F hr hlk hW hS dX0_write_59
            · rw [g16, xct_r] at h
              refine x_backTv (x_runVT (C := RX0) (b := (xa E 0)) (As := [.int (fX0_in a2 0 (r15 - 1)), .int 0]) (rest := []) F.1 (mX0_need l E σ13 (fX0_in a2 0 (r15 - 1)) 0 (some r17) σ18 g16) (cwV 2 hts (lw_V q856 q858 qs25 q99 q859) rfl rfl rfl (by decide +kernel) ⟨Nat.le_of_ble_eq_true rfl, Nat.le_of_ble_eq_true rfl⟩) ⟨xPc.blind, va_recv hK (xO_X hW) (ci := 0) (q0 := 0) rfl rfl, F.pre hW hS (.ref (xa E 0) :: [.int (fX0_in a2 0 (r15 - 1)), .int 0])⟩ rfl rfl hl.1 rfl (lv_room (Nat.le_of_ble_eq_true rfl)) dX0_write_36 ⟨Nat.le_refl _, Nat.le_refl _⟩) hS (fun H locs hW hS => ?_)
              refine lv_aload hx hb dX0_write_39 (lv_at hl 0 rfl) ?_
              refine lv_iload_n hx hb dX0_write_41 rfl (lv_at hl 3 rfl) ?_
              refine lv_iload_n hx hb dX0_write_42 rfl (lv_at hl 4 rfl) ?_
              cases g19 : fX0_lay σ18 j9 a2 a3 with
              | none => rw [g19] at h; cases h
              | some r20 =>
                rw [g19, Option.bind_some] at h
                refine x_backv (va_runS (As := [.ref (xq E j9), .int a2, .int a3]) (rest := []) F.1 (mX0_lay l E σ18 j9 hj10 a2 a3 r20 g19) (va_cwS 3 hts (lw_S q1127 q1128 q99 q1129) rfl rfl rfl (by decide +kernel) ⟨Nat.le_of_ble_eq_true rfl, Nat.le_of_ble_eq_true rfl⟩) ⟨xPc.blind, F.pre hW hS [.ref (xq E j9), .int a2, .int a3]⟩ rfl rfl hl.1 rfl (lv_room (Nat.le_of_ble_eq_true rfl)) dX0_write_43 ⟨Nat.le_refl _, Nat.le_refl _⟩) hS (fun H locs hW hS => ?_)
                refine lv_iconst (v := 1) hx hb dX0_write_46 (by decide) ?_
                obtain ⟨h1, h2⟩ := Prod.mk.inj (Option.some.inj h); subst h1; subst h2
                exact x_iret F hr hlk hW hS dX0_write_47
      · rw [if_neg hj10] at h; cases h
/-! WildBells.slide(Ljava/lang/Object;ILjava/lang/Object;II)V -/
def fX0_slide (σ : xM) (j0 : Nat) (a1 : Int32) (j2 : Nat) (a3 : Int32) (a4 : Int32) : Option xM :=
  if σ 13 j0 = 0 then none else (if xsk (σ 13 j0) = 1 then (if σ 13 j2 = 0 then none else (if xsk (σ 13 j2) = 1 then (if xcok σ j0 j2 a1 a3 a4 .byte then (some (xcs σ j0 a1.toNatClampNeg j2 a3.toNatClampNeg a4.toNatClampNeg)) else none) else none)) else (if xsk (σ 13 j0) = 2 then (if σ 13 j2 = 0 then none else (if xsk (σ 13 j2) = 2 then (if xcok σ j0 j2 a1 a3 a4 .short then (some (xcs σ j0 a1.toNatClampNeg j2 a3.toNatClampNeg a4.toNatClampNeg)) else none) else none)) else (if σ 13 j2 = 0 then none else (if xsk (σ 13 j2) = 0 then (if xcok σ j0 j2 a1 a3 a4 .int then (some (xcs σ j0 a1.toNatClampNeg j2 a3.toNatClampNeg a4.toNatClampNeg)) else none) else none))))
set_option maxHeartbeats 4000000 in
theorem mX0_slide (l : Launch) (E : xE) (σ : xM) (j0 : Nat) (hj0 : j0 < 4) (a1 : Int32) (j2 : Nat) (hj2 : j2 < 4) (a3 : Int32) (a4 : Int32) (σ' : xM) (h : fX0_slide σ j0 a1 j2 a3 a4 = some σ') : Met l yX0_slide (ws_ yX0_slide cX0_slide 5 none) ({ frames := 1, cells := 0, slots := 0, locals := 40 } : Room) (xPc E σ [.ref (xq E j0), .int a1, .ref (xq E j2), .int a3, .int a4]) (xQc E (.returned none) σ') 0 0 (xA E) := by
  refine x_of (C := RX0) (n := "slide") (d := "(Ljava/lang/Object;ILjava/lang/Object;II)V") (r := none) (by decide) rfl (by first | decide | exact Nat.le_of_ble_eq_true rfl) ?_
  intro p e s m below meth c ls F hr hlk hW hS hl
  have hl : lv_has ls 5 [(0, .ref (xq E j0)), (1, .int a1), (2, .ref (xq E j2)), (3, .int a3), (4, .int a4)] := hl
  obtain ⟨hx, hb, hml, hown, hts⟩ := id F.1
  have hK := F.2.1.1
  unfold fX0_slide at h
  refine lv_aload_n hx hb dX0_slide_0 rfl (lv_at hl 0 rfl) ?_
  by_cases hs1 : σ 13 j0 = 0
  · rw [if_pos hs1] at h; cases h
  · rw [if_neg hs1] at h
    refine x_instB F hW j0 hj0 hs1 (hts _ q874) dX0_slide_1 (fun hk2 => ?_) (fun hk2 => ?_)
    · rw [if_pos hk2] at h
      refine lv_if_eq (tgt := 25) hx hb dX0_slide_4 (by decide) (fun c => absurd c (by decide)) (fun c => ?_)
      refine lv_aload_n hx hb dX0_slide_7 rfl (lv_at hl 0 rfl) ?_
      refine va_castE hx hb hown (hts _ q874) (x_rcv hW j0 hj0 hs1 1 hk2 (x_fc F).1) dX0_slide_8 ?_
      refine lv_iload_n hx hb dX0_slide_11 rfl (lv_at hl 1 rfl) ?_
      refine lv_aload_n hx hb dX0_slide_12 rfl (lv_at hl 2 rfl) ?_
      by_cases hs3 : σ 13 j2 = 0
      · rw [if_pos hs3] at h; cases h
      · rw [if_neg hs3] at h
        by_cases hs4 : xsk (σ 13 j2) = 1
        · rw [if_pos hs4] at h
          refine va_castE hx hb hown (hts _ q874) (x_rcv hW j2 hj2 hs3 1 hs4 (x_fc F).1) dX0_slide_13 ?_
          refine lv_iload_n hx hb dX0_slide_16 rfl (lv_at hl 3 rfl) ?_
          refine lv_iload hx hb dX0_slide_17 (lv_at hl 4 rfl) ?_
          by_cases hs5 : xcok σ j0 j2 a1 a3 a4 .byte
          · rw [if_pos hs5] at h
            refine x_rcopy F hl.1 (hts _ q1140) hW hS j0 j2 hj0 hs1 hj2 hs3 hs5.2.2.2.2.2.1 1 .byte hk2 hs4 rfl rfl hs5.1 hs5.2.1 hs5.2.2.1 hs5.2.2.2.1 hs5.2.2.2.2.1 hs5.2.2.2.2.2.2 (Nat.le_of_ble_eq_true rfl) (Nat.le_of_ble_eq_true rfl) dX0_slide_19 (fun H locs hW hS => ?_)
            refine lv_goto (tgt := 65) hx hb dX0_slide_22 (by decide) ?_
            have h := Option.some.inj h; subst h
            exact x_vret F hr hlk hW hS dX0_slide_65
          · rw [if_neg hs5] at h; cases h
        · rw [if_neg hs4] at h; cases h
    · rw [if_neg hk2] at h
      refine lv_if_eq (tgt := 25) hx hb dX0_slide_4 (by decide) (fun c => ?_) (fun c => absurd c (by decide))
      refine lv_aload_n hx hb dX0_slide_25 rfl (lv_at hl 0 rfl) ?_
      refine x_instS F hW j0 hj0 hs1 hk2 (hts _ q875) dX0_slide_26 (fun hk6 => ?_) (fun hk6 => ?_)
      · rw [if_pos hk6] at h
        refine lv_if_eq (tgt := 50) hx hb dX0_slide_29 (by decide) (fun c => absurd c (by decide)) (fun c => ?_)
        refine lv_aload_n hx hb dX0_slide_32 rfl (lv_at hl 0 rfl) ?_
        refine va_castE hx hb hown (hts _ q875) (x_rcv hW j0 hj0 hs1 2 hk6 (x_fc F).2.1) dX0_slide_33 ?_
        refine lv_iload_n hx hb dX0_slide_36 rfl (lv_at hl 1 rfl) ?_
        refine lv_aload_n hx hb dX0_slide_37 rfl (lv_at hl 2 rfl) ?_
        by_cases hs7 : σ 13 j2 = 0
        · rw [if_pos hs7] at h; cases h
        · rw [if_neg hs7] at h
          by_cases hs8 : xsk (σ 13 j2) = 2
          · rw [if_pos hs8] at h
            refine va_castE hx hb hown (hts _ q875) (x_rcv hW j2 hj2 hs7 2 hs8 (x_fc F).2.1) dX0_slide_38 ?_
            refine lv_iload_n hx hb dX0_slide_41 rfl (lv_at hl 3 rfl) ?_
            refine lv_iload hx hb dX0_slide_42 (lv_at hl 4 rfl) ?_
            by_cases hs9 : xcok σ j0 j2 a1 a3 a4 .short
            · rw [if_pos hs9] at h
              refine x_rcopy F hl.1 (hts _ q1140) hW hS j0 j2 hj0 hs1 hj2 hs7 hs9.2.2.2.2.2.1 2 .short hk6 hs8 rfl rfl hs9.1 hs9.2.1 hs9.2.2.1 hs9.2.2.2.1 hs9.2.2.2.2.1 hs9.2.2.2.2.2.2 (Nat.le_of_ble_eq_true rfl) (Nat.le_of_ble_eq_true rfl) dX0_slide_44 (fun H locs hW hS => ?_)
              refine lv_goto (tgt := 65) hx hb dX0_slide_47 (by decide) ?_
              have h := Option.some.inj h; subst h
              exact x_vret F hr hlk hW hS dX0_slide_65
            · rw [if_neg hs9] at h; cases h
          · rw [if_neg hs8] at h; cases h
      · rw [if_neg hk6] at h
        refine lv_if_eq (tgt := 50) hx hb dX0_slide_29 (by decide) (fun c => ?_) (fun c => absurd c (by decide))
        refine lv_aload_n hx hb dX0_slide_50 rfl (lv_at hl 0 rfl) ?_
        refine va_castE hx hb hown (hts _ q876) (x_rcv hW j0 hj0 hs1 0 (x_k0 hk2 hk6) (x_fc F).2.2) dX0_slide_51 ?_
        refine lv_iload_n hx hb dX0_slide_54 rfl (lv_at hl 1 rfl) ?_
        refine lv_aload_n hx hb dX0_slide_55 rfl (lv_at hl 2 rfl) ?_
        by_cases hs10 : σ 13 j2 = 0
        · rw [if_pos hs10] at h; cases h
        · rw [if_neg hs10] at h
          by_cases hs11 : xsk (σ 13 j2) = 0
          · rw [if_pos hs11] at h
            refine va_castE hx hb hown (hts _ q876) (x_rcv hW j2 hj2 hs10 0 hs11 (x_fc F).2.2) dX0_slide_56 ?_
            refine lv_iload_n hx hb dX0_slide_59 rfl (lv_at hl 3 rfl) ?_
            refine lv_iload hx hb dX0_slide_60 (lv_at hl 4 rfl) ?_
            by_cases hs12 : xcok σ j0 j2 a1 a3 a4 .int
            · rw [if_pos hs12] at h
              refine x_rcopy F hl.1 (hts _ q1140) hW hS j0 j2 hj0 hs1 hj2 hs10 hs12.2.2.2.2.2.1 0 .int (x_k0 hk2 hk6) hs11 rfl rfl hs12.1 hs12.2.1 hs12.2.2.1 hs12.2.2.2.1 hs12.2.2.2.2.1 hs12.2.2.2.2.2.2 (Nat.le_of_ble_eq_true rfl) (Nat.le_of_ble_eq_true rfl) dX0_slide_62 (fun H locs hW hS => ?_)
              have h := Option.some.inj h; subst h
              exact x_vret F hr hlk hW hS dX0_slide_65
            · rw [if_neg hs12] at h; cases h
          · rw [if_neg hs11] at h; cases h
/-! WildBells.copy(IIIII)I -/
def fX0_copy (σ : xM) (a1 : Int32) (a2 : Int32) (a3 : Int32) (a4 : Int32) (a5 : Int32) : Option (Int32 × xM) :=
  xct (fX0_rowAt σ a1) (fun r2 σ3 => xro r2 (xct (fX0_rowAt σ3 a3) (fun r5 σ6 => xro r5 (xct (fX0_need σ6 0 5) (fun r8 σ9 => none) (fun σ9 => (fX0_finding σ9 (σ9 11 0)).bind (fun r11 => some (r11.1, r11.2)))) (fun j12 => if j12 < 4 then (xct (fX0_need σ6 0 5) (fun r15 σ16 => none) (fun σ16 => (fX0_finding σ16 (σ16 11 0)).bind (fun r18 => some (r18.1, r18.2)))) else none)) (fun σ6 => (fX0_finding σ6 (σ6 11 0)).bind (fun r20 => some (r20.1, r20.2)))) (fun j21 => if j21 < 4 then (xct (fX0_rowAt σ3 a3) (fun r24 σ25 => xro r24 (xct (fX0_need σ25 0 5) (fun r27 σ28 => none) (fun σ28 => (fX0_finding σ28 (σ28 11 0)).bind (fun r30 => some (r30.1, r30.2)))) (fun j31 => if j31 < 4 then (xct (fX0_need σ25 1 5) (fun r34 σ35 => (fX0_widthOf σ35 j21).bind (fun r37 => (fX0_widthOf σ35 j31).bind (fun r39 => if r37 = r39 then (xct (fX0_need σ35 1 2) (fun r47 σ48 => if a5 < 0 then (xct (fX0_need σ48 0 0) (fun r51 σ52 => none) (fun σ52 => (fX0_finding σ52 (σ52 11 0)).bind (fun r54 => some (r54.1, r54.2)))) else (if a2 < 0 then (xct (fX0_need σ48 0 0) (fun r57 σ58 => none) (fun σ58 => (fX0_finding σ58 (σ58 11 0)).bind (fun r60 => some (r60.1, r60.2)))) else (if a4 < 0 then (xct (fX0_need σ48 0 0) (fun r63 σ64 => none) (fun σ64 => (fX0_finding σ64 (σ64 11 0)).bind (fun r66 => some (r66.1, r66.2)))) else ((fX0_length σ48 j21).bind (fun r68 => if (r68 - a5) < a2 then (xct (fX0_need σ48 0 0) (fun r71 σ72 => none) (fun σ72 => (fX0_finding σ72 (σ72 11 0)).bind (fun r74 => some (r74.1, r74.2)))) else ((fX0_length σ48 j31).bind (fun r76 => if (r76 - a5) < a4 then (xct (fX0_need σ48 0 0) (fun r79 σ80 => none) (fun σ80 => (fX0_finding σ80 (σ80 11 0)).bind (fun r82 => some (r82.1, r82.2)))) else (xct (fX0_need σ48 1 0) (fun r84 σ85 => (fX0_slide σ85 j21 a2 j31 a4 a5).bind (fun r87 => some (a5, r87))) (fun σ85 => (fX0_finding σ85 (σ85 11 0)).bind (fun r89 => some (r89.1, r89.2))))))))))) (fun σ48 => (fX0_finding σ48 (σ48 11 0)).bind (fun r91 => some (r91.1, r91.2)))) else (xct (fX0_need σ35 0 2) (fun r42 σ43 => none) (fun σ43 => (fX0_finding σ43 (σ43 11 0)).bind (fun r45 => some (r45.1, r45.2))))))) (fun σ35 => (fX0_finding σ35 (σ35 11 0)).bind (fun r93 => some (r93.1, r93.2)))) else none)) (fun σ25 => (fX0_finding σ25 (σ25 11 0)).bind (fun r95 => some (r95.1, r95.2)))) else none)) (fun σ3 => (fX0_finding σ3 (σ3 11 0)).bind (fun r97 => some (r97.1, r97.2)))
set_option maxHeartbeats 4000000 in
theorem mX0_copy (l : Launch) (E : xE) (σ : xM) (a1 : Int32) (a2 : Int32) (a3 : Int32) (a4 : Int32) (a5 : Int32) (r : Int32) (σ' : xM) (h : fX0_copy σ a1 a2 a3 a4 a5 = some (r, σ')) : Met l yX0_copy (wsW_ yX0_copy cX0_copy 8 (some .int) [(0, 120, 121, 61)]) ({ frames := 3, cells := 0, slots := 0, locals := 64 } : Room) (xPc E σ [.ref (xa E 0), .int a1, .int a2, .int a3, .int a4, .int a5]) (xQc E (.returned (some (.int r))) σ') 0 0 (xA E) := by
  refine x_ofW (C := RX0) (n := "copy") (d := "(IIIII)I") (r := (some .int)) (hh := [(0, 120, 121, 61)]) (by decide) (by first | decide | exact Nat.le_of_ble_eq_true rfl) ?_
  intro p e s m below meth c ls F hr hlk htb hW hS hl
  have hl : lv_has ls 8 [(0, .ref (xa E 0)), (1, .int a1), (2, .int a2), (3, .int a3), (4, .int a4), (5, .int a5)] := hl
  obtain ⟨hx, hb, hml, hown, hts⟩ := id F.1
  have hK := F.2.1.1
  unfold fX0_copy at h
  refine lv_aload_n hx hb dX0_copy_0 rfl (lv_at hl 0 rfl) ?_
  refine lv_iload_n hx hb dX0_copy_1 rfl (lv_at hl 1 rfl) ?_
  rcases g1 : fX0_rowAt σ a1 with _ | ⟨_ | r2, σ3⟩
  · rw [g1] at h; cases h
  · rw [g1, xct_t] at h
    refine x_backTc F (x_runVT (C := RX0) (b := (xa E 0)) (As := [.int a1]) (rest := []) F.1 (mX0_rowAt l E σ a1 none σ3 g1) (cwV 1 hts (lw_V q849 q851 qs24 q99 q852) rfl rfl rfl (by decide +kernel) ⟨Nat.le_of_ble_eq_true rfl, Nat.le_of_ble_eq_true rfl⟩) ⟨xPc.blind, va_recv hK (xO_X hW) (ci := 0) (q0 := 0) rfl rfl, F.pre hW hS (.ref (xa E 0) :: [.int a1])⟩ rfl rfl hl.1 rfl (lv_room (Nat.le_of_ble_eq_true rfl)) dX0_copy_2 ⟨Nat.le_refl _, Nat.le_refl _⟩) hS htb ⟨by decide, by decide⟩ (by decide) (hts _ q131) (fun H1 hW1 => va_recv hK (xO_F hW1) (ci := 1) (q0 := 0) rfl rfl) (fun H locs hW hS => ?_)
    refine lv_astore (lv' := [(6, .ref (xa E 1)), (0, .ref (xa E 0)), (1, .int a1), (2, .int a2), (3, .int a3), (4, .int a4), (5, .int a5)]) hx hb dX0_copy_121 hl (by decide) rfl (fun ls hl => ?_)
    refine lv_aload_n hx hb dX0_copy_123 rfl (lv_at hl 1 rfl) ?_
    refine lv_aload hx hb dX0_copy_124 (lv_at hl 0 rfl) ?_
    refine va_getN (D := xD E) (ci := 1) (v := .int (σ3 11 0)) (C := RX1) (T := TX1) (N := 7) hx hb hts in_X1 hown hK (xO_F hW) 0 rfl rfl 6 (by decide) (va_Nw.use rfl (F.2.1.2.1 _ q183 rfl)) (fun _ h9 => h9) rfl dX0_copy_126 ?_
    cases g96 : fX0_finding σ3 (σ3 11 0) with
    | none => rw [g96] at h; cases h
    | some r97 =>
      rw [g96, Option.bind_some] at h
      refine x_backi (va_runV (C := RX0) (b := (xa E 0)) (As := [.int (σ3 11 0)]) (rest := []) F.1 (mX0_finding l E σ3 (σ3 11 0) r97.1 r97.2 g96) (cwV 1 hts (lw_V q469 q471 qs2 q99 q472) rfl rfl rfl (by decide +kernel) ⟨Nat.le_of_ble_eq_true rfl, Nat.le_of_ble_eq_true rfl⟩) ⟨xPc.blind, va_recv hK (xO_X hW) (ci := 0) (q0 := 0) rfl rfl, F.pre hW hS (.ref (xa E 0) :: [.int (σ3 11 0)])⟩ rfl rfl hl.1 rfl (lv_room (Nat.le_of_ble_eq_true rfl)) dX0_copy_129 ⟨Nat.le_refl _, Nat.le_refl _⟩) hS (fun H locs hW hS => ?_)
      obtain ⟨h1, h2⟩ := Prod.mk.inj (Option.some.inj h); subst h1; subst h2
      exact x_iret F hr hlk hW hS dX0_copy_132
  · rw [g1, xct_r] at h
    rcases r2 with _ | j21
    · rw [xro_n] at h
      refine x_backTn (x_runVT (C := RX0) (b := (xa E 0)) (As := [.int a1]) (rest := []) F.1 (mX0_rowAt l E σ a1 (some none) σ3 g1) (cwV 1 hts (lw_V q849 q851 qs24 q99 q852) rfl rfl rfl (by decide +kernel) ⟨Nat.le_of_ble_eq_true rfl, Nat.le_of_ble_eq_true rfl⟩) ⟨xPc.blind, va_recv hK (xO_X hW) (ci := 0) (q0 := 0) rfl rfl, F.pre hW hS (.ref (xa E 0) :: [.int a1])⟩ rfl rfl hl.1 rfl (lv_room (Nat.le_of_ble_eq_true rfl)) dX0_copy_2 ⟨Nat.le_refl _, Nat.le_refl _⟩) hS (fun H locs hW hS => ?_)
      refine lv_astoreN (lv' := [(6, .null), (0, .ref (xa E 0)), (1, .int a1), (2, .int a2), (3, .int a3), (4, .int a4), (5, .int a5)]) hx hb dX0_copy_5 hl (by decide) rfl (fun ls hl => ?_)
      refine lv_aload_n hx hb dX0_copy_7 rfl (lv_at hl 1 rfl) ?_
      refine lv_iload_n hx hb dX0_copy_8 rfl (lv_at hl 4 rfl) ?_
      rcases g4 : fX0_rowAt σ3 a3 with _ | ⟨_ | r5, σ6⟩
      · rw [g4] at h; cases h
      · rw [g4, xct_t] at h
        refine x_backTc F (x_runVT (C := RX0) (b := (xa E 0)) (As := [.int a3]) (rest := []) F.1 (mX0_rowAt l E σ3 a3 none σ6 g4) (cwV 1 hts (lw_V q849 q851 qs24 q99 q852) rfl rfl rfl (by decide +kernel) ⟨Nat.le_of_ble_eq_true rfl, Nat.le_of_ble_eq_true rfl⟩) ⟨xPc.blind, va_recv hK (xO_X hW) (ci := 0) (q0 := 0) rfl rfl, F.pre hW hS (.ref (xa E 0) :: [.int a3])⟩ rfl rfl hl.1 rfl (lv_room (Nat.le_of_ble_eq_true rfl)) dX0_copy_9 ⟨Nat.le_refl _, Nat.le_refl _⟩) hS htb ⟨by decide, by decide⟩ (by decide) (hts _ q131) (fun H1 hW1 => va_recv hK (xO_F hW1) (ci := 1) (q0 := 0) rfl rfl) (fun H locs hW hS => ?_)
        refine lv_astore (lv' := [(6, .ref (xa E 1)), (0, .ref (xa E 0)), (1, .int a1), (2, .int a2), (3, .int a3), (4, .int a4), (5, .int a5)]) hx hb dX0_copy_121 hl (by decide) rfl (fun ls hl => ?_)
        refine lv_aload_n hx hb dX0_copy_123 rfl (lv_at hl 1 rfl) ?_
        refine lv_aload hx hb dX0_copy_124 (lv_at hl 0 rfl) ?_
        refine va_getN (D := xD E) (ci := 1) (v := .int (σ6 11 0)) (C := RX1) (T := TX1) (N := 7) hx hb hts in_X1 hown hK (xO_F hW) 0 rfl rfl 6 (by decide) (va_Nw.use rfl (F.2.1.2.1 _ q183 rfl)) (fun _ h9 => h9) rfl dX0_copy_126 ?_
        cases g19 : fX0_finding σ6 (σ6 11 0) with
        | none => rw [g19] at h; cases h
        | some r20 =>
          rw [g19, Option.bind_some] at h
          refine x_backi (va_runV (C := RX0) (b := (xa E 0)) (As := [.int (σ6 11 0)]) (rest := []) F.1 (mX0_finding l E σ6 (σ6 11 0) r20.1 r20.2 g19) (cwV 1 hts (lw_V q469 q471 qs2 q99 q472) rfl rfl rfl (by decide +kernel) ⟨Nat.le_of_ble_eq_true rfl, Nat.le_of_ble_eq_true rfl⟩) ⟨xPc.blind, va_recv hK (xO_X hW) (ci := 0) (q0 := 0) rfl rfl, F.pre hW hS (.ref (xa E 0) :: [.int (σ6 11 0)])⟩ rfl rfl hl.1 rfl (lv_room (Nat.le_of_ble_eq_true rfl)) dX0_copy_129 ⟨Nat.le_refl _, Nat.le_refl _⟩) hS (fun H locs hW hS => ?_)
          obtain ⟨h1, h2⟩ := Prod.mk.inj (Option.some.inj h); subst h1; subst h2
          exact x_iret F hr hlk hW hS dX0_copy_132
      · rw [g4, xct_r] at h
        rcases r5 with _ | j12
        · rw [xro_n] at h
          refine x_backTn (x_runVT (C := RX0) (b := (xa E 0)) (As := [.int a3]) (rest := []) F.1 (mX0_rowAt l E σ3 a3 (some none) σ6 g4) (cwV 1 hts (lw_V q849 q851 qs24 q99 q852) rfl rfl rfl (by decide +kernel) ⟨Nat.le_of_ble_eq_true rfl, Nat.le_of_ble_eq_true rfl⟩) ⟨xPc.blind, va_recv hK (xO_X hW) (ci := 0) (q0 := 0) rfl rfl, F.pre hW hS (.ref (xa E 0) :: [.int a3])⟩ rfl rfl hl.1 rfl (lv_room (Nat.le_of_ble_eq_true rfl)) dX0_copy_9 ⟨Nat.le_refl _, Nat.le_refl _⟩) hS (fun H locs hW hS => ?_)
          refine lv_astoreN (lv' := [(7, .null), (6, .null), (0, .ref (xa E 0)), (1, .int a1), (2, .int a2), (3, .int a3), (4, .int a4), (5, .int a5)]) hx hb dX0_copy_12 hl (by decide) rfl (fun ls hl => ?_)
          refine lv_aload_n hx hb dX0_copy_14 rfl (lv_at hl 2 rfl) ?_
          refine lv_aloadN hx hb dX0_copy_15 (lv_at hl 1 rfl) ?_
          refine lv_ifnullN (tgt := 29) hx hb dX0_copy_17 (by decide) ?_
          refine lv_iconst (v := 0) hx hb dX0_copy_29 (by decide) ?_
          refine lv_iconst (v := 5) hx hb dX0_copy_30 (by decide) ?_
          rcases g7 : fX0_need σ6 0 5 with _ | ⟨_ | r8, σ9⟩
          · rw [g7] at h; cases h
          · rw [g7, xct_t] at h
            refine x_backTc F (x_runVT (C := RX0) (b := (xa E 0)) (As := [.int 0, .int 5]) (rest := []) F.1 (mX0_need l E σ6 0 5 none σ9 g7) (cwV 2 hts (lw_V q856 q858 qs25 q99 q859) rfl rfl rfl (by decide +kernel) ⟨Nat.le_of_ble_eq_true rfl, Nat.le_of_ble_eq_true rfl⟩) ⟨xPc.blind, va_recv hK (xO_X hW) (ci := 0) (q0 := 0) rfl rfl, F.pre hW hS (.ref (xa E 0) :: [.int 0, .int 5])⟩ rfl rfl hl.1 rfl (lv_room (Nat.le_of_ble_eq_true rfl)) dX0_copy_31 ⟨Nat.le_refl _, Nat.le_refl _⟩) hS htb ⟨by decide, by decide⟩ (by decide) (hts _ q131) (fun H1 hW1 => va_recv hK (xO_F hW1) (ci := 1) (q0 := 0) rfl rfl) (fun H locs hW hS => ?_)
            refine lv_astore (lv' := [(6, .ref (xa E 1)), (7, .null), (0, .ref (xa E 0)), (1, .int a1), (2, .int a2), (3, .int a3), (4, .int a4), (5, .int a5)]) hx hb dX0_copy_121 hl (by decide) rfl (fun ls hl => ?_)
            refine lv_aload_n hx hb dX0_copy_123 rfl (lv_at hl 2 rfl) ?_
            refine lv_aload hx hb dX0_copy_124 (lv_at hl 0 rfl) ?_
            refine va_getN (D := xD E) (ci := 1) (v := .int (σ9 11 0)) (C := RX1) (T := TX1) (N := 7) hx hb hts in_X1 hown hK (xO_F hW) 0 rfl rfl 6 (by decide) (va_Nw.use rfl (F.2.1.2.1 _ q183 rfl)) (fun _ h9 => h9) rfl dX0_copy_126 ?_
            cases g10 : fX0_finding σ9 (σ9 11 0) with
            | none => rw [g10] at h; cases h
            | some r11 =>
              rw [g10, Option.bind_some] at h
              refine x_backi (va_runV (C := RX0) (b := (xa E 0)) (As := [.int (σ9 11 0)]) (rest := []) F.1 (mX0_finding l E σ9 (σ9 11 0) r11.1 r11.2 g10) (cwV 1 hts (lw_V q469 q471 qs2 q99 q472) rfl rfl rfl (by decide +kernel) ⟨Nat.le_of_ble_eq_true rfl, Nat.le_of_ble_eq_true rfl⟩) ⟨xPc.blind, va_recv hK (xO_X hW) (ci := 0) (q0 := 0) rfl rfl, F.pre hW hS (.ref (xa E 0) :: [.int (σ9 11 0)])⟩ rfl rfl hl.1 rfl (lv_room (Nat.le_of_ble_eq_true rfl)) dX0_copy_129 ⟨Nat.le_refl _, Nat.le_refl _⟩) hS (fun H locs hW hS => ?_)
              obtain ⟨h1, h2⟩ := Prod.mk.inj (Option.some.inj h); subst h1; subst h2
              exact x_iret F hr hlk hW hS dX0_copy_132
          · rw [g7, xct_r] at h
            refine x_backTv (x_runVT (C := RX0) (b := (xa E 0)) (As := [.int 0, .int 5]) (rest := []) F.1 (mX0_need l E σ6 0 5 (some r8) σ9 g7) (cwV 2 hts (lw_V q856 q858 qs25 q99 q859) rfl rfl rfl (by decide +kernel) ⟨Nat.le_of_ble_eq_true rfl, Nat.le_of_ble_eq_true rfl⟩) ⟨xPc.blind, va_recv hK (xO_X hW) (ci := 0) (q0 := 0) rfl rfl, F.pre hW hS (.ref (xa E 0) :: [.int 0, .int 5])⟩ rfl rfl hl.1 rfl (lv_room (Nat.le_of_ble_eq_true rfl)) dX0_copy_31 ⟨Nat.le_refl _, Nat.le_refl _⟩) hS (fun H locs hW hS => ?_)
            cases h
        · rw [xro_s] at h
          by_cases hj13 : j12 < 4
          · rw [if_pos hj13] at h
            refine x_backTr (x_runVT (C := RX0) (b := (xa E 0)) (As := [.int a3]) (rest := []) F.1 (mX0_rowAt l E σ3 a3 (some (some j12)) σ6 g4) (cwV 1 hts (lw_V q849 q851 qs24 q99 q852) rfl rfl rfl (by decide +kernel) ⟨Nat.le_of_ble_eq_true rfl, Nat.le_of_ble_eq_true rfl⟩) ⟨xPc.blind, va_recv hK (xO_X hW) (ci := 0) (q0 := 0) rfl rfl, F.pre hW hS (.ref (xa E 0) :: [.int a3])⟩ rfl rfl hl.1 rfl (lv_room (Nat.le_of_ble_eq_true rfl)) dX0_copy_9 ⟨Nat.le_refl _, Nat.le_refl _⟩) hS (fun H locs hW hS => ?_)
            refine lv_astore (lv' := [(7, .ref (xq E j12)), (6, .null), (0, .ref (xa E 0)), (1, .int a1), (2, .int a2), (3, .int a3), (4, .int a4), (5, .int a5)]) hx hb dX0_copy_12 hl (by decide) rfl (fun ls hl => ?_)
            refine lv_aload_n hx hb dX0_copy_14 rfl (lv_at hl 2 rfl) ?_
            refine lv_aloadN hx hb dX0_copy_15 (lv_at hl 1 rfl) ?_
            refine lv_ifnullN (tgt := 29) hx hb dX0_copy_17 (by decide) ?_
            refine lv_iconst (v := 0) hx hb dX0_copy_29 (by decide) ?_
            refine lv_iconst (v := 5) hx hb dX0_copy_30 (by decide) ?_
            rcases g14 : fX0_need σ6 0 5 with _ | ⟨_ | r15, σ16⟩
            · rw [g14] at h; cases h
            · rw [g14, xct_t] at h
              refine x_backTc F (x_runVT (C := RX0) (b := (xa E 0)) (As := [.int 0, .int 5]) (rest := []) F.1 (mX0_need l E σ6 0 5 none σ16 g14) (cwV 2 hts (lw_V q856 q858 qs25 q99 q859) rfl rfl rfl (by decide +kernel) ⟨Nat.le_of_ble_eq_true rfl, Nat.le_of_ble_eq_true rfl⟩) ⟨xPc.blind, va_recv hK (xO_X hW) (ci := 0) (q0 := 0) rfl rfl, F.pre hW hS (.ref (xa E 0) :: [.int 0, .int 5])⟩ rfl rfl hl.1 rfl (lv_room (Nat.le_of_ble_eq_true rfl)) dX0_copy_31 ⟨Nat.le_refl _, Nat.le_refl _⟩) hS htb ⟨by decide, by decide⟩ (by decide) (hts _ q131) (fun H1 hW1 => va_recv hK (xO_F hW1) (ci := 1) (q0 := 0) rfl rfl) (fun H locs hW hS => ?_)
              refine lv_astore (lv' := [(6, .ref (xa E 1)), (7, .ref (xq E j12)), (0, .ref (xa E 0)), (1, .int a1), (2, .int a2), (3, .int a3), (4, .int a4), (5, .int a5)]) hx hb dX0_copy_121 hl (by decide) rfl (fun ls hl => ?_)
              refine lv_aload_n hx hb dX0_copy_123 rfl (lv_at hl 2 rfl) ?_
              refine lv_aload hx hb dX0_copy_124 (lv_at hl 0 rfl) ?_
              refine va_getN (D := xD E) (ci := 1) (v := .int (σ16 11 0)) (C := RX1) (T := TX1) (N := 7) hx hb hts in_X1 hown hK (xO_F hW) 0 rfl rfl 6 (by decide) (va_Nw.use rfl (F.2.1.2.1 _ q183 rfl)) (fun _ h9 => h9) rfl dX0_copy_126 ?_
              cases g17 : fX0_finding σ16 (σ16 11 0) with
              | none => rw [g17] at h; cases h
              | some r18 =>
                rw [g17, Option.bind_some] at h
                refine x_backi (va_runV (C := RX0) (b := (xa E 0)) (As := [.int (σ16 11 0)]) (rest := []) F.1 (mX0_finding l E σ16 (σ16 11 0) r18.1 r18.2 g17) (cwV 1 hts (lw_V q469 q471 qs2 q99 q472) rfl rfl rfl (by decide +kernel) ⟨Nat.le_of_ble_eq_true rfl, Nat.le_of_ble_eq_true rfl⟩) ⟨xPc.blind, va_recv hK (xO_X hW) (ci := 0) (q0 := 0) rfl rfl, F.pre hW hS (.ref (xa E 0) :: [.int (σ16 11 0)])⟩ rfl rfl hl.1 rfl (lv_room (Nat.le_of_ble_eq_true rfl)) dX0_copy_129 ⟨Nat.le_refl _, Nat.le_refl _⟩) hS (fun H locs hW hS => ?_)
                obtain ⟨h1, h2⟩ := Prod.mk.inj (Option.some.inj h); subst h1; subst h2
                exact x_iret F hr hlk hW hS dX0_copy_132
            · rw [g14, xct_r] at h
              refine x_backTv (x_runVT (C := RX0) (b := (xa E 0)) (As := [.int 0, .int 5]) (rest := []) F.1 (mX0_need l E σ6 0 5 (some r15) σ16 g14) (cwV 2 hts (lw_V q856 q858 qs25 q99 q859) rfl rfl rfl (by decide +kernel) ⟨Nat.le_of_ble_eq_true rfl, Nat.le_of_ble_eq_true rfl⟩) ⟨xPc.blind, va_recv hK (xO_X hW) (ci := 0) (q0 := 0) rfl rfl, F.pre hW hS (.ref (xa E 0) :: [.int 0, .int 5])⟩ rfl rfl hl.1 rfl (lv_room (Nat.le_of_ble_eq_true rfl)) dX0_copy_31 ⟨Nat.le_refl _, Nat.le_refl _⟩) hS (fun H locs hW hS => ?_)
              cases h
          · rw [if_neg hj13] at h; cases h
    · rw [xro_s] at h
      by_cases hj22 : j21 < 4
      · rw [if_pos hj22] at h
        refine x_backTr (x_runVT (C := RX0) (b := (xa E 0)) (As := [.int a1]) (rest := []) F.1 (mX0_rowAt l E σ a1 (some (some j21)) σ3 g1) (cwV 1 hts (lw_V q849 q851 qs24 q99 q852) rfl rfl rfl (by decide +kernel) ⟨Nat.le_of_ble_eq_true rfl, Nat.le_of_ble_eq_true rfl⟩) ⟨xPc.blind, va_recv hK (xO_X hW) (ci := 0) (q0 := 0) rfl rfl, F.pre hW hS (.ref (xa E 0) :: [.int a1])⟩ rfl rfl hl.1 rfl (lv_room (Nat.le_of_ble_eq_true rfl)) dX0_copy_2 ⟨Nat.le_refl _, Nat.le_refl _⟩) hS (fun H locs hW hS => ?_)
        refine lv_astore (lv' := [(6, .ref (xq E j21)), (0, .ref (xa E 0)), (1, .int a1), (2, .int a2), (3, .int a3), (4, .int a4), (5, .int a5)]) hx hb dX0_copy_5 hl (by decide) rfl (fun ls hl => ?_)
        refine lv_aload_n hx hb dX0_copy_7 rfl (lv_at hl 1 rfl) ?_
        refine lv_iload_n hx hb dX0_copy_8 rfl (lv_at hl 4 rfl) ?_
        rcases g23 : fX0_rowAt σ3 a3 with _ | ⟨_ | r24, σ25⟩
        · rw [g23] at h; cases h
        · rw [g23, xct_t] at h
          refine x_backTc F (x_runVT (C := RX0) (b := (xa E 0)) (As := [.int a3]) (rest := []) F.1 (mX0_rowAt l E σ3 a3 none σ25 g23) (cwV 1 hts (lw_V q849 q851 qs24 q99 q852) rfl rfl rfl (by decide +kernel) ⟨Nat.le_of_ble_eq_true rfl, Nat.le_of_ble_eq_true rfl⟩) ⟨xPc.blind, va_recv hK (xO_X hW) (ci := 0) (q0 := 0) rfl rfl, F.pre hW hS (.ref (xa E 0) :: [.int a3])⟩ rfl rfl hl.1 rfl (lv_room (Nat.le_of_ble_eq_true rfl)) dX0_copy_9 ⟨Nat.le_refl _, Nat.le_refl _⟩) hS htb ⟨by decide, by decide⟩ (by decide) (hts _ q131) (fun H1 hW1 => va_recv hK (xO_F hW1) (ci := 1) (q0 := 0) rfl rfl) (fun H locs hW hS => ?_)
          refine lv_astore (lv' := [(6, .ref (xa E 1)), (0, .ref (xa E 0)), (1, .int a1), (2, .int a2), (3, .int a3), (4, .int a4), (5, .int a5)]) hx hb dX0_copy_121 hl (by decide) rfl (fun ls hl => ?_)
          refine lv_aload_n hx hb dX0_copy_123 rfl (lv_at hl 1 rfl) ?_
          refine lv_aload hx hb dX0_copy_124 (lv_at hl 0 rfl) ?_
          refine va_getN (D := xD E) (ci := 1) (v := .int (σ25 11 0)) (C := RX1) (T := TX1) (N := 7) hx hb hts in_X1 hown hK (xO_F hW) 0 rfl rfl 6 (by decide) (va_Nw.use rfl (F.2.1.2.1 _ q183 rfl)) (fun _ h9 => h9) rfl dX0_copy_126 ?_
          cases g94 : fX0_finding σ25 (σ25 11 0) with
          | none => rw [g94] at h; cases h
          | some r95 =>
            rw [g94, Option.bind_some] at h
            refine x_backi (va_runV (C := RX0) (b := (xa E 0)) (As := [.int (σ25 11 0)]) (rest := []) F.1 (mX0_finding l E σ25 (σ25 11 0) r95.1 r95.2 g94) (cwV 1 hts (lw_V q469 q471 qs2 q99 q472) rfl rfl rfl (by decide +kernel) ⟨Nat.le_of_ble_eq_true rfl, Nat.le_of_ble_eq_true rfl⟩) ⟨xPc.blind, va_recv hK (xO_X hW) (ci := 0) (q0 := 0) rfl rfl, F.pre hW hS (.ref (xa E 0) :: [.int (σ25 11 0)])⟩ rfl rfl hl.1 rfl (lv_room (Nat.le_of_ble_eq_true rfl)) dX0_copy_129 ⟨Nat.le_refl _, Nat.le_refl _⟩) hS (fun H locs hW hS => ?_)
            obtain ⟨h1, h2⟩ := Prod.mk.inj (Option.some.inj h); subst h1; subst h2
            exact x_iret F hr hlk hW hS dX0_copy_132
        · rw [g23, xct_r] at h
          rcases r24 with _ | j31
          · rw [xro_n] at h
            refine x_backTn (x_runVT (C := RX0) (b := (xa E 0)) (As := [.int a3]) (rest := []) F.1 (mX0_rowAt l E σ3 a3 (some none) σ25 g23) (cwV 1 hts (lw_V q849 q851 qs24 q99 q852) rfl rfl rfl (by decide +kernel) ⟨Nat.le_of_ble_eq_true rfl, Nat.le_of_ble_eq_true rfl⟩) ⟨xPc.blind, va_recv hK (xO_X hW) (ci := 0) (q0 := 0) rfl rfl, F.pre hW hS (.ref (xa E 0) :: [.int a3])⟩ rfl rfl hl.1 rfl (lv_room (Nat.le_of_ble_eq_true rfl)) dX0_copy_9 ⟨Nat.le_refl _, Nat.le_refl _⟩) hS (fun H locs hW hS => ?_)
            refine lv_astoreN (lv' := [(7, .null), (6, .ref (xq E j21)), (0, .ref (xa E 0)), (1, .int a1), (2, .int a2), (3, .int a3), (4, .int a4), (5, .int a5)]) hx hb dX0_copy_12 hl (by decide) rfl (fun ls hl => ?_)
            refine lv_aload_n hx hb dX0_copy_14 rfl (lv_at hl 2 rfl) ?_
            refine lv_aload hx hb dX0_copy_15 (lv_at hl 1 rfl) ?_
            refine lv_ifnull hx hb dX0_copy_17 ?_
            refine lv_aloadN hx hb dX0_copy_20 (lv_at hl 0 rfl) ?_
            refine lv_ifnullN (tgt := 29) hx hb dX0_copy_22 (by decide) ?_
            refine lv_iconst (v := 0) hx hb dX0_copy_29 (by decide) ?_
            refine lv_iconst (v := 5) hx hb dX0_copy_30 (by decide) ?_
            rcases g26 : fX0_need σ25 0 5 with _ | ⟨_ | r27, σ28⟩
            · rw [g26] at h; cases h
            · rw [g26, xct_t] at h
              refine x_backTc F (x_runVT (C := RX0) (b := (xa E 0)) (As := [.int 0, .int 5]) (rest := []) F.1 (mX0_need l E σ25 0 5 none σ28 g26) (cwV 2 hts (lw_V q856 q858 qs25 q99 q859) rfl rfl rfl (by decide +kernel) ⟨Nat.le_of_ble_eq_true rfl, Nat.le_of_ble_eq_true rfl⟩) ⟨xPc.blind, va_recv hK (xO_X hW) (ci := 0) (q0 := 0) rfl rfl, F.pre hW hS (.ref (xa E 0) :: [.int 0, .int 5])⟩ rfl rfl hl.1 rfl (lv_room (Nat.le_of_ble_eq_true rfl)) dX0_copy_31 ⟨Nat.le_refl _, Nat.le_refl _⟩) hS htb ⟨by decide, by decide⟩ (by decide) (hts _ q131) (fun H1 hW1 => va_recv hK (xO_F hW1) (ci := 1) (q0 := 0) rfl rfl) (fun H locs hW hS => ?_)
              refine lv_astore (lv' := [(6, .ref (xa E 1)), (7, .null), (0, .ref (xa E 0)), (1, .int a1), (2, .int a2), (3, .int a3), (4, .int a4), (5, .int a5)]) hx hb dX0_copy_121 hl (by decide) rfl (fun ls hl => ?_)
              refine lv_aload_n hx hb dX0_copy_123 rfl (lv_at hl 2 rfl) ?_
              refine lv_aload hx hb dX0_copy_124 (lv_at hl 0 rfl) ?_
              refine va_getN (D := xD E) (ci := 1) (v := .int (σ28 11 0)) (C := RX1) (T := TX1) (N := 7) hx hb hts in_X1 hown hK (xO_F hW) 0 rfl rfl 6 (by decide) (va_Nw.use rfl (F.2.1.2.1 _ q183 rfl)) (fun _ h9 => h9) rfl dX0_copy_126 ?_
              cases g29 : fX0_finding σ28 (σ28 11 0) with
              | none => rw [g29] at h; cases h
              | some r30 =>
                rw [g29, Option.bind_some] at h
                refine x_backi (va_runV (C := RX0) (b := (xa E 0)) (As := [.int (σ28 11 0)]) (rest := []) F.1 (mX0_finding l E σ28 (σ28 11 0) r30.1 r30.2 g29) (cwV 1 hts (lw_V q469 q471 qs2 q99 q472) rfl rfl rfl (by decide +kernel) ⟨Nat.le_of_ble_eq_true rfl, Nat.le_of_ble_eq_true rfl⟩) ⟨xPc.blind, va_recv hK (xO_X hW) (ci := 0) (q0 := 0) rfl rfl, F.pre hW hS (.ref (xa E 0) :: [.int (σ28 11 0)])⟩ rfl rfl hl.1 rfl (lv_room (Nat.le_of_ble_eq_true rfl)) dX0_copy_129 ⟨Nat.le_refl _, Nat.le_refl _⟩) hS (fun H locs hW hS => ?_)
                obtain ⟨h1, h2⟩ := Prod.mk.inj (Option.some.inj h); subst h1; subst h2
                exact x_iret F hr hlk hW hS dX0_copy_132
            · rw [g26, xct_r] at h
              refine x_backTv (x_runVT (C := RX0) (b := (xa E 0)) (As := [.int 0, .int 5]) (rest := []) F.1 (mX0_need l E σ25 0 5 (some r27) σ28 g26) (cwV 2 hts (lw_V q856 q858 qs25 q99 q859) rfl rfl rfl (by decide +kernel) ⟨Nat.le_of_ble_eq_true rfl, Nat.le_of_ble_eq_true rfl⟩) ⟨xPc.blind, va_recv hK (xO_X hW) (ci := 0) (q0 := 0) rfl rfl, F.pre hW hS (.ref (xa E 0) :: [.int 0, .int 5])⟩ rfl rfl hl.1 rfl (lv_room (Nat.le_of_ble_eq_true rfl)) dX0_copy_31 ⟨Nat.le_refl _, Nat.le_refl _⟩) hS (fun H locs hW hS => ?_)
              cases h
          · rw [xro_s] at h
            by_cases hj32 : j31 < 4
            · rw [if_pos hj32] at h
              refine x_backTr (x_runVT (C := RX0) (b := (xa E 0)) (As := [.int a3]) (rest := []) F.1 (mX0_rowAt l E σ3 a3 (some (some j31)) σ25 g23) (cwV 1 hts (lw_V q849 q851 qs24 q99 q852) rfl rfl rfl (by decide +kernel) ⟨Nat.le_of_ble_eq_true rfl, Nat.le_of_ble_eq_true rfl⟩) ⟨xPc.blind, va_recv hK (xO_X hW) (ci := 0) (q0 := 0) rfl rfl, F.pre hW hS (.ref (xa E 0) :: [.int a3])⟩ rfl rfl hl.1 rfl (lv_room (Nat.le_of_ble_eq_true rfl)) dX0_copy_9 ⟨Nat.le_refl _, Nat.le_refl _⟩) hS (fun H locs hW hS => ?_)
              refine lv_astore (lv' := [(7, .ref (xq E j31)), (6, .ref (xq E j21)), (0, .ref (xa E 0)), (1, .int a1), (2, .int a2), (3, .int a3), (4, .int a4), (5, .int a5)]) hx hb dX0_copy_12 hl (by decide) rfl (fun ls hl => ?_)
              refine lv_aload_n hx hb dX0_copy_14 rfl (lv_at hl 2 rfl) ?_
              refine lv_aload hx hb dX0_copy_15 (lv_at hl 1 rfl) ?_
              refine lv_ifnull hx hb dX0_copy_17 ?_
              refine lv_aload hx hb dX0_copy_20 (lv_at hl 0 rfl) ?_
              refine lv_ifnull hx hb dX0_copy_22 ?_
              refine lv_iconst (v := 1) hx hb dX0_copy_25 (by decide) ?_
              refine lv_goto (tgt := 30) hx hb dX0_copy_26 (by decide) ?_
              refine lv_iconst (v := 5) hx hb dX0_copy_30 (by decide) ?_
              rcases g33 : fX0_need σ25 1 5 with _ | ⟨_ | r34, σ35⟩
              · rw [g33] at h; cases h
              · rw [g33, xct_t] at h
                refine x_backTc F (x_runVT (C := RX0) (b := (xa E 0)) (As := [.int 1, .int 5]) (rest := []) F.1 (mX0_need l E σ25 1 5 none σ35 g33) (cwV 2 hts (lw_V q856 q858 qs25 q99 q859) rfl rfl rfl (by decide +kernel) ⟨Nat.le_of_ble_eq_true rfl, Nat.le_of_ble_eq_true rfl⟩) ⟨xPc.blind, va_recv hK (xO_X hW) (ci := 0) (q0 := 0) rfl rfl, F.pre hW hS (.ref (xa E 0) :: [.int 1, .int 5])⟩ rfl rfl hl.1 rfl (lv_room (Nat.le_of_ble_eq_true rfl)) dX0_copy_31 ⟨Nat.le_refl _, Nat.le_refl _⟩) hS htb ⟨by decide, by decide⟩ (by decide) (hts _ q131) (fun H1 hW1 => va_recv hK (xO_F hW1) (ci := 1) (q0 := 0) rfl rfl) (fun H locs hW hS => ?_)
                refine lv_astore (lv' := [(6, .ref (xa E 1)), (7, .ref (xq E j31)), (0, .ref (xa E 0)), (1, .int a1), (2, .int a2), (3, .int a3), (4, .int a4), (5, .int a5)]) hx hb dX0_copy_121 hl (by decide) rfl (fun ls hl => ?_)
                refine lv_aload_n hx hb dX0_copy_123 rfl (lv_at hl 2 rfl) ?_
                refine lv_aload hx hb dX0_copy_124 (lv_at hl 0 rfl) ?_
                refine va_getN (D := xD E) (ci := 1) (v := .int (σ35 11 0)) (C := RX1) (T := TX1) (N := 7) hx hb hts in_X1 hown hK (xO_F hW) 0 rfl rfl 6 (by decide) (va_Nw.use rfl (F.2.1.2.1 _ q183 rfl)) (fun _ h9 => h9) rfl dX0_copy_126 ?_
                cases g92 : fX0_finding σ35 (σ35 11 0) with
                | none => rw [g92] at h; cases h
                | some r93 =>
                  rw [g92, Option.bind_some] at h
                  refine x_backi (va_runV (C := RX0) (b := (xa E 0)) (As := [.int (σ35 11 0)]) (rest := []) F.1 (mX0_finding l E σ35 (σ35 11 0) r93.1 r93.2 g92) (cwV 1 hts (lw_V q469 q471 qs2 q99 q472) rfl rfl rfl (by decide +kernel) ⟨Nat.le_of_ble_eq_true rfl, Nat.le_of_ble_eq_true rfl⟩) ⟨xPc.blind, va_recv hK (xO_X hW) (ci := 0) (q0 := 0) rfl rfl, F.pre hW hS (.ref (xa E 0) :: [.int (σ35 11 0)])⟩ rfl rfl hl.1 rfl (lv_room (Nat.le_of_ble_eq_true rfl)) dX0_copy_129 ⟨Nat.le_refl _, Nat.le_refl _⟩) hS (fun H locs hW hS => ?_)
                  obtain ⟨h1, h2⟩ := Prod.mk.inj (Option.some.inj h); subst h1; subst h2
                  exact x_iret F hr hlk hW hS dX0_copy_132
              · rw [g33, xct_r] at h
                refine x_backTv (x_runVT (C := RX0) (b := (xa E 0)) (As := [.int 1, .int 5]) (rest := []) F.1 (mX0_need l E σ25 1 5 (some r34) σ35 g33) (cwV 2 hts (lw_V q856 q858 qs25 q99 q859) rfl rfl rfl (by decide +kernel) ⟨Nat.le_of_ble_eq_true rfl, Nat.le_of_ble_eq_true rfl⟩) ⟨xPc.blind, va_recv hK (xO_X hW) (ci := 0) (q0 := 0) rfl rfl, F.pre hW hS (.ref (xa E 0) :: [.int 1, .int 5])⟩ rfl rfl hl.1 rfl (lv_room (Nat.le_of_ble_eq_true rfl)) dX0_copy_31 ⟨Nat.le_refl _, Nat.le_refl _⟩) hS (fun H locs hW hS => ?_)
                refine lv_aload_n hx hb dX0_copy_34 rfl (lv_at hl 2 rfl) ?_
                refine lv_aload hx hb dX0_copy_35 (lv_at hl 1 rfl) ?_
                cases g36 : fX0_widthOf σ35 j21 with
                | none => rw [g36] at h; cases h
                | some r37 =>
                  rw [g36, Option.bind_some] at h
                  refine x_backi (va_runS (As := [.ref (xq E j21)]) (rest := [.ref (xa E 0)]) F.1 (mX0_widthOf l E σ35 j21 hj22 r37 g36) (va_cwS 1 hts (lw_S q1134 q1135 q99 q1136) rfl rfl rfl (by decide +kernel) ⟨Nat.le_of_ble_eq_true rfl, Nat.le_of_ble_eq_true rfl⟩) ⟨xPc.blind, F.pre hW hS [.ref (xq E j21)]⟩ rfl rfl hl.1 rfl (lv_room (Nat.le_of_ble_eq_true rfl)) dX0_copy_37 ⟨Nat.le_refl _, Nat.le_refl _⟩) hS (fun H locs hW hS => ?_)
                  refine lv_aload hx hb dX0_copy_40 (lv_at hl 0 rfl) ?_
                  cases g38 : fX0_widthOf σ35 j31 with
                  | none => rw [g38] at h; cases h
                  | some r39 =>
                    rw [g38, Option.bind_some] at h
                    refine x_backi (va_runS (As := [.ref (xq E j31)]) (rest := [.int r37, .ref (xa E 0)]) F.1 (mX0_widthOf l E σ35 j31 hj32 r39 g38) (va_cwS 1 hts (lw_S q1134 q1135 q99 q1136) rfl rfl rfl (by decide +kernel) ⟨Nat.le_of_ble_eq_true rfl, Nat.le_of_ble_eq_true rfl⟩) ⟨xPc.blind, F.pre hW hS [.ref (xq E j31)]⟩ rfl rfl hl.1 rfl (lv_room (Nat.le_of_ble_eq_true rfl)) dX0_copy_42 ⟨Nat.le_refl _, Nat.le_refl _⟩) hS (fun H locs hW hS => ?_)
                    refine lv_icmp_ne (tgt := 52) hx hb dX0_copy_45 (by decide) (fun c40 => ?_) (fun c40 => ?_)
                    · rw [if_neg c40] at h
                      refine lv_iconst (v := 0) hx hb dX0_copy_52 (by decide) ?_
                      refine lv_iconst (v := 2) hx hb dX0_copy_53 (by decide) ?_
                      rcases g41 : fX0_need σ35 0 2 with _ | ⟨_ | r42, σ43⟩
                      · rw [g41] at h; cases h
                      · rw [g41, xct_t] at h
                        refine x_backTc F (x_runVT (C := RX0) (b := (xa E 0)) (As := [.int 0, .int 2]) (rest := []) F.1 (mX0_need l E σ35 0 2 none σ43 g41) (cwV 2 hts (lw_V q856 q858 qs25 q99 q859) rfl rfl rfl (by decide +kernel) ⟨Nat.le_of_ble_eq_true rfl, Nat.le_of_ble_eq_true rfl⟩) ⟨xPc.blind, va_recv hK (xO_X hW) (ci := 0) (q0 := 0) rfl rfl, F.pre hW hS (.ref (xa E 0) :: [.int 0, .int 2])⟩ rfl rfl hl.1 rfl (lv_room (Nat.le_of_ble_eq_true rfl)) dX0_copy_54 ⟨Nat.le_refl _, Nat.le_refl _⟩) hS htb ⟨by decide, by decide⟩ (by decide) (hts _ q131) (fun H1 hW1 => va_recv hK (xO_F hW1) (ci := 1) (q0 := 0) rfl rfl) (fun H locs hW hS => ?_)
                        refine lv_astore (lv' := [(6, .ref (xa E 1)), (7, .ref (xq E j31)), (0, .ref (xa E 0)), (1, .int a1), (2, .int a2), (3, .int a3), (4, .int a4), (5, .int a5)]) hx hb dX0_copy_121 hl (by decide) rfl (fun ls hl => ?_)
                        refine lv_aload_n hx hb dX0_copy_123 rfl (lv_at hl 2 rfl) ?_
                        refine lv_aload hx hb dX0_copy_124 (lv_at hl 0 rfl) ?_
                        refine va_getN (D := xD E) (ci := 1) (v := .int (σ43 11 0)) (C := RX1) (T := TX1) (N := 7) hx hb hts in_X1 hown hK (xO_F hW) 0 rfl rfl 6 (by decide) (va_Nw.use rfl (F.2.1.2.1 _ q183 rfl)) (fun _ h9 => h9) rfl dX0_copy_126 ?_
                        cases g44 : fX0_finding σ43 (σ43 11 0) with
                        | none => rw [g44] at h; cases h
                        | some r45 =>
                          rw [g44, Option.bind_some] at h
                          refine x_backi (va_runV (C := RX0) (b := (xa E 0)) (As := [.int (σ43 11 0)]) (rest := []) F.1 (mX0_finding l E σ43 (σ43 11 0) r45.1 r45.2 g44) (cwV 1 hts (lw_V q469 q471 qs2 q99 q472) rfl rfl rfl (by decide +kernel) ⟨Nat.le_of_ble_eq_true rfl, Nat.le_of_ble_eq_true rfl⟩) ⟨xPc.blind, va_recv hK (xO_X hW) (ci := 0) (q0 := 0) rfl rfl, F.pre hW hS (.ref (xa E 0) :: [.int (σ43 11 0)])⟩ rfl rfl hl.1 rfl (lv_room (Nat.le_of_ble_eq_true rfl)) dX0_copy_129 ⟨Nat.le_refl _, Nat.le_refl _⟩) hS (fun H locs hW hS => ?_)
                          obtain ⟨h1, h2⟩ := Prod.mk.inj (Option.some.inj h); subst h1; subst h2
                          exact x_iret F hr hlk hW hS dX0_copy_132
                      · rw [g41, xct_r] at h
                        refine x_backTv (x_runVT (C := RX0) (b := (xa E 0)) (As := [.int 0, .int 2]) (rest := []) F.1 (mX0_need l E σ35 0 2 (some r42) σ43 g41) (cwV 2 hts (lw_V q856 q858 qs25 q99 q859) rfl rfl rfl (by decide +kernel) ⟨Nat.le_of_ble_eq_true rfl, Nat.le_of_ble_eq_true rfl⟩) ⟨xPc.blind, va_recv hK (xO_X hW) (ci := 0) (q0 := 0) rfl rfl, F.pre hW hS (.ref (xa E 0) :: [.int 0, .int 2])⟩ rfl rfl hl.1 rfl (lv_room (Nat.le_of_ble_eq_true rfl)) dX0_copy_54 ⟨Nat.le_refl _, Nat.le_refl _⟩) hS (fun H locs hW hS => ?_)
                        cases h
                    · rw [if_pos c40] at h
                      refine lv_iconst (v := 1) hx hb dX0_copy_48 (by decide) ?_
                      refine lv_goto (tgt := 53) hx hb dX0_copy_49 (by decide) ?_
                      refine lv_iconst (v := 2) hx hb dX0_copy_53 (by decide) ?_
                      rcases g46 : fX0_need σ35 1 2 with _ | ⟨_ | r47, σ48⟩
                      · rw [g46] at h; cases h
                      · rw [g46, xct_t] at h
                        refine x_backTc F (x_runVT (C := RX0) (b := (xa E 0)) (As := [.int 1, .int 2]) (rest := []) F.1 (mX0_need l E σ35 1 2 none σ48 g46) (cwV 2 hts (lw_V q856 q858 qs25 q99 q859) rfl rfl rfl (by decide +kernel) ⟨Nat.le_of_ble_eq_true rfl, Nat.le_of_ble_eq_true rfl⟩) ⟨xPc.blind, va_recv hK (xO_X hW) (ci := 0) (q0 := 0) rfl rfl, F.pre hW hS (.ref (xa E 0) :: [.int 1, .int 2])⟩ rfl rfl hl.1 rfl (lv_room (Nat.le_of_ble_eq_true rfl)) dX0_copy_54 ⟨Nat.le_refl _, Nat.le_refl _⟩) hS htb ⟨by decide, by decide⟩ (by decide) (hts _ q131) (fun H1 hW1 => va_recv hK (xO_F hW1) (ci := 1) (q0 := 0) rfl rfl) (fun H locs hW hS => ?_)
                        refine lv_astore (lv' := [(6, .ref (xa E 1)), (7, .ref (xq E j31)), (0, .ref (xa E 0)), (1, .int a1), (2, .int a2), (3, .int a3), (4, .int a4), (5, .int a5)]) hx hb dX0_copy_121 hl (by decide) rfl (fun ls hl => ?_)
                        refine lv_aload_n hx hb dX0_copy_123 rfl (lv_at hl 2 rfl) ?_
                        refine lv_aload hx hb dX0_copy_124 (lv_at hl 0 rfl) ?_
                        refine va_getN (D := xD E) (ci := 1) (v := .int (σ48 11 0)) (C := RX1) (T := TX1) (N := 7) hx hb hts in_X1 hown hK (xO_F hW) 0 rfl rfl 6 (by decide) (va_Nw.use rfl (F.2.1.2.1 _ q183 rfl)) (fun _ h9 => h9) rfl dX0_copy_126 ?_
                        cases g90 : fX0_finding σ48 (σ48 11 0) with
                        | none => rw [g90] at h; cases h
                        | some r91 =>
                          rw [g90, Option.bind_some] at h
                          refine x_backi (va_runV (C := RX0) (b := (xa E 0)) (As := [.int (σ48 11 0)]) (rest := []) F.1 (mX0_finding l E σ48 (σ48 11 0) r91.1 r91.2 g90) (cwV 1 hts (lw_V q469 q471 qs2 q99 q472) rfl rfl rfl (by decide +kernel) ⟨Nat.le_of_ble_eq_true rfl, Nat.le_of_ble_eq_true rfl⟩) ⟨xPc.blind, va_recv hK (xO_X hW) (ci := 0) (q0 := 0) rfl rfl, F.pre hW hS (.ref (xa E 0) :: [.int (σ48 11 0)])⟩ rfl rfl hl.1 rfl (lv_room (Nat.le_of_ble_eq_true rfl)) dX0_copy_129 ⟨Nat.le_refl _, Nat.le_refl _⟩) hS (fun H locs hW hS => ?_)
                          obtain ⟨h1, h2⟩ := Prod.mk.inj (Option.some.inj h); subst h1; subst h2
                          exact x_iret F hr hlk hW hS dX0_copy_132
                      · rw [g46, xct_r] at h
                        refine x_backTv (x_runVT (C := RX0) (b := (xa E 0)) (As := [.int 1, .int 2]) (rest := []) F.1 (mX0_need l E σ35 1 2 (some r47) σ48 g46) (cwV 2 hts (lw_V q856 q858 qs25 q99 q859) rfl rfl rfl (by decide +kernel) ⟨Nat.le_of_ble_eq_true rfl, Nat.le_of_ble_eq_true rfl⟩) ⟨xPc.blind, va_recv hK (xO_X hW) (ci := 0) (q0 := 0) rfl rfl, F.pre hW hS (.ref (xa E 0) :: [.int 1, .int 2])⟩ rfl rfl hl.1 rfl (lv_room (Nat.le_of_ble_eq_true rfl)) dX0_copy_54 ⟨Nat.le_refl _, Nat.le_refl _⟩) hS (fun H locs hW hS => ?_)
                        refine lv_aload_n hx hb dX0_copy_57 rfl (lv_at hl 2 rfl) ?_
                        refine lv_iload hx hb dX0_copy_58 (lv_at hl 7 rfl) ?_
                        refine lv_if_lt (tgt := 101) hx hb dX0_copy_60 (by decide) (fun c49 => ?_) (fun c49 => ?_)
                        · rw [if_pos c49] at h
                          refine lv_iconst (v := 0) hx hb dX0_copy_101 (by decide) ?_
                          refine lv_iconst (v := 0) hx hb dX0_copy_102 (by decide) ?_
                          rcases g50 : fX0_need σ48 0 0 with _ | ⟨_ | r51, σ52⟩
                          · rw [g50] at h; cases h
                          · rw [g50, xct_t] at h
                            refine x_backTc F (x_runVT (C := RX0) (b := (xa E 0)) (As := [.int 0, .int 0]) (rest := []) F.1 (mX0_need l E σ48 0 0 none σ52 g50) (cwV 2 hts (lw_V q856 q858 qs25 q99 q859) rfl rfl rfl (by decide +kernel) ⟨Nat.le_of_ble_eq_true rfl, Nat.le_of_ble_eq_true rfl⟩) ⟨xPc.blind, va_recv hK (xO_X hW) (ci := 0) (q0 := 0) rfl rfl, F.pre hW hS (.ref (xa E 0) :: [.int 0, .int 0])⟩ rfl rfl hl.1 rfl (lv_room (Nat.le_of_ble_eq_true rfl)) dX0_copy_103 ⟨Nat.le_refl _, Nat.le_refl _⟩) hS htb ⟨by decide, by decide⟩ (by decide) (hts _ q131) (fun H1 hW1 => va_recv hK (xO_F hW1) (ci := 1) (q0 := 0) rfl rfl) (fun H locs hW hS => ?_)
                            refine lv_astore (lv' := [(6, .ref (xa E 1)), (7, .ref (xq E j31)), (0, .ref (xa E 0)), (1, .int a1), (2, .int a2), (3, .int a3), (4, .int a4), (5, .int a5)]) hx hb dX0_copy_121 hl (by decide) rfl (fun ls hl => ?_)
                            refine lv_aload_n hx hb dX0_copy_123 rfl (lv_at hl 2 rfl) ?_
                            refine lv_aload hx hb dX0_copy_124 (lv_at hl 0 rfl) ?_
                            refine va_getN (D := xD E) (ci := 1) (v := .int (σ52 11 0)) (C := RX1) (T := TX1) (N := 7) hx hb hts in_X1 hown hK (xO_F hW) 0 rfl rfl 6 (by decide) (va_Nw.use rfl (F.2.1.2.1 _ q183 rfl)) (fun _ h9 => h9) rfl dX0_copy_126 ?_
                            cases g53 : fX0_finding σ52 (σ52 11 0) with
                            | none => rw [g53] at h; cases h
                            | some r54 =>
                              rw [g53, Option.bind_some] at h
                              refine x_backi (va_runV (C := RX0) (b := (xa E 0)) (As := [.int (σ52 11 0)]) (rest := []) F.1 (mX0_finding l E σ52 (σ52 11 0) r54.1 r54.2 g53) (cwV 1 hts (lw_V q469 q471 qs2 q99 q472) rfl rfl rfl (by decide +kernel) ⟨Nat.le_of_ble_eq_true rfl, Nat.le_of_ble_eq_true rfl⟩) ⟨xPc.blind, va_recv hK (xO_X hW) (ci := 0) (q0 := 0) rfl rfl, F.pre hW hS (.ref (xa E 0) :: [.int (σ52 11 0)])⟩ rfl rfl hl.1 rfl (lv_room (Nat.le_of_ble_eq_true rfl)) dX0_copy_129 ⟨Nat.le_refl _, Nat.le_refl _⟩) hS (fun H locs hW hS => ?_)
                              obtain ⟨h1, h2⟩ := Prod.mk.inj (Option.some.inj h); subst h1; subst h2
                              exact x_iret F hr hlk hW hS dX0_copy_132
                          · rw [g50, xct_r] at h
                            refine x_backTv (x_runVT (C := RX0) (b := (xa E 0)) (As := [.int 0, .int 0]) (rest := []) F.1 (mX0_need l E σ48 0 0 (some r51) σ52 g50) (cwV 2 hts (lw_V q856 q858 qs25 q99 q859) rfl rfl rfl (by decide +kernel) ⟨Nat.le_of_ble_eq_true rfl, Nat.le_of_ble_eq_true rfl⟩) ⟨xPc.blind, va_recv hK (xO_X hW) (ci := 0) (q0 := 0) rfl rfl, F.pre hW hS (.ref (xa E 0) :: [.int 0, .int 0])⟩ rfl rfl hl.1 rfl (lv_room (Nat.le_of_ble_eq_true rfl)) dX0_copy_103 ⟨Nat.le_refl _, Nat.le_refl _⟩) hS (fun H locs hW hS => ?_)
                            cases h
                        · rw [if_neg c49] at h
                          refine lv_iload_n hx hb dX0_copy_63 rfl (lv_at hl 4 rfl) ?_
                          refine lv_if_lt (tgt := 101) hx hb dX0_copy_64 (by decide) (fun c55 => ?_) (fun c55 => ?_)
                          · rw [if_pos c55] at h
                            refine lv_iconst (v := 0) hx hb dX0_copy_101 (by decide) ?_
                            refine lv_iconst (v := 0) hx hb dX0_copy_102 (by decide) ?_
                            rcases g56 : fX0_need σ48 0 0 with _ | ⟨_ | r57, σ58⟩
                            · rw [g56] at h; cases h
                            · rw [g56, xct_t] at h
                              refine x_backTc F (x_runVT (C := RX0) (b := (xa E 0)) (As := [.int 0, .int 0]) (rest := []) F.1 (mX0_need l E σ48 0 0 none σ58 g56) (cwV 2 hts (lw_V q856 q858 qs25 q99 q859) rfl rfl rfl (by decide +kernel) ⟨Nat.le_of_ble_eq_true rfl, Nat.le_of_ble_eq_true rfl⟩) ⟨xPc.blind, va_recv hK (xO_X hW) (ci := 0) (q0 := 0) rfl rfl, F.pre hW hS (.ref (xa E 0) :: [.int 0, .int 0])⟩ rfl rfl hl.1 rfl (lv_room (Nat.le_of_ble_eq_true rfl)) dX0_copy_103 ⟨Nat.le_refl _, Nat.le_refl _⟩) hS htb ⟨by decide, by decide⟩ (by decide) (hts _ q131) (fun H1 hW1 => va_recv hK (xO_F hW1) (ci := 1) (q0 := 0) rfl rfl) (fun H locs hW hS => ?_)
                              refine lv_astore (lv' := [(6, .ref (xa E 1)), (7, .ref (xq E j31)), (0, .ref (xa E 0)), (1, .int a1), (2, .int a2), (3, .int a3), (4, .int a4), (5, .int a5)]) hx hb dX0_copy_121 hl (by decide) rfl (fun ls hl => ?_)
                              refine lv_aload_n hx hb dX0_copy_123 rfl (lv_at hl 2 rfl) ?_
                              refine lv_aload hx hb dX0_copy_124 (lv_at hl 0 rfl) ?_
                              refine va_getN (D := xD E) (ci := 1) (v := .int (σ58 11 0)) (C := RX1) (T := TX1) (N := 7) hx hb hts in_X1 hown hK (xO_F hW) 0 rfl rfl 6 (by decide) (va_Nw.use rfl (F.2.1.2.1 _ q183 rfl)) (fun _ h9 => h9) rfl dX0_copy_126 ?_
                              cases g59 : fX0_finding σ58 (σ58 11 0) with
                              | none => rw [g59] at h; cases h
                              | some r60 =>
                                rw [g59, Option.bind_some] at h
                                refine x_backi (va_runV (C := RX0) (b := (xa E 0)) (As := [.int (σ58 11 0)]) (rest := []) F.1 (mX0_finding l E σ58 (σ58 11 0) r60.1 r60.2 g59) (cwV 1 hts (lw_V q469 q471 qs2 q99 q472) rfl rfl rfl (by decide +kernel) ⟨Nat.le_of_ble_eq_true rfl, Nat.le_of_ble_eq_true rfl⟩) ⟨xPc.blind, va_recv hK (xO_X hW) (ci := 0) (q0 := 0) rfl rfl, F.pre hW hS (.ref (xa E 0) :: [.int (σ58 11 0)])⟩ rfl rfl hl.1 rfl (lv_room (Nat.le_of_ble_eq_true rfl)) dX0_copy_129 ⟨Nat.le_refl _, Nat.le_refl _⟩) hS (fun H locs hW hS => ?_)
                                obtain ⟨h1, h2⟩ := Prod.mk.inj (Option.some.inj h); subst h1; subst h2
                                exact x_iret F hr hlk hW hS dX0_copy_132
                            · rw [g56, xct_r] at h
                              refine x_backTv (x_runVT (C := RX0) (b := (xa E 0)) (As := [.int 0, .int 0]) (rest := []) F.1 (mX0_need l E σ48 0 0 (some r57) σ58 g56) (cwV 2 hts (lw_V q856 q858 qs25 q99 q859) rfl rfl rfl (by decide +kernel) ⟨Nat.le_of_ble_eq_true rfl, Nat.le_of_ble_eq_true rfl⟩) ⟨xPc.blind, va_recv hK (xO_X hW) (ci := 0) (q0 := 0) rfl rfl, F.pre hW hS (.ref (xa E 0) :: [.int 0, .int 0])⟩ rfl rfl hl.1 rfl (lv_room (Nat.le_of_ble_eq_true rfl)) dX0_copy_103 ⟨Nat.le_refl _, Nat.le_refl _⟩) hS (fun H locs hW hS => ?_)
                              cases h
                          · rw [if_neg c55] at h
                            refine lv_iload hx hb dX0_copy_67 (lv_at hl 6 rfl) ?_
                            refine lv_if_lt (tgt := 101) hx hb dX0_copy_69 (by decide) (fun c61 => ?_) (fun c61 => ?_)
                            · rw [if_pos c61] at h
                              refine lv_iconst (v := 0) hx hb dX0_copy_101 (by decide) ?_
                              refine lv_iconst (v := 0) hx hb dX0_copy_102 (by decide) ?_
                              rcases g62 : fX0_need σ48 0 0 with _ | ⟨_ | r63, σ64⟩
                              · rw [g62] at h; cases h
                              · rw [g62, xct_t] at h
                                refine x_backTc F (x_runVT (C := RX0) (b := (xa E 0)) (As := [.int 0, .int 0]) (rest := []) F.1 (mX0_need l E σ48 0 0 none σ64 g62) (cwV 2 hts (lw_V q856 q858 qs25 q99 q859) rfl rfl rfl (by decide +kernel) ⟨Nat.le_of_ble_eq_true rfl, Nat.le_of_ble_eq_true rfl⟩) ⟨xPc.blind, va_recv hK (xO_X hW) (ci := 0) (q0 := 0) rfl rfl, F.pre hW hS (.ref (xa E 0) :: [.int 0, .int 0])⟩ rfl rfl hl.1 rfl (lv_room (Nat.le_of_ble_eq_true rfl)) dX0_copy_103 ⟨Nat.le_refl _, Nat.le_refl _⟩) hS htb ⟨by decide, by decide⟩ (by decide) (hts _ q131) (fun H1 hW1 => va_recv hK (xO_F hW1) (ci := 1) (q0 := 0) rfl rfl) (fun H locs hW hS => ?_)
                                refine lv_astore (lv' := [(6, .ref (xa E 1)), (7, .ref (xq E j31)), (0, .ref (xa E 0)), (1, .int a1), (2, .int a2), (3, .int a3), (4, .int a4), (5, .int a5)]) hx hb dX0_copy_121 hl (by decide) rfl (fun ls hl => ?_)
                                refine lv_aload_n hx hb dX0_copy_123 rfl (lv_at hl 2 rfl) ?_
                                refine lv_aload hx hb dX0_copy_124 (lv_at hl 0 rfl) ?_
                                refine va_getN (D := xD E) (ci := 1) (v := .int (σ64 11 0)) (C := RX1) (T := TX1) (N := 7) hx hb hts in_X1 hown hK (xO_F hW) 0 rfl rfl 6 (by decide) (va_Nw.use rfl (F.2.1.2.1 _ q183 rfl)) (fun _ h9 => h9) rfl dX0_copy_126 ?_
                                cases g65 : fX0_finding σ64 (σ64 11 0) with
                                | none => rw [g65] at h; cases h
                                | some r66 =>
                                  rw [g65, Option.bind_some] at h
                                  refine x_backi (va_runV (C := RX0) (b := (xa E 0)) (As := [.int (σ64 11 0)]) (rest := []) F.1 (mX0_finding l E σ64 (σ64 11 0) r66.1 r66.2 g65) (cwV 1 hts (lw_V q469 q471 qs2 q99 q472) rfl rfl rfl (by decide +kernel) ⟨Nat.le_of_ble_eq_true rfl, Nat.le_of_ble_eq_true rfl⟩) ⟨xPc.blind, va_recv hK (xO_X hW) (ci := 0) (q0 := 0) rfl rfl, F.pre hW hS (.ref (xa E 0) :: [.int (σ64 11 0)])⟩ rfl rfl hl.1 rfl (lv_room (Nat.le_of_ble_eq_true rfl)) dX0_copy_129 ⟨Nat.le_refl _, Nat.le_refl _⟩) hS (fun H locs hW hS => ?_)
                                  obtain ⟨h1, h2⟩ := Prod.mk.inj (Option.some.inj h); subst h1; subst h2
                                  exact x_iret F hr hlk hW hS dX0_copy_132
                              · rw [g62, xct_r] at h
                                refine x_backTv (x_runVT (C := RX0) (b := (xa E 0)) (As := [.int 0, .int 0]) (rest := []) F.1 (mX0_need l E σ48 0 0 (some r63) σ64 g62) (cwV 2 hts (lw_V q856 q858 qs25 q99 q859) rfl rfl rfl (by decide +kernel) ⟨Nat.le_of_ble_eq_true rfl, Nat.le_of_ble_eq_true rfl⟩) ⟨xPc.blind, va_recv hK (xO_X hW) (ci := 0) (q0 := 0) rfl rfl, F.pre hW hS (.ref (xa E 0) :: [.int 0, .int 0])⟩ rfl rfl hl.1 rfl (lv_room (Nat.le_of_ble_eq_true rfl)) dX0_copy_103 ⟨Nat.le_refl _, Nat.le_refl _⟩) hS (fun H locs hW hS => ?_)
                                cases h
                            · rw [if_neg c61] at h
                              refine lv_iload_n hx hb dX0_copy_72 rfl (lv_at hl 4 rfl) ?_
                              refine lv_aload hx hb dX0_copy_73 (lv_at hl 1 rfl) ?_
                              cases g67 : fX0_length σ48 j21 with
                              | none => rw [g67] at h; cases h
                              | some r68 =>
                                rw [g67, Option.bind_some] at h
                                refine x_backi (va_runS (As := [.ref (xq E j21)]) (rest := [.int a2, .ref (xa E 0)]) F.1 (mX0_length l E σ48 j21 hj22 r68 g67) (va_cwS 1 hts (lw_S q871 q872 q99 q873) rfl rfl rfl (by decide +kernel) ⟨Nat.le_of_ble_eq_true rfl, Nat.le_of_ble_eq_true rfl⟩) ⟨xPc.blind, F.pre hW hS [.ref (xq E j21)]⟩ rfl rfl hl.1 rfl (lv_room (Nat.le_of_ble_eq_true rfl)) dX0_copy_75 ⟨Nat.le_refl _, Nat.le_refl _⟩) hS (fun H locs hW hS => ?_)
                                refine lv_iload hx hb dX0_copy_78 (lv_at hl 7 rfl) ?_
                                refine lv_isub hx hb dX0_copy_80 ?_
                                refine lv_icmp_gt (tgt := 101) hx hb dX0_copy_81 (by decide) (fun c69 => ?_) (fun c69 => ?_)
                                · rw [if_pos c69] at h
                                  refine lv_iconst (v := 0) hx hb dX0_copy_101 (by decide) ?_
                                  refine lv_iconst (v := 0) hx hb dX0_copy_102 (by decide) ?_
                                  rcases g70 : fX0_need σ48 0 0 with _ | ⟨_ | r71, σ72⟩
                                  · rw [g70] at h; cases h
                                  · rw [g70, xct_t] at h
                                    refine x_backTc F (x_runVT (C := RX0) (b := (xa E 0)) (As := [.int 0, .int 0]) (rest := []) F.1 (mX0_need l E σ48 0 0 none σ72 g70) (cwV 2 hts (lw_V q856 q858 qs25 q99 q859) rfl rfl rfl (by decide +kernel) ⟨Nat.le_of_ble_eq_true rfl, Nat.le_of_ble_eq_true rfl⟩) ⟨xPc.blind, va_recv hK (xO_X hW) (ci := 0) (q0 := 0) rfl rfl, F.pre hW hS (.ref (xa E 0) :: [.int 0, .int 0])⟩ rfl rfl hl.1 rfl (lv_room (Nat.le_of_ble_eq_true rfl)) dX0_copy_103 ⟨Nat.le_refl _, Nat.le_refl _⟩) hS htb ⟨by decide, by decide⟩ (by decide) (hts _ q131) (fun H1 hW1 => va_recv hK (xO_F hW1) (ci := 1) (q0 := 0) rfl rfl) (fun H locs hW hS => ?_)
                                    refine lv_astore (lv' := [(6, .ref (xa E 1)), (7, .ref (xq E j31)), (0, .ref (xa E 0)), (1, .int a1), (2, .int a2), (3, .int a3), (4, .int a4), (5, .int a5)]) hx hb dX0_copy_121 hl (by decide) rfl (fun ls hl => ?_)
                                    refine lv_aload_n hx hb dX0_copy_123 rfl (lv_at hl 2 rfl) ?_
                                    refine lv_aload hx hb dX0_copy_124 (lv_at hl 0 rfl) ?_
                                    refine va_getN (D := xD E) (ci := 1) (v := .int (σ72 11 0)) (C := RX1) (T := TX1) (N := 7) hx hb hts in_X1 hown hK (xO_F hW) 0 rfl rfl 6 (by decide) (va_Nw.use rfl (F.2.1.2.1 _ q183 rfl)) (fun _ h9 => h9) rfl dX0_copy_126 ?_
                                    cases g73 : fX0_finding σ72 (σ72 11 0) with
                                    | none => rw [g73] at h; cases h
                                    | some r74 =>
                                      rw [g73, Option.bind_some] at h
                                      refine x_backi (va_runV (C := RX0) (b := (xa E 0)) (As := [.int (σ72 11 0)]) (rest := []) F.1 (mX0_finding l E σ72 (σ72 11 0) r74.1 r74.2 g73) (cwV 1 hts (lw_V q469 q471 qs2 q99 q472) rfl rfl rfl (by decide +kernel) ⟨Nat.le_of_ble_eq_true rfl, Nat.le_of_ble_eq_true rfl⟩) ⟨xPc.blind, va_recv hK (xO_X hW) (ci := 0) (q0 := 0) rfl rfl, F.pre hW hS (.ref (xa E 0) :: [.int (σ72 11 0)])⟩ rfl rfl hl.1 rfl (lv_room (Nat.le_of_ble_eq_true rfl)) dX0_copy_129 ⟨Nat.le_refl _, Nat.le_refl _⟩) hS (fun H locs hW hS => ?_)
                                      obtain ⟨h1, h2⟩ := Prod.mk.inj (Option.some.inj h); subst h1; subst h2
                                      exact x_iret F hr hlk hW hS dX0_copy_132
                                  · rw [g70, xct_r] at h
                                    refine x_backTv (x_runVT (C := RX0) (b := (xa E 0)) (As := [.int 0, .int 0]) (rest := []) F.1 (mX0_need l E σ48 0 0 (some r71) σ72 g70) (cwV 2 hts (lw_V q856 q858 qs25 q99 q859) rfl rfl rfl (by decide +kernel) ⟨Nat.le_of_ble_eq_true rfl, Nat.le_of_ble_eq_true rfl⟩) ⟨xPc.blind, va_recv hK (xO_X hW) (ci := 0) (q0 := 0) rfl rfl, F.pre hW hS (.ref (xa E 0) :: [.int 0, .int 0])⟩ rfl rfl hl.1 rfl (lv_room (Nat.le_of_ble_eq_true rfl)) dX0_copy_103 ⟨Nat.le_refl _, Nat.le_refl _⟩) hS (fun H locs hW hS => ?_)
                                    cases h
                                · rw [if_neg c69] at h
                                  refine lv_iload hx hb dX0_copy_84 (lv_at hl 6 rfl) ?_
                                  refine lv_aload hx hb dX0_copy_86 (lv_at hl 0 rfl) ?_
                                  cases g75 : fX0_length σ48 j31 with
                                  | none => rw [g75] at h; cases h
                                  | some r76 =>
                                    rw [g75, Option.bind_some] at h
                                    refine x_backi (va_runS (As := [.ref (xq E j31)]) (rest := [.int a4, .ref (xa E 0)]) F.1 (mX0_length l E σ48 j31 hj32 r76 g75) (va_cwS 1 hts (lw_S q871 q872 q99 q873) rfl rfl rfl (by decide +kernel) ⟨Nat.le_of_ble_eq_true rfl, Nat.le_of_ble_eq_true rfl⟩) ⟨xPc.blind, F.pre hW hS [.ref (xq E j31)]⟩ rfl rfl hl.1 rfl (lv_room (Nat.le_of_ble_eq_true rfl)) dX0_copy_88 ⟨Nat.le_refl _, Nat.le_refl _⟩) hS (fun H locs hW hS => ?_)
                                    refine lv_iload hx hb dX0_copy_91 (lv_at hl 7 rfl) ?_
                                    refine lv_isub hx hb dX0_copy_93 ?_
                                    refine lv_icmp_gt (tgt := 101) hx hb dX0_copy_94 (by decide) (fun c77 => ?_) (fun c77 => ?_)
                                    · rw [if_pos c77] at h
                                      refine lv_iconst (v := 0) hx hb dX0_copy_101 (by decide) ?_
                                      refine lv_iconst (v := 0) hx hb dX0_copy_102 (by decide) ?_
                                      rcases g78 : fX0_need σ48 0 0 with _ | ⟨_ | r79, σ80⟩
                                      · rw [g78] at h; cases h
                                      · rw [g78, xct_t] at h
                                        refine x_backTc F (x_runVT (C := RX0) (b := (xa E 0)) (As := [.int 0, .int 0]) (rest := []) F.1 (mX0_need l E σ48 0 0 none σ80 g78) (cwV 2 hts (lw_V q856 q858 qs25 q99 q859) rfl rfl rfl (by decide +kernel) ⟨Nat.le_of_ble_eq_true rfl, Nat.le_of_ble_eq_true rfl⟩) ⟨xPc.blind, va_recv hK (xO_X hW) (ci := 0) (q0 := 0) rfl rfl, F.pre hW hS (.ref (xa E 0) :: [.int 0, .int 0])⟩ rfl rfl hl.1 rfl (lv_room (Nat.le_of_ble_eq_true rfl)) dX0_copy_103 ⟨Nat.le_refl _, Nat.le_refl _⟩) hS htb ⟨by decide, by decide⟩ (by decide) (hts _ q131) (fun H1 hW1 => va_recv hK (xO_F hW1) (ci := 1) (q0 := 0) rfl rfl) (fun H locs hW hS => ?_)
                                        refine lv_astore (lv' := [(6, .ref (xa E 1)), (7, .ref (xq E j31)), (0, .ref (xa E 0)), (1, .int a1), (2, .int a2), (3, .int a3), (4, .int a4), (5, .int a5)]) hx hb dX0_copy_121 hl (by decide) rfl (fun ls hl => ?_)
                                        refine lv_aload_n hx hb dX0_copy_123 rfl (lv_at hl 2 rfl) ?_
                                        refine lv_aload hx hb dX0_copy_124 (lv_at hl 0 rfl) ?_
                                        refine va_getN (D := xD E) (ci := 1) (v := .int (σ80 11 0)) (C := RX1) (T := TX1) (N := 7) hx hb hts in_X1 hown hK (xO_F hW) 0 rfl rfl 6 (by decide) (va_Nw.use rfl (F.2.1.2.1 _ q183 rfl)) (fun _ h9 => h9) rfl dX0_copy_126 ?_
                                        cases g81 : fX0_finding σ80 (σ80 11 0) with
                                        | none => rw [g81] at h; cases h
                                        | some r82 =>
                                          rw [g81, Option.bind_some] at h
                                          refine x_backi (va_runV (C := RX0) (b := (xa E 0)) (As := [.int (σ80 11 0)]) (rest := []) F.1 (mX0_finding l E σ80 (σ80 11 0) r82.1 r82.2 g81) (cwV 1 hts (lw_V q469 q471 qs2 q99 q472) rfl rfl rfl (by decide +kernel) ⟨Nat.le_of_ble_eq_true rfl, Nat.le_of_ble_eq_true rfl⟩) ⟨xPc.blind, va_recv hK (xO_X hW) (ci := 0) (q0 := 0) rfl rfl, F.pre hW hS (.ref (xa E 0) :: [.int (σ80 11 0)])⟩ rfl rfl hl.1 rfl (lv_room (Nat.le_of_ble_eq_true rfl)) dX0_copy_129 ⟨Nat.le_refl _, Nat.le_refl _⟩) hS (fun H locs hW hS => ?_)
                                          obtain ⟨h1, h2⟩ := Prod.mk.inj (Option.some.inj h); subst h1; subst h2
                                          exact x_iret F hr hlk hW hS dX0_copy_132
                                      · rw [g78, xct_r] at h
                                        refine x_backTv (x_runVT (C := RX0) (b := (xa E 0)) (As := [.int 0, .int 0]) (rest := []) F.1 (mX0_need l E σ48 0 0 (some r79) σ80 g78) (cwV 2 hts (lw_V q856 q858 qs25 q99 q859) rfl rfl rfl (by decide +kernel) ⟨Nat.le_of_ble_eq_true rfl, Nat.le_of_ble_eq_true rfl⟩) ⟨xPc.blind, va_recv hK (xO_X hW) (ci := 0) (q0 := 0) rfl rfl, F.pre hW hS (.ref (xa E 0) :: [.int 0, .int 0])⟩ rfl rfl hl.1 rfl (lv_room (Nat.le_of_ble_eq_true rfl)) dX0_copy_103 ⟨Nat.le_refl _, Nat.le_refl _⟩) hS (fun H locs hW hS => ?_)
                                        cases h
                                    · rw [if_neg c77] at h
                                      refine lv_iconst (v := 1) hx hb dX0_copy_97 (by decide) ?_
                                      refine lv_goto (tgt := 102) hx hb dX0_copy_98 (by decide) ?_
                                      refine lv_iconst (v := 0) hx hb dX0_copy_102 (by decide) ?_
                                      rcases g83 : fX0_need σ48 1 0 with _ | ⟨_ | r84, σ85⟩
                                      · rw [g83] at h; cases h
                                      · rw [g83, xct_t] at h
                                        refine x_backTc F (x_runVT (C := RX0) (b := (xa E 0)) (As := [.int 1, .int 0]) (rest := []) F.1 (mX0_need l E σ48 1 0 none σ85 g83) (cwV 2 hts (lw_V q856 q858 qs25 q99 q859) rfl rfl rfl (by decide +kernel) ⟨Nat.le_of_ble_eq_true rfl, Nat.le_of_ble_eq_true rfl⟩) ⟨xPc.blind, va_recv hK (xO_X hW) (ci := 0) (q0 := 0) rfl rfl, F.pre hW hS (.ref (xa E 0) :: [.int 1, .int 0])⟩ rfl rfl hl.1 rfl (lv_room (Nat.le_of_ble_eq_true rfl)) dX0_copy_103 ⟨Nat.le_refl _, Nat.le_refl _⟩) hS htb ⟨by decide, by decide⟩ (by decide) (hts _ q131) (fun H1 hW1 => va_recv hK (xO_F hW1) (ci := 1) (q0 := 0) rfl rfl) (fun H locs hW hS => ?_)
                                        refine lv_astore (lv' := [(6, .ref (xa E 1)), (7, .ref (xq E j31)), (0, .ref (xa E 0)), (1, .int a1), (2, .int a2), (3, .int a3), (4, .int a4), (5, .int a5)]) hx hb dX0_copy_121 hl (by decide) rfl (fun ls hl => ?_)
                                        refine lv_aload_n hx hb dX0_copy_123 rfl (lv_at hl 2 rfl) ?_
                                        refine lv_aload hx hb dX0_copy_124 (lv_at hl 0 rfl) ?_
                                        refine va_getN (D := xD E) (ci := 1) (v := .int (σ85 11 0)) (C := RX1) (T := TX1) (N := 7) hx hb hts in_X1 hown hK (xO_F hW) 0 rfl rfl 6 (by decide) (va_Nw.use rfl (F.2.1.2.1 _ q183 rfl)) (fun _ h9 => h9) rfl dX0_copy_126 ?_
                                        cases g88 : fX0_finding σ85 (σ85 11 0) with
                                        | none => rw [g88] at h; cases h
                                        | some r89 =>
                                          rw [g88, Option.bind_some] at h
                                          refine x_backi (va_runV (C := RX0) (b := (xa E 0)) (As := [.int (σ85 11 0)]) (rest := []) F.1 (mX0_finding l E σ85 (σ85 11 0) r89.1 r89.2 g88) (cwV 1 hts (lw_V q469 q471 qs2 q99 q472) rfl rfl rfl (by decide +kernel) ⟨Nat.le_of_ble_eq_true rfl, Nat.le_of_ble_eq_true rfl⟩) ⟨xPc.blind, va_recv hK (xO_X hW) (ci := 0) (q0 := 0) rfl rfl, F.pre hW hS (.ref (xa E 0) :: [.int (σ85 11 0)])⟩ rfl rfl hl.1 rfl (lv_room (Nat.le_of_ble_eq_true rfl)) dX0_copy_129 ⟨Nat.le_refl _, Nat.le_refl _⟩) hS (fun H locs hW hS => ?_)
                                          obtain ⟨h1, h2⟩ := Prod.mk.inj (Option.some.inj h); subst h1; subst h2
                                          exact x_iret F hr hlk hW hS dX0_copy_132
                                      · rw [g83, xct_r] at h
                                        refine x_backTv (x_runVT (C := RX0) (b := (xa E 0)) (As := [.int 1, .int 0]) (rest := []) F.1 (mX0_need l E σ48 1 0 (some r84) σ85 g83) (cwV 2 hts (lw_V q856 q858 qs25 q99 q859) rfl rfl rfl (by decide +kernel) ⟨Nat.le_of_ble_eq_true rfl, Nat.le_of_ble_eq_true rfl⟩) ⟨xPc.blind, va_recv hK (xO_X hW) (ci := 0) (q0 := 0) rfl rfl, F.pre hW hS (.ref (xa E 0) :: [.int 1, .int 0])⟩ rfl rfl hl.1 rfl (lv_room (Nat.le_of_ble_eq_true rfl)) dX0_copy_103 ⟨Nat.le_refl _, Nat.le_refl _⟩) hS (fun H locs hW hS => ?_)
                                        refine lv_aload hx hb dX0_copy_106 (lv_at hl 1 rfl) ?_
                                        refine lv_iload_n hx hb dX0_copy_108 rfl (lv_at hl 4 rfl) ?_
                                        refine lv_aload hx hb dX0_copy_109 (lv_at hl 0 rfl) ?_
                                        refine lv_iload hx hb dX0_copy_111 (lv_at hl 6 rfl) ?_
                                        refine lv_iload hx hb dX0_copy_113 (lv_at hl 7 rfl) ?_
                                        cases g86 : fX0_slide σ85 j21 a2 j31 a4 a5 with
                                        | none => rw [g86] at h; cases h
                                        | some r87 =>
                                          rw [g86, Option.bind_some] at h
                                          refine x_backv (va_runS (As := [.ref (xq E j21), .int a2, .ref (xq E j31), .int a4, .int a5]) (rest := []) F.1 (mX0_slide l E σ85 j21 hj22 a2 j31 hj32 a4 a5 r87 g86) (va_cwS 5 hts (lw_S q1137 q1138 q99 q1139) rfl rfl rfl (by decide +kernel) ⟨Nat.le_of_ble_eq_true rfl, Nat.le_of_ble_eq_true rfl⟩) ⟨xPc.blind, F.pre hW hS [.ref (xq E j21), .int a2, .ref (xq E j31), .int a4, .int a5]⟩ rfl rfl hl.1 rfl (lv_room (Nat.le_of_ble_eq_true rfl)) dX0_copy_115 ⟨Nat.le_refl _, Nat.le_refl _⟩) hS (fun H locs hW hS => ?_)
                                          refine lv_iload hx hb dX0_copy_118 (lv_at hl 7 rfl) ?_
                                          obtain ⟨h1, h2⟩ := Prod.mk.inj (Option.some.inj h); subst h1; subst h2
                                          exact x_iret F hr hlk hW hS dX0_copy_120
            · rw [if_neg hj32] at h; cases h
      · rw [if_neg hj22] at h; cases h
/-! WildBells.loads(Ljava/lang/Object;)I -/
def gX0_loads_2 (j1 : Nat) : Nat → Int32 → xM → Option (Int32 × xM)
  | 0, _, _ => none
  | n + 1, x2, σ => (fX0_length σ j1).bind (fun r2 => if r2 ≤ x2 then (some (x2, σ)) else (if (fX0_isBell σ x2) = 0 then (some (x2, σ)) else ((fX0_number σ j1 x2).bind (fun r6 => if (fX0_in r6 0 11) = 0 then (some (x2, σ)) else (if xin x2 8 then (gX0_loads_2 j1 n (x2 + 1) (xup σ 0 (146 + 5 * x2.toNatClampNeg + 2) r6)) else none)))))
def fX0_loads (σ : xM) (j1 : Nat) : Option (Int32 × xM) :=
  (gX0_loads_2 j1 xfu 0 σ).bind (fun q10 => some (q10.1, q10.2))
set_option maxHeartbeats 4000000 in
theorem lX0_loads_2 {p : Program} {l : Launch} {e : Env} {s : State} {m : MethodId} {av : Array Value} {below : List Frame} {meth : Method} {c : Code} {Q : State → Prop} {E : xE} {j1 : Nat} (hj1 : j1 < 4) (F : xFx p m c cX0_loads 3 s av RX0 E) : ∀ (n : Nat) (x2 : Int32) (σ : xM) (q : (Int32 × xM)), gX0_loads_2 j1 n x2 σ = some q → ∀ (H : Heap) (locs : List Loc) (ls : Array Slot), xW E σ H → va_S (xA E) s.heap H locs → lv_has ls 3 [(2, .int x2), (0, .ref (xa E 0)), (1, .ref (xq E j1))] → (∀ (H : Heap) (locs : List Loc) (ls : Array Slot), xW E q.2 H → va_S (xA E) s.heap H locs → lv_has ls 3 [(2, .int q.1), (0, .ref (xa E 0)), (1, .ref (xq E j1))] → W p l e ({ frames := 2, cells := 0, slots := 0, locals := 43 } : Room) s m av below meth c H locs 0 0 Q (F0 m 54 ls [])) → W p l e ({ frames := 2, cells := 0, slots := 0, locals := 43 } : Room) s m av below meth c H locs 0 0 Q (F0 m 2 ls []) := by
  obtain ⟨hx, hb, hml, hown, hts⟩ := id F.1
  have hK := F.2.1.1
  intro n
  induction n with
  | zero =>
    intro x2 σ q h
    cases h
  | succ n ih =>
    intro x2 σ q h H locs ls hW hS hl kk
    rw [gX0_loads_2] at h
    refine lv_iload_n hx hb dX0_loads_2 rfl (lv_at hl 0 rfl) ?_
    refine lv_aload_n hx hb dX0_loads_3 rfl (lv_at hl 2 rfl) ?_
    cases g1 : fX0_length σ j1 with
    | none => rw [g1] at h; cases h
    | some r2 =>
      rw [g1, Option.bind_some] at h
      refine x_backi (va_runS (As := [.ref (xq E j1)]) (rest := [.int x2]) F.1 (mX0_length l E σ j1 hj1 r2 g1) (va_cwS 1 hts (lw_S q871 q872 q99 q873) rfl rfl rfl (by decide +kernel) ⟨Nat.le_of_ble_eq_true rfl, Nat.le_of_ble_eq_true rfl⟩) ⟨xPc.blind, F.pre hW hS [.ref (xq E j1)]⟩ rfl rfl hl.1 rfl (lv_room (Nat.le_of_ble_eq_true rfl)) dX0_loads_4 ⟨Nat.le_refl _, Nat.le_refl _⟩) hS (fun H locs hW hS => ?_)
      refine lv_icmp_ge (tgt := 54) hx hb dX0_loads_7 (by decide) (fun c3 => ?_) (fun c3 => ?_)
      · rw [if_pos c3] at h
        have h := Option.some.inj h; subst h
        exact kk _ _ _ hW hS (lv_sub hl [0, 1, 2] rfl)
      · rw [if_neg c3] at h
        refine lv_aload_n hx hb dX0_loads_10 rfl (lv_at hl 1 rfl) ?_
        refine lv_iload_n hx hb dX0_loads_11 rfl (lv_at hl 0 rfl) ?_
        refine x_backi (va_runV (C := RX0) (b := (xa E 0)) (As := [.int x2]) (rest := []) F.1 (mX0_isBell l E σ x2) (cwV 1 hts (lw_V q537 q539 qs3 q99 q540) rfl rfl rfl (by decide +kernel) ⟨Nat.le_of_ble_eq_true rfl, Nat.le_of_ble_eq_true rfl⟩) ⟨xPc.blind, va_recv hK (xO_X hW) (ci := 0) (q0 := 0) rfl rfl, F.pre hW hS (.ref (xa E 0) :: [.int x2])⟩ rfl rfl hl.1 rfl (lv_room (Nat.le_of_ble_eq_true rfl)) dX0_loads_12 ⟨Nat.le_refl _, Nat.le_refl _⟩) hS (fun H locs hW hS => ?_)
        refine lv_if_eq (tgt := 54) hx hb dX0_loads_15 (by decide) (fun c4 => ?_) (fun c4 => ?_)
        · rw [if_pos c4] at h
          have h := Option.some.inj h; subst h
          exact kk _ _ _ hW hS (lv_sub hl [0, 1, 2] rfl)
        · rw [if_neg c4] at h
          refine lv_aload_n hx hb dX0_loads_18 rfl (lv_at hl 2 rfl) ?_
          refine lv_iload_n hx hb dX0_loads_19 rfl (lv_at hl 0 rfl) ?_
          cases g5 : fX0_number σ j1 x2 with
          | none => rw [g5] at h; cases h
          | some r6 =>
            rw [g5, Option.bind_some] at h
            refine x_backi (va_runS (As := [.ref (xq E j1), .int x2]) (rest := []) F.1 (mX0_number l E σ j1 hj1 x2 r6 g5) (va_cwS 2 hts (lw_S q877 q878 q99 q879) rfl rfl rfl (by decide +kernel) ⟨Nat.le_of_ble_eq_true rfl, Nat.le_of_ble_eq_true rfl⟩) ⟨xPc.blind, F.pre hW hS [.ref (xq E j1), .int x2]⟩ rfl rfl hl.1 rfl (lv_room (Nat.le_of_ble_eq_true rfl)) dX0_loads_20 ⟨Nat.le_refl _, Nat.le_refl _⟩) hS (fun H locs hW hS => ?_)
            refine lv_iconst (v := 0) hx hb dX0_loads_23 (by decide) ?_
            refine lv_bipush (v := 11) hx hb dX0_loads_24 (by decide) ?_
            refine x_backi (va_runS (As := [.int r6, .int 0, .int 11]) (rest := []) F.1 (mX0_in l E σ r6 0 11) (va_cwS 3 hts (lw_S q466 q467 q99 q468) rfl rfl rfl (by decide +kernel) ⟨Nat.le_of_ble_eq_true rfl, Nat.le_of_ble_eq_true rfl⟩) ⟨xPc.blind, F.pre hW hS [.int r6, .int 0, .int 11]⟩ rfl rfl hl.1 rfl (lv_room (Nat.le_of_ble_eq_true rfl)) dX0_loads_26 ⟨Nat.le_refl _, Nat.le_refl _⟩) hS (fun H locs hW hS => ?_)
            refine lv_if_eq (tgt := 54) hx hb dX0_loads_29 (by decide) (fun c7 => ?_) (fun c7 => ?_)
            · rw [if_pos c7] at h
              have h := Option.some.inj h; subst h
              exact kk _ _ _ hW hS (lv_sub hl [0, 1, 2] rfl)
            · rw [if_neg c7] at h
              refine lv_aload_n hx hb dX0_loads_32 rfl (lv_at hl 1 rfl) ?_
              refine va_get (D := xD E) (ci := 0) (v := .ref (xa E (xwc 0 0))) (C := RX0) (T := TX0) (N := 15) hx hb hts in_X0 hown hK (xO_X hW) 0 rfl rfl 3 (by decide) (hts _ q416) (fun _ h9 => h9) rfl dX0_loads_33 ?_
              refine va_getN (D := xD E) (ci := 4) (v := .ref (xa E (xwc 0 5))) (C := RX4) (T := TX4) (N := 8) hx hb hts in_X4 hown hK (xO_W hW 0 (by decide)) 0 rfl rfl 4 (by decide) (va_Nw.use rfl (F.2.1.2.1 _ q244 rfl)) (fun _ h9 => h9) rfl dX0_loads_36 ?_
              refine lv_iconst (v := 2) hx hb dX0_loads_39 (by decide) ?_
              refine x_aald (g := fun j => xa E (xwc 0 (6 + j))) (j := 2) F 4 4 5 (xR_5 hW 0 (by decide)) rfl rfl (x_lit (by decide)) (by decide) dX0_loads_40 ?_
              refine lv_iload_n hx hb dX0_loads_41 rfl (lv_at hl 0 rfl) ?_
              refine lv_aload_n hx hb dX0_loads_42 rfl (lv_at hl 2 rfl) ?_
              refine lv_iload_n hx hb dX0_loads_43 rfl (lv_at hl 0 rfl) ?_
              refine x_backi (va_runS (As := [.ref (xq E j1), .int x2]) (rest := [.int x2, .ref (xa E (xwc 0 (6 + 2)))]) F.1 (mX0_number l E σ j1 hj1 x2 r6 g5) (va_cwS 2 hts (lw_S q877 q878 q99 q879) rfl rfl rfl (by decide +kernel) ⟨Nat.le_of_ble_eq_true rfl, Nat.le_of_ble_eq_true rfl⟩) ⟨xPc.blind, F.pre hW hS [.ref (xq E j1), .int x2]⟩ rfl rfl hl.1 rfl (lv_room (Nat.le_of_ble_eq_true rfl)) dX0_loads_44 ⟨Nat.le_refl _, Nat.le_refl _⟩) hS (fun H locs hW hS => ?_)
              by_cases hi8 : xin x2 8
              · rw [if_pos hi8] at h
                refine x_iast F hW hS (xwc 0 (6 + 2)) 8 0 (fun j => 146 + 5 * j + 2) (xw_lt 0 (by decide) _ (Nat.lt_of_lt_of_le (Nat.add_lt_add_left (by decide) 6 : 6 + 2 < 6 + 5) (by decide))) (xw_6 0 (by decide) 2 (by decide)).1 (xw_6 0 (by decide) 2 (by decide)).2 (by decide) hi8 dX0_loads_47 (fun H locs hW hS => ?_)
                refine lv_iinc (k := 0) (v := (x2 + 1)) (lv' := [(2, .int (x2 + 1)), (0, .ref (xa E 0)), (1, .ref (xq E j1))]) hx hb dX0_loads_48 hl rfl rfl (by decide) rfl (fun ls hl => ?_)
                refine lv_goto (tgt := 2) hx hb dX0_loads_51 (by decide) ?_
                exact ih (x2 + 1) (xup σ 0 (146 + 5 * x2.toNatClampNeg + 2) r6) _ h _ _ _ hW hS (lv_sub hl [0, 1, 2] rfl) kk
              · rw [if_neg hi8] at h; cases h
set_option maxHeartbeats 4000000 in
theorem mX0_loads (l : Launch) (E : xE) (σ : xM) (j1 : Nat) (hj1 : j1 < 4) (r : Int32) (σ' : xM) (h : fX0_loads σ j1 = some (r, σ')) : Met l yX0_loads (ws_ yX0_loads cX0_loads 3 (some .int)) ({ frames := 2, cells := 0, slots := 0, locals := 43 } : Room) (xPc E σ [.ref (xa E 0), .ref (xq E j1)]) (xQc E (.returned (some (.int r))) σ') 0 0 (xA E) := by
  refine x_of (C := RX0) (n := "loads") (d := "(Ljava/lang/Object;)I") (r := (some .int)) (by decide) rfl (by first | decide | exact Nat.le_of_ble_eq_true rfl) ?_
  intro p e s m below meth c ls F hr hlk hW hS hl
  have hl : lv_has ls 3 [(0, .ref (xa E 0)), (1, .ref (xq E j1))] := hl
  obtain ⟨hx, hb, hml, hown, hts⟩ := id F.1
  have hK := F.2.1.1
  unfold fX0_loads at h
  refine lv_iconst (v := 0) hx hb dX0_loads_0 (by decide) ?_
  refine lv_istore_n (lv' := [(2, .int 0), (0, .ref (xa E 0)), (1, .ref (xq E j1))]) hx hb dX0_loads_1 rfl hl (by decide) rfl (fun ls hl => ?_)
  cases g9 : gX0_loads_2 j1 xfu 0 σ with
  | none => rw [g9] at h; cases h
  | some q10 =>
    rw [g9, Option.bind_some] at h
    refine lX0_loads_2 hj1 F xfu 0 σ q10 g9 _ _ _ hW hS (lv_sub hl [0, 1, 2] rfl) (fun H locs ls hW hS hl => ?_)
    refine lv_iload_n hx hb dX0_loads_54 rfl (lv_at hl 0 rfl) ?_
    obtain ⟨h1, h2⟩ := Prod.mk.inj (Option.some.inj h); subst h1; subst h2
    exact x_iret F hr hlk hW hS dX0_loads_55
/-! WildBells.load(I)I -/
def fX0_load (σ : xM) (a1 : Int32) : Option (Int32 × xM) :=
  xct (fX0_rowAt σ a1) (fun r2 σ3 => xro r2 (xct (fX0_need σ3 0 5) (fun r5 σ6 => none) (fun σ6 => (fX0_finding σ6 (σ6 11 0)).bind (fun r8 => some (r8.1, r8.2)))) (fun j9 => if j9 < 4 then (xct (fX0_need σ3 1 5) (fun r12 σ13 => (fX0_loads σ13 j9).bind (fun r15 => some (r15.1, r15.2))) (fun σ13 => (fX0_finding σ13 (σ13 11 0)).bind (fun r17 => some (r17.1, r17.2)))) else none)) (fun σ3 => (fX0_finding σ3 (σ3 11 0)).bind (fun r19 => some (r19.1, r19.2)))
set_option maxHeartbeats 4000000 in
theorem mX0_load (l : Launch) (E : xE) (σ : xM) (a1 : Int32) (r : Int32) (σ' : xM) (h : fX0_load σ a1 = some (r, σ')) : Met l yX0_load (wsW_ yX0_load cX0_load 3 (some .int) [(0, 25, 26, 61)]) ({ frames := 3, cells := 0, slots := 0, locals := 65 } : Room) (xPc E σ [.ref (xa E 0), .int a1]) (xQc E (.returned (some (.int r))) σ') 0 0 (xA E) := by
  refine x_ofW (C := RX0) (n := "load") (d := "(I)I") (r := (some .int)) (hh := [(0, 25, 26, 61)]) (by decide) (by first | decide | exact Nat.le_of_ble_eq_true rfl) ?_
  intro p e s m below meth c ls F hr hlk htb hW hS hl
  have hl : lv_has ls 3 [(0, .ref (xa E 0)), (1, .int a1)] := hl
  obtain ⟨hx, hb, hml, hown, hts⟩ := id F.1
  have hK := F.2.1.1
  unfold fX0_load at h
  refine lv_aload_n hx hb dX0_load_0 rfl (lv_at hl 0 rfl) ?_
  refine lv_iload_n hx hb dX0_load_1 rfl (lv_at hl 1 rfl) ?_
  rcases g1 : fX0_rowAt σ a1 with _ | ⟨_ | r2, σ3⟩
  · rw [g1] at h; cases h
  · rw [g1, xct_t] at h
    refine x_backTc F (x_runVT (C := RX0) (b := (xa E 0)) (As := [.int a1]) (rest := []) F.1 (mX0_rowAt l E σ a1 none σ3 g1) (cwV 1 hts (lw_V q849 q851 qs24 q99 q852) rfl rfl rfl (by decide +kernel) ⟨Nat.le_of_ble_eq_true rfl, Nat.le_of_ble_eq_true rfl⟩) ⟨xPc.blind, va_recv hK (xO_X hW) (ci := 0) (q0 := 0) rfl rfl, F.pre hW hS (.ref (xa E 0) :: [.int a1])⟩ rfl rfl hl.1 rfl (lv_room (Nat.le_of_ble_eq_true rfl)) dX0_load_2 ⟨Nat.le_refl _, Nat.le_refl _⟩) hS htb ⟨by decide, by decide⟩ (by decide) (hts _ q131) (fun H1 hW1 => va_recv hK (xO_F hW1) (ci := 1) (q0 := 0) rfl rfl) (fun H locs hW hS => ?_)
    refine lv_astore_n (lv' := [(2, .ref (xa E 1)), (0, .ref (xa E 0)), (1, .int a1)]) hx hb dX0_load_26 rfl hl (by decide) rfl (fun ls hl => ?_)
    refine lv_aload_n hx hb dX0_load_27 rfl (lv_at hl 1 rfl) ?_
    refine lv_aload_n hx hb dX0_load_28 rfl (lv_at hl 0 rfl) ?_
    refine va_getN (D := xD E) (ci := 1) (v := .int (σ3 11 0)) (C := RX1) (T := TX1) (N := 7) hx hb hts in_X1 hown hK (xO_F hW) 0 rfl rfl 6 (by decide) (va_Nw.use rfl (F.2.1.2.1 _ q183 rfl)) (fun _ h9 => h9) rfl dX0_load_29 ?_
    cases g18 : fX0_finding σ3 (σ3 11 0) with
    | none => rw [g18] at h; cases h
    | some r19 =>
      rw [g18, Option.bind_some] at h
      refine x_backi (va_runV (C := RX0) (b := (xa E 0)) (As := [.int (σ3 11 0)]) (rest := []) F.1 (mX0_finding l E σ3 (σ3 11 0) r19.1 r19.2 g18) (cwV 1 hts (lw_V q469 q471 qs2 q99 q472) rfl rfl rfl (by decide +kernel) ⟨Nat.le_of_ble_eq_true rfl, Nat.le_of_ble_eq_true rfl⟩) ⟨xPc.blind, va_recv hK (xO_X hW) (ci := 0) (q0 := 0) rfl rfl, F.pre hW hS (.ref (xa E 0) :: [.int (σ3 11 0)])⟩ rfl rfl hl.1 rfl (lv_room (Nat.le_of_ble_eq_true rfl)) dX0_load_32 ⟨Nat.le_refl _, Nat.le_refl _⟩) hS (fun H locs hW hS => ?_)
      obtain ⟨h1, h2⟩ := Prod.mk.inj (Option.some.inj h); subst h1; subst h2
      exact x_iret F hr hlk hW hS dX0_load_35
  · rw [g1, xct_r] at h
    rcases r2 with _ | j9
    · rw [xro_n] at h
      refine x_backTn (x_runVT (C := RX0) (b := (xa E 0)) (As := [.int a1]) (rest := []) F.1 (mX0_rowAt l E σ a1 (some none) σ3 g1) (cwV 1 hts (lw_V q849 q851 qs24 q99 q852) rfl rfl rfl (by decide +kernel) ⟨Nat.le_of_ble_eq_true rfl, Nat.le_of_ble_eq_true rfl⟩) ⟨xPc.blind, va_recv hK (xO_X hW) (ci := 0) (q0 := 0) rfl rfl, F.pre hW hS (.ref (xa E 0) :: [.int a1])⟩ rfl rfl hl.1 rfl (lv_room (Nat.le_of_ble_eq_true rfl)) dX0_load_2 ⟨Nat.le_refl _, Nat.le_refl _⟩) hS (fun H locs hW hS => ?_)
      refine lv_astore_nN (lv' := [(2, .null), (0, .ref (xa E 0)), (1, .int a1)]) hx hb dX0_load_5 rfl hl (by decide) rfl (fun ls hl => ?_)
      refine lv_aload_n hx hb dX0_load_6 rfl (lv_at hl 1 rfl) ?_
      refine lv_aload_nN hx hb dX0_load_7 rfl (lv_at hl 0 rfl) ?_
      refine lv_ifnullN (tgt := 15) hx hb dX0_load_8 (by decide) ?_
      refine lv_iconst (v := 0) hx hb dX0_load_15 (by decide) ?_
      refine lv_iconst (v := 5) hx hb dX0_load_16 (by decide) ?_
      rcases g4 : fX0_need σ3 0 5 with _ | ⟨_ | r5, σ6⟩
      · rw [g4] at h; cases h
      · rw [g4, xct_t] at h
        refine x_backTc F (x_runVT (C := RX0) (b := (xa E 0)) (As := [.int 0, .int 5]) (rest := []) F.1 (mX0_need l E σ3 0 5 none σ6 g4) (cwV 2 hts (lw_V q856 q858 qs25 q99 q859) rfl rfl rfl (by decide +kernel) ⟨Nat.le_of_ble_eq_true rfl, Nat.le_of_ble_eq_true rfl⟩) ⟨xPc.blind, va_recv hK (xO_X hW) (ci := 0) (q0 := 0) rfl rfl, F.pre hW hS (.ref (xa E 0) :: [.int 0, .int 5])⟩ rfl rfl hl.1 rfl (lv_room (Nat.le_of_ble_eq_true rfl)) dX0_load_17 ⟨Nat.le_refl _, Nat.le_refl _⟩) hS htb ⟨by decide, by decide⟩ (by decide) (hts _ q131) (fun H1 hW1 => va_recv hK (xO_F hW1) (ci := 1) (q0 := 0) rfl rfl) (fun H locs hW hS => ?_)
        refine lv_astore_n (lv' := [(2, .ref (xa E 1)), (0, .ref (xa E 0)), (1, .int a1)]) hx hb dX0_load_26 rfl hl (by decide) rfl (fun ls hl => ?_)
        refine lv_aload_n hx hb dX0_load_27 rfl (lv_at hl 1 rfl) ?_
        refine lv_aload_n hx hb dX0_load_28 rfl (lv_at hl 0 rfl) ?_
        refine va_getN (D := xD E) (ci := 1) (v := .int (σ6 11 0)) (C := RX1) (T := TX1) (N := 7) hx hb hts in_X1 hown hK (xO_F hW) 0 rfl rfl 6 (by decide) (va_Nw.use rfl (F.2.1.2.1 _ q183 rfl)) (fun _ h9 => h9) rfl dX0_load_29 ?_
        cases g7 : fX0_finding σ6 (σ6 11 0) with
        | none => rw [g7] at h; cases h
        | some r8 =>
          rw [g7, Option.bind_some] at h
          refine x_backi (va_runV (C := RX0) (b := (xa E 0)) (As := [.int (σ6 11 0)]) (rest := []) F.1 (mX0_finding l E σ6 (σ6 11 0) r8.1 r8.2 g7) (cwV 1 hts (lw_V q469 q471 qs2 q99 q472) rfl rfl rfl (by decide +kernel) ⟨Nat.le_of_ble_eq_true rfl, Nat.le_of_ble_eq_true rfl⟩) ⟨xPc.blind, va_recv hK (xO_X hW) (ci := 0) (q0 := 0) rfl rfl, F.pre hW hS (.ref (xa E 0) :: [.int (σ6 11 0)])⟩ rfl rfl hl.1 rfl (lv_room (Nat.le_of_ble_eq_true rfl)) dX0_load_32 ⟨Nat.le_refl _, Nat.le_refl _⟩) hS (fun H locs hW hS => ?_)
          obtain ⟨h1, h2⟩ := Prod.mk.inj (Option.some.inj h); subst h1; subst h2
          exact x_iret F hr hlk hW hS dX0_load_35
      · rw [g4, xct_r] at h
        refine x_backTv (x_runVT (C := RX0) (b := (xa E 0)) (As := [.int 0, .int 5]) (rest := []) F.1 (mX0_need l E σ3 0 5 (some r5) σ6 g4) (cwV 2 hts (lw_V q856 q858 qs25 q99 q859) rfl rfl rfl (by decide +kernel) ⟨Nat.le_of_ble_eq_true rfl, Nat.le_of_ble_eq_true rfl⟩) ⟨xPc.blind, va_recv hK (xO_X hW) (ci := 0) (q0 := 0) rfl rfl, F.pre hW hS (.ref (xa E 0) :: [.int 0, .int 5])⟩ rfl rfl hl.1 rfl (lv_room (Nat.le_of_ble_eq_true rfl)) dX0_load_17 ⟨Nat.le_refl _, Nat.le_refl _⟩) hS (fun H locs hW hS => ?_)
        cases h
    · rw [xro_s] at h
      by_cases hj10 : j9 < 4
      · rw [if_pos hj10] at h
        refine x_backTr (x_runVT (C := RX0) (b := (xa E 0)) (As := [.int a1]) (rest := []) F.1 (mX0_rowAt l E σ a1 (some (some j9)) σ3 g1) (cwV 1 hts (lw_V q849 q851 qs24 q99 q852) rfl rfl rfl (by decide +kernel) ⟨Nat.le_of_ble_eq_true rfl, Nat.le_of_ble_eq_true rfl⟩) ⟨xPc.blind, va_recv hK (xO_X hW) (ci := 0) (q0 := 0) rfl rfl, F.pre hW hS (.ref (xa E 0) :: [.int a1])⟩ rfl rfl hl.1 rfl (lv_room (Nat.le_of_ble_eq_true rfl)) dX0_load_2 ⟨Nat.le_refl _, Nat.le_refl _⟩) hS (fun H locs hW hS => ?_)
        refine lv_astore_n (lv' := [(2, .ref (xq E j9)), (0, .ref (xa E 0)), (1, .int a1)]) hx hb dX0_load_5 rfl hl (by decide) rfl (fun ls hl => ?_)
        refine lv_aload_n hx hb dX0_load_6 rfl (lv_at hl 1 rfl) ?_
        refine lv_aload_n hx hb dX0_load_7 rfl (lv_at hl 0 rfl) ?_
        refine lv_ifnull hx hb dX0_load_8 ?_
        refine lv_iconst (v := 1) hx hb dX0_load_11 (by decide) ?_
        refine lv_goto (tgt := 16) hx hb dX0_load_12 (by decide) ?_
        refine lv_iconst (v := 5) hx hb dX0_load_16 (by decide) ?_
        rcases g11 : fX0_need σ3 1 5 with _ | ⟨_ | r12, σ13⟩
        · rw [g11] at h; cases h
        · rw [g11, xct_t] at h
          refine x_backTc F (x_runVT (C := RX0) (b := (xa E 0)) (As := [.int 1, .int 5]) (rest := []) F.1 (mX0_need l E σ3 1 5 none σ13 g11) (cwV 2 hts (lw_V q856 q858 qs25 q99 q859) rfl rfl rfl (by decide +kernel) ⟨Nat.le_of_ble_eq_true rfl, Nat.le_of_ble_eq_true rfl⟩) ⟨xPc.blind, va_recv hK (xO_X hW) (ci := 0) (q0 := 0) rfl rfl, F.pre hW hS (.ref (xa E 0) :: [.int 1, .int 5])⟩ rfl rfl hl.1 rfl (lv_room (Nat.le_of_ble_eq_true rfl)) dX0_load_17 ⟨Nat.le_refl _, Nat.le_refl _⟩) hS htb ⟨by decide, by decide⟩ (by decide) (hts _ q131) (fun H1 hW1 => va_recv hK (xO_F hW1) (ci := 1) (q0 := 0) rfl rfl) (fun H locs hW hS => ?_)
          refine lv_astore_n (lv' := [(2, .ref (xa E 1)), (0, .ref (xa E 0)), (1, .int a1)]) hx hb dX0_load_26 rfl hl (by decide) rfl (fun ls hl => ?_)
          refine lv_aload_n hx hb dX0_load_27 rfl (lv_at hl 1 rfl) ?_
          refine lv_aload_n hx hb dX0_load_28 rfl (lv_at hl 0 rfl) ?_
          refine va_getN (D := xD E) (ci := 1) (v := .int (σ13 11 0)) (C := RX1) (T := TX1) (N := 7) hx hb hts in_X1 hown hK (xO_F hW) 0 rfl rfl 6 (by decide) (va_Nw.use rfl (F.2.1.2.1 _ q183 rfl)) (fun _ h9 => h9) rfl dX0_load_29 ?_
          cases g16 : fX0_finding σ13 (σ13 11 0) with
          | none => rw [g16] at h; cases h
          | some r17 =>
            rw [g16, Option.bind_some] at h
            refine x_backi (va_runV (C := RX0) (b := (xa E 0)) (As := [.int (σ13 11 0)]) (rest := []) F.1 (mX0_finding l E σ13 (σ13 11 0) r17.1 r17.2 g16) (cwV 1 hts (lw_V q469 q471 qs2 q99 q472) rfl rfl rfl (by decide +kernel) ⟨Nat.le_of_ble_eq_true rfl, Nat.le_of_ble_eq_true rfl⟩) ⟨xPc.blind, va_recv hK (xO_X hW) (ci := 0) (q0 := 0) rfl rfl, F.pre hW hS (.ref (xa E 0) :: [.int (σ13 11 0)])⟩ rfl rfl hl.1 rfl (lv_room (Nat.le_of_ble_eq_true rfl)) dX0_load_32 ⟨Nat.le_refl _, Nat.le_refl _⟩) hS (fun H locs hW hS => ?_)
            obtain ⟨h1, h2⟩ := Prod.mk.inj (Option.some.inj h); subst h1; subst h2
            exact x_iret F hr hlk hW hS dX0_load_35
        · rw [g11, xct_r] at h
          refine x_backTv (x_runVT (C := RX0) (b := (xa E 0)) (As := [.int 1, .int 5]) (rest := []) F.1 (mX0_need l E σ3 1 5 (some r12) σ13 g11) (cwV 2 hts (lw_V q856 q858 qs25 q99 q859) rfl rfl rfl (by decide +kernel) ⟨Nat.le_of_ble_eq_true rfl, Nat.le_of_ble_eq_true rfl⟩) ⟨xPc.blind, va_recv hK (xO_X hW) (ci := 0) (q0 := 0) rfl rfl, F.pre hW hS (.ref (xa E 0) :: [.int 1, .int 5])⟩ rfl rfl hl.1 rfl (lv_room (Nat.le_of_ble_eq_true rfl)) dX0_load_17 ⟨Nat.le_refl _, Nat.le_refl _⟩) hS (fun H locs hW hS => ?_)
          refine lv_aload_n hx hb dX0_load_20 rfl (lv_at hl 1 rfl) ?_
          refine lv_aload_n hx hb dX0_load_21 rfl (lv_at hl 0 rfl) ?_
          cases g14 : fX0_loads σ13 j9 with
          | none => rw [g14] at h; cases h
          | some r15 =>
            rw [g14, Option.bind_some] at h
            refine x_backi (va_runV (C := RX0) (b := (xa E 0)) (As := [.ref (xq E j9)]) (rest := []) F.1 (mX0_loads l E σ13 j9 hj10 r15.1 r15.2 g14) (cwV 1 hts (lw_V q1145 q1147 qs49 q99 q1148) rfl rfl rfl (by decide +kernel) ⟨Nat.le_of_ble_eq_true rfl, Nat.le_of_ble_eq_true rfl⟩) ⟨xPc.blind, va_recv hK (xO_X hW) (ci := 0) (q0 := 0) rfl rfl, F.pre hW hS (.ref (xa E 0) :: [.ref (xq E j9)])⟩ rfl rfl hl.1 rfl (lv_room (Nat.le_of_ble_eq_true rfl)) dX0_load_22 ⟨Nat.le_refl _, Nat.le_refl _⟩) hS (fun H locs hW hS => ?_)
            obtain ⟨h1, h2⟩ := Prod.mk.inj (Option.some.inj h); subst h1; subst h2
            exact x_iret F hr hlk hW hS dX0_load_25
      · rw [if_neg hj10] at h; cases h
/-! WildBells.isRight(Ljava/lang/Object;I)Z -/
def fX0_isRight (σ : xM) (j1 : Nat) (a2 : Int32) : Option Int32 :=
  (fX0_number σ j1 a2).bind (fun r2 => if (fX0_isBell σ r2) = 0 then (some 0) else (if a2 = 0 then (some 1) else (if xin r2 8 then ((fX0_number σ j1 (a2 - 1)).bind (fun r7 => if xin r7 8 then (if (fX0_in ((σ 0 (146 + 5 * r2.toNatClampNeg + 2)) - (σ 0 (146 + 5 * r7.toNatClampNeg + 2))) 1 2) = 0 then (some 0) else (some 1)) else none)) else none)))
set_option maxHeartbeats 4000000 in
theorem mX0_isRight (l : Launch) (E : xE) (σ : xM) (j1 : Nat) (hj1 : j1 < 4) (a2 : Int32) (r : Int32) (h : fX0_isRight σ j1 a2 = some r) : Met l yX0_isRight (ws_ yX0_isRight cX0_isRight 4 (some .boolean)) ({ frames := 2, cells := 0, slots := 0, locals := 43 } : Room) (xPc E σ [.ref (xa E 0), .ref (xq E j1), .int a2]) (xQc E (.returned (some (.int r))) σ) 0 0 (xA E) := by
  refine x_of (C := RX0) (n := "isRight") (d := "(Ljava/lang/Object;I)Z") (r := (some .boolean)) (by decide) rfl (by first | decide | exact Nat.le_of_ble_eq_true rfl) ?_
  intro p e s m below meth c ls F hr hlk hW hS hl
  have hl : lv_has ls 4 [(0, .ref (xa E 0)), (1, .ref (xq E j1)), (2, .int a2)] := hl
  obtain ⟨hx, hb, hml, hown, hts⟩ := id F.1
  have hK := F.2.1.1
  unfold fX0_isRight at h
  refine lv_aload_n hx hb dX0_isRight_0 rfl (lv_at hl 1 rfl) ?_
  refine lv_iload_n hx hb dX0_isRight_1 rfl (lv_at hl 2 rfl) ?_
  cases g1 : fX0_number σ j1 a2 with
  | none => rw [g1] at h; cases h
  | some r2 =>
    rw [g1, Option.bind_some] at h
    refine x_backi (va_runS (As := [.ref (xq E j1), .int a2]) (rest := []) F.1 (mX0_number l E σ j1 hj1 a2 r2 g1) (va_cwS 2 hts (lw_S q877 q878 q99 q879) rfl rfl rfl (by decide +kernel) ⟨Nat.le_of_ble_eq_true rfl, Nat.le_of_ble_eq_true rfl⟩) ⟨xPc.blind, F.pre hW hS [.ref (xq E j1), .int a2]⟩ rfl rfl hl.1 rfl (lv_room (Nat.le_of_ble_eq_true rfl)) dX0_isRight_2 ⟨Nat.le_refl _, Nat.le_refl _⟩) hS (fun H locs hW hS => ?_)
    refine lv_istore_n (lv' := [(3, .int r2), (0, .ref (xa E 0)), (1, .ref (xq E j1)), (2, .int a2)]) hx hb dX0_isRight_5 rfl hl (by decide) rfl (fun ls hl => ?_)
    refine lv_aload_n hx hb dX0_isRight_6 rfl (lv_at hl 1 rfl) ?_
    refine lv_iload_n hx hb dX0_isRight_7 rfl (lv_at hl 0 rfl) ?_
    refine x_backi (va_runV (C := RX0) (b := (xa E 0)) (As := [.int r2]) (rest := []) F.1 (mX0_isBell l E σ r2) (cwV 1 hts (lw_V q537 q539 qs3 q99 q540) rfl rfl rfl (by decide +kernel) ⟨Nat.le_of_ble_eq_true rfl, Nat.le_of_ble_eq_true rfl⟩) ⟨xPc.blind, va_recv hK (xO_X hW) (ci := 0) (q0 := 0) rfl rfl, F.pre hW hS (.ref (xa E 0) :: [.int r2])⟩ rfl rfl hl.1 rfl (lv_room (Nat.le_of_ble_eq_true rfl)) dX0_isRight_8 ⟨Nat.le_refl _, Nat.le_refl _⟩) hS (fun H locs hW hS => ?_)
    refine lv_if_eq (tgt := 59) hx hb dX0_isRight_11 (by decide) (fun c3 => ?_) (fun c3 => ?_)
    · rw [if_pos c3] at h
      refine lv_iconst (v := 0) hx hb dX0_isRight_59 (by decide) ?_
      have h := Option.some.inj h; subst h
      exact x_zret F hr hlk hW hS rfl dX0_isRight_60
    · rw [if_neg c3] at h
      refine lv_iload_n hx hb dX0_isRight_14 rfl (lv_at hl 3 rfl) ?_
      refine lv_if_eq (tgt := 55) hx hb dX0_isRight_15 (by decide) (fun c4 => ?_) (fun c4 => ?_)
      · rw [if_pos c4] at h
        refine lv_iconst (v := 1) hx hb dX0_isRight_55 (by decide) ?_
        refine lv_goto (tgt := 60) hx hb dX0_isRight_56 (by decide) ?_
        have h := Option.some.inj h; subst h
        exact x_zret F hr hlk hW hS rfl dX0_isRight_60
      · rw [if_neg c4] at h
        refine lv_aload_n hx hb dX0_isRight_18 rfl (lv_at hl 1 rfl) ?_
        refine va_get (D := xD E) (ci := 0) (v := .ref (xa E (xwc 0 0))) (C := RX0) (T := TX0) (N := 15) hx hb hts in_X0 hown hK (xO_X hW) 0 rfl rfl 3 (by decide) (hts _ q416) (fun _ h9 => h9) rfl dX0_isRight_19 ?_
        refine va_getN (D := xD E) (ci := 4) (v := .ref (xa E (xwc 0 5))) (C := RX4) (T := TX4) (N := 8) hx hb hts in_X4 hown hK (xO_W hW 0 (by decide)) 0 rfl rfl 4 (by decide) (va_Nw.use rfl (F.2.1.2.1 _ q244 rfl)) (fun _ h9 => h9) rfl dX0_isRight_22 ?_
        refine lv_iconst (v := 2) hx hb dX0_isRight_25 (by decide) ?_
        refine x_aald (g := fun j => xa E (xwc 0 (6 + j))) (j := 2) F 4 4 5 (xR_5 hW 0 (by decide)) rfl rfl (x_lit (by decide)) (by decide) dX0_isRight_26 ?_
        refine lv_iload_n hx hb dX0_isRight_27 rfl (lv_at hl 0 rfl) ?_
        by_cases hi5 : xin r2 8
        · rw [if_pos hi5] at h
          refine va_iald hx hb hK (xV_6 hW 0 2 (by decide) (by decide)) 0 0 rfl rfl hi5 dX0_isRight_28 ?_
          refine lv_aload_n hx hb dX0_isRight_29 rfl (lv_at hl 1 rfl) ?_
          refine va_get (D := xD E) (ci := 0) (v := .ref (xa E (xwc 0 0))) (C := RX0) (T := TX0) (N := 15) hx hb hts in_X0 hown hK (xO_X hW) 0 rfl rfl 3 (by decide) (hts _ q416) (fun _ h9 => h9) rfl dX0_isRight_30 ?_
          refine va_getN (D := xD E) (ci := 4) (v := .ref (xa E (xwc 0 5))) (C := RX4) (T := TX4) (N := 8) hx hb hts in_X4 hown hK (xO_W hW 0 (by decide)) 0 rfl rfl 4 (by decide) (va_Nw.use rfl (F.2.1.2.1 _ q244 rfl)) (fun _ h9 => h9) rfl dX0_isRight_33 ?_
          refine lv_iconst (v := 2) hx hb dX0_isRight_36 (by decide) ?_
          refine x_aald (g := fun j => xa E (xwc 0 (6 + j))) (j := 2) F 4 4 5 (xR_5 hW 0 (by decide)) rfl rfl (x_lit (by decide)) (by decide) dX0_isRight_37 ?_
          refine lv_aload_n hx hb dX0_isRight_38 rfl (lv_at hl 2 rfl) ?_
          refine lv_iload_n hx hb dX0_isRight_39 rfl (lv_at hl 3 rfl) ?_
          refine lv_iconst (v := 1) hx hb dX0_isRight_40 (by decide) ?_
          refine lv_isub hx hb dX0_isRight_41 ?_
          cases g6 : fX0_number σ j1 (a2 - 1) with
          | none => rw [g6] at h; cases h
          | some r7 =>
            rw [g6, Option.bind_some] at h
            refine x_backi (va_runS (As := [.ref (xq E j1), .int (a2 - 1)]) (rest := [.ref (xa E (xwc 0 (6 + 2))), .int (σ 0 (146 + 5 * r2.toNatClampNeg + 2))]) F.1 (mX0_number l E σ j1 hj1 (a2 - 1) r7 g6) (va_cwS 2 hts (lw_S q877 q878 q99 q879) rfl rfl rfl (by decide +kernel) ⟨Nat.le_of_ble_eq_true rfl, Nat.le_of_ble_eq_true rfl⟩) ⟨xPc.blind, F.pre hW hS [.ref (xq E j1), .int (a2 - 1)]⟩ rfl rfl hl.1 rfl (lv_room (Nat.le_of_ble_eq_true rfl)) dX0_isRight_42 ⟨Nat.le_refl _, Nat.le_refl _⟩) hS (fun H locs hW hS => ?_)
            by_cases hi8 : xin r7 8
            · rw [if_pos hi8] at h
              refine va_iald hx hb hK (xV_6 hW 0 2 (by decide) (by decide)) 0 0 rfl rfl hi8 dX0_isRight_45 ?_
              refine lv_isub hx hb dX0_isRight_46 ?_
              refine lv_iconst (v := 1) hx hb dX0_isRight_47 (by decide) ?_
              refine lv_iconst (v := 2) hx hb dX0_isRight_48 (by decide) ?_
              refine x_backi (va_runS (As := [.int ((σ 0 (146 + 5 * r2.toNatClampNeg + 2)) - (σ 0 (146 + 5 * r7.toNatClampNeg + 2))), .int 1, .int 2]) (rest := []) F.1 (mX0_in l E σ ((σ 0 (146 + 5 * r2.toNatClampNeg + 2)) - (σ 0 (146 + 5 * r7.toNatClampNeg + 2))) 1 2) (va_cwS 3 hts (lw_S q466 q467 q99 q468) rfl rfl rfl (by decide +kernel) ⟨Nat.le_of_ble_eq_true rfl, Nat.le_of_ble_eq_true rfl⟩) ⟨xPc.blind, F.pre hW hS [.int ((σ 0 (146 + 5 * r2.toNatClampNeg + 2)) - (σ 0 (146 + 5 * r7.toNatClampNeg + 2))), .int 1, .int 2]⟩ rfl rfl hl.1 rfl (lv_room (Nat.le_of_ble_eq_true rfl)) dX0_isRight_49 ⟨Nat.le_refl _, Nat.le_refl _⟩) hS (fun H locs hW hS => ?_)
              refine lv_if_eq (tgt := 59) hx hb dX0_isRight_52 (by decide) (fun c9 => ?_) (fun c9 => ?_)
              · rw [if_pos c9] at h
                refine lv_iconst (v := 0) hx hb dX0_isRight_59 (by decide) ?_
                have h := Option.some.inj h; subst h
                exact x_zret F hr hlk hW hS rfl dX0_isRight_60
              · rw [if_neg c9] at h
                refine lv_iconst (v := 1) hx hb dX0_isRight_55 (by decide) ?_
                refine lv_goto (tgt := 60) hx hb dX0_isRight_56 (by decide) ?_
                have h := Option.some.inj h; subst h
                exact x_zret F hr hlk hW hS rfl dX0_isRight_60
            · rw [if_neg hi8] at h; cases h
        · rw [if_neg hi5] at h; cases h
/-! WildBells.judge(I)I -/
def gX0_judge_22 (σ : xM) (y2 : Nat) : Nat → Int32 → Option Int32
  | 0, _ => none
  | n + 1, x3 => (fX0_length σ y2).bind (fun r15 => if r15 ≤ x3 then (some x3) else ((fX0_isRight σ y2 x3).bind (fun r18 => if r18 = 0 then (some x3) else (gX0_judge_22 σ y2 n (x3 + 1)))))
def fX0_judge (σ : xM) (a1 : Int32) : Option (Int32 × xM) :=
  xct (fX0_rowAt σ a1) (fun r2 σ3 => xro r2 (xct (fX0_need σ3 0 5) (fun r5 σ6 => none) (fun σ6 => (fX0_finding σ6 (σ6 11 0)).bind (fun r8 => some (r8.1, r8.2)))) (fun j9 => if j9 < 4 then (xct (fX0_need σ3 1 5) (fun r12 σ13 => (gX0_judge_22 σ13 j9 xfu 0).bind (fun q21 => (fX0_length σ13 j9).bind (fun r23 => if q21 = r23 then (some (0, σ13)) else (some ((1 + q21), σ13))))) (fun σ13 => (fX0_finding σ13 (σ13 11 0)).bind (fun r26 => some (r26.1, r26.2)))) else none)) (fun σ3 => (fX0_finding σ3 (σ3 11 0)).bind (fun r28 => some (r28.1, r28.2)))
set_option maxHeartbeats 4000000 in
theorem lX0_judge_22 {p : Program} {l : Launch} {e : Env} {s : State} {m : MethodId} {av : Array Value} {below : List Frame} {meth : Method} {c : Code} {Q : State → Prop} {E : xE} {σ : xM} {y2 : Nat} (hy2 : y2 < 4) {b1 : Int32} (F : xFx p m c cX0_judge 4 s av RX0 E) : ∀ (n : Nat) (x3 : Int32) (q : Int32), gX0_judge_22 σ y2 n x3 = some q → ∀ (H : Heap) (locs : List Loc) (ls : Array Slot), xW E σ H → va_S (xA E) s.heap H locs → lv_has ls 4 [(3, .int x3), (2, .ref (xq E y2)), (0, .ref (xa E 0)), (1, .int b1)] → (∀ (H : Heap) (locs : List Loc) (ls : Array Slot), xW E σ H → va_S (xA E) s.heap H locs → lv_has ls 4 [(3, .int q), (2, .ref (xq E y2)), (0, .ref (xa E 0)), (1, .int b1)] → W p l e ({ frames := 3, cells := 0, slots := 0, locals := 66 } : Room) s m av below meth c H locs 0 0 Q (F0 m 45 ls [])) → W p l e ({ frames := 3, cells := 0, slots := 0, locals := 66 } : Room) s m av below meth c H locs 0 0 Q (F0 m 22 ls []) := by
  obtain ⟨hx, hb, hml, hown, hts⟩ := id F.1
  have hK := F.2.1.1
  intro n
  induction n with
  | zero =>
    intro x3 q h
    cases h
  | succ n ih =>
    intro x3 q h H locs ls hW hS hl kk
    rw [gX0_judge_22] at h
    refine lv_iload_n hx hb dX0_judge_22 rfl (lv_at hl 0 rfl) ?_
    refine lv_aload_n hx hb dX0_judge_23 rfl (lv_at hl 1 rfl) ?_
    cases g14 : fX0_length σ y2 with
    | none => rw [g14] at h; cases h
    | some r15 =>
      rw [g14, Option.bind_some] at h
      refine x_backi (va_runS (As := [.ref (xq E y2)]) (rest := [.int x3]) F.1 (mX0_length l E σ y2 hy2 r15 g14) (va_cwS 1 hts (lw_S q871 q872 q99 q873) rfl rfl rfl (by decide +kernel) ⟨Nat.le_of_ble_eq_true rfl, Nat.le_of_ble_eq_true rfl⟩) ⟨xPc.blind, F.pre hW hS [.ref (xq E y2)]⟩ rfl rfl hl.1 rfl (lv_room (Nat.le_of_ble_eq_true rfl)) dX0_judge_24 ⟨Nat.le_refl _, Nat.le_refl _⟩) hS (fun H locs hW hS => ?_)
      refine lv_icmp_ge (tgt := 45) hx hb dX0_judge_27 (by decide) (fun c16 => ?_) (fun c16 => ?_)
      · rw [if_pos c16] at h
        have h := Option.some.inj h; subst h
        exact kk _ _ _ hW hS (lv_sub hl [0, 1, 2, 3] rfl)
      · rw [if_neg c16] at h
        refine lv_aload_n hx hb dX0_judge_30 rfl (lv_at hl 2 rfl) ?_
        refine lv_aload_n hx hb dX0_judge_31 rfl (lv_at hl 1 rfl) ?_
        refine lv_iload_n hx hb dX0_judge_32 rfl (lv_at hl 0 rfl) ?_
        cases g17 : fX0_isRight σ y2 x3 with
        | none => rw [g17] at h; cases h
        | some r18 =>
          rw [g17, Option.bind_some] at h
          refine x_backi (va_runV (C := RX0) (b := (xa E 0)) (As := [.ref (xq E y2), .int x3]) (rest := []) F.1 (mX0_isRight l E σ y2 hy2 x3 r18 g17) (cwV 2 hts (lw_V q1153 q1155 qs50 q99 q1156) rfl rfl rfl (by decide +kernel) ⟨Nat.le_of_ble_eq_true rfl, Nat.le_of_ble_eq_true rfl⟩) ⟨xPc.blind, va_recv hK (xO_X hW) (ci := 0) (q0 := 0) rfl rfl, F.pre hW hS (.ref (xa E 0) :: [.ref (xq E y2), .int x3])⟩ rfl rfl hl.1 rfl (lv_room (Nat.le_of_ble_eq_true rfl)) dX0_judge_33 ⟨Nat.le_refl _, Nat.le_refl _⟩) hS (fun H locs hW hS => ?_)
          refine lv_if_eq (tgt := 45) hx hb dX0_judge_36 (by decide) (fun c19 => ?_) (fun c19 => ?_)
          · rw [if_pos c19] at h
            have h := Option.some.inj h; subst h
            exact kk _ _ _ hW hS (lv_sub hl [0, 1, 2, 3] rfl)
          · rw [if_neg c19] at h
            refine lv_iinc (k := 0) (v := (x3 + 1)) (lv' := [(3, .int (x3 + 1)), (2, .ref (xq E y2)), (0, .ref (xa E 0)), (1, .int b1)]) hx hb dX0_judge_39 hl rfl rfl (by decide) rfl (fun ls hl => ?_)
            refine lv_goto (tgt := 22) hx hb dX0_judge_42 (by decide) ?_
            exact ih (x3 + 1) _ h _ _ _ hW hS (lv_sub hl [0, 1, 2, 3] rfl) kk
set_option maxHeartbeats 4000000 in
theorem mX0_judge (l : Launch) (E : xE) (σ : xM) (a1 : Int32) (r : Int32) (σ' : xM) (h : fX0_judge σ a1 = some (r, σ')) : Met l yX0_judge (wsW_ yX0_judge cX0_judge 4 (some .int) [(0, 60, 61, 61)]) ({ frames := 3, cells := 0, slots := 0, locals := 66 } : Room) (xPc E σ [.ref (xa E 0), .int a1]) (xQc E (.returned (some (.int r))) σ') 0 0 (xA E) := by
  refine x_ofW (C := RX0) (n := "judge") (d := "(I)I") (r := (some .int)) (hh := [(0, 60, 61, 61)]) (by decide) (by first | decide | exact Nat.le_of_ble_eq_true rfl) ?_
  intro p e s m below meth c ls F hr hlk htb hW hS hl
  have hl : lv_has ls 4 [(0, .ref (xa E 0)), (1, .int a1)] := hl
  obtain ⟨hx, hb, hml, hown, hts⟩ := id F.1
  have hK := F.2.1.1
  unfold fX0_judge at h
  refine lv_aload_n hx hb dX0_judge_0 rfl (lv_at hl 0 rfl) ?_
  refine lv_iload_n hx hb dX0_judge_1 rfl (lv_at hl 1 rfl) ?_
  rcases g1 : fX0_rowAt σ a1 with _ | ⟨_ | r2, σ3⟩
  · rw [g1] at h; cases h
  · rw [g1, xct_t] at h
    refine x_backTc F (x_runVT (C := RX0) (b := (xa E 0)) (As := [.int a1]) (rest := []) F.1 (mX0_rowAt l E σ a1 none σ3 g1) (cwV 1 hts (lw_V q849 q851 qs24 q99 q852) rfl rfl rfl (by decide +kernel) ⟨Nat.le_of_ble_eq_true rfl, Nat.le_of_ble_eq_true rfl⟩) ⟨xPc.blind, va_recv hK (xO_X hW) (ci := 0) (q0 := 0) rfl rfl, F.pre hW hS (.ref (xa E 0) :: [.int a1])⟩ rfl rfl hl.1 rfl (lv_room (Nat.le_of_ble_eq_true rfl)) dX0_judge_2 ⟨Nat.le_refl _, Nat.le_refl _⟩) hS htb ⟨by decide, by decide⟩ (by decide) (hts _ q131) (fun H1 hW1 => va_recv hK (xO_F hW1) (ci := 1) (q0 := 0) rfl rfl) (fun H locs hW hS => ?_)
    refine lv_astore_n (lv' := [(2, .ref (xa E 1)), (0, .ref (xa E 0)), (1, .int a1)]) hx hb dX0_judge_61 rfl hl (by decide) rfl (fun ls hl => ?_)
    refine lv_aload_n hx hb dX0_judge_62 rfl (lv_at hl 1 rfl) ?_
    refine lv_aload_n hx hb dX0_judge_63 rfl (lv_at hl 0 rfl) ?_
    refine va_getN (D := xD E) (ci := 1) (v := .int (σ3 11 0)) (C := RX1) (T := TX1) (N := 7) hx hb hts in_X1 hown hK (xO_F hW) 0 rfl rfl 6 (by decide) (va_Nw.use rfl (F.2.1.2.1 _ q183 rfl)) (fun _ h9 => h9) rfl dX0_judge_64 ?_
    cases g27 : fX0_finding σ3 (σ3 11 0) with
    | none => rw [g27] at h; cases h
    | some r28 =>
      rw [g27, Option.bind_some] at h
      refine x_backi (va_runV (C := RX0) (b := (xa E 0)) (As := [.int (σ3 11 0)]) (rest := []) F.1 (mX0_finding l E σ3 (σ3 11 0) r28.1 r28.2 g27) (cwV 1 hts (lw_V q469 q471 qs2 q99 q472) rfl rfl rfl (by decide +kernel) ⟨Nat.le_of_ble_eq_true rfl, Nat.le_of_ble_eq_true rfl⟩) ⟨xPc.blind, va_recv hK (xO_X hW) (ci := 0) (q0 := 0) rfl rfl, F.pre hW hS (.ref (xa E 0) :: [.int (σ3 11 0)])⟩ rfl rfl hl.1 rfl (lv_room (Nat.le_of_ble_eq_true rfl)) dX0_judge_67 ⟨Nat.le_refl _, Nat.le_refl _⟩) hS (fun H locs hW hS => ?_)
      obtain ⟨h1, h2⟩ := Prod.mk.inj (Option.some.inj h); subst h1; subst h2
      exact x_iret F hr hlk hW hS dX0_judge_70
  · rw [g1, xct_r] at h
    rcases r2 with _ | j9
    · rw [xro_n] at h
      refine x_backTn (x_runVT (C := RX0) (b := (xa E 0)) (As := [.int a1]) (rest := []) F.1 (mX0_rowAt l E σ a1 (some none) σ3 g1) (cwV 1 hts (lw_V q849 q851 qs24 q99 q852) rfl rfl rfl (by decide +kernel) ⟨Nat.le_of_ble_eq_true rfl, Nat.le_of_ble_eq_true rfl⟩) ⟨xPc.blind, va_recv hK (xO_X hW) (ci := 0) (q0 := 0) rfl rfl, F.pre hW hS (.ref (xa E 0) :: [.int a1])⟩ rfl rfl hl.1 rfl (lv_room (Nat.le_of_ble_eq_true rfl)) dX0_judge_2 ⟨Nat.le_refl _, Nat.le_refl _⟩) hS (fun H locs hW hS => ?_)
      refine lv_astore_nN (lv' := [(2, .null), (0, .ref (xa E 0)), (1, .int a1)]) hx hb dX0_judge_5 rfl hl (by decide) rfl (fun ls hl => ?_)
      refine lv_aload_n hx hb dX0_judge_6 rfl (lv_at hl 1 rfl) ?_
      refine lv_aload_nN hx hb dX0_judge_7 rfl (lv_at hl 0 rfl) ?_
      refine lv_ifnullN (tgt := 15) hx hb dX0_judge_8 (by decide) ?_
      refine lv_iconst (v := 0) hx hb dX0_judge_15 (by decide) ?_
      refine lv_iconst (v := 5) hx hb dX0_judge_16 (by decide) ?_
      rcases g4 : fX0_need σ3 0 5 with _ | ⟨_ | r5, σ6⟩
      · rw [g4] at h; cases h
      · rw [g4, xct_t] at h
        refine x_backTc F (x_runVT (C := RX0) (b := (xa E 0)) (As := [.int 0, .int 5]) (rest := []) F.1 (mX0_need l E σ3 0 5 none σ6 g4) (cwV 2 hts (lw_V q856 q858 qs25 q99 q859) rfl rfl rfl (by decide +kernel) ⟨Nat.le_of_ble_eq_true rfl, Nat.le_of_ble_eq_true rfl⟩) ⟨xPc.blind, va_recv hK (xO_X hW) (ci := 0) (q0 := 0) rfl rfl, F.pre hW hS (.ref (xa E 0) :: [.int 0, .int 5])⟩ rfl rfl hl.1 rfl (lv_room (Nat.le_of_ble_eq_true rfl)) dX0_judge_17 ⟨Nat.le_refl _, Nat.le_refl _⟩) hS htb ⟨by decide, by decide⟩ (by decide) (hts _ q131) (fun H1 hW1 => va_recv hK (xO_F hW1) (ci := 1) (q0 := 0) rfl rfl) (fun H locs hW hS => ?_)
        refine lv_astore_n (lv' := [(2, .ref (xa E 1)), (0, .ref (xa E 0)), (1, .int a1)]) hx hb dX0_judge_61 rfl hl (by decide) rfl (fun ls hl => ?_)
        refine lv_aload_n hx hb dX0_judge_62 rfl (lv_at hl 1 rfl) ?_
        refine lv_aload_n hx hb dX0_judge_63 rfl (lv_at hl 0 rfl) ?_
        refine va_getN (D := xD E) (ci := 1) (v := .int (σ6 11 0)) (C := RX1) (T := TX1) (N := 7) hx hb hts in_X1 hown hK (xO_F hW) 0 rfl rfl 6 (by decide) (va_Nw.use rfl (F.2.1.2.1 _ q183 rfl)) (fun _ h9 => h9) rfl dX0_judge_64 ?_
        cases g7 : fX0_finding σ6 (σ6 11 0) with
        | none => rw [g7] at h; cases h
        | some r8 =>
          rw [g7, Option.bind_some] at h
          refine x_backi (va_runV (C := RX0) (b := (xa E 0)) (As := [.int (σ6 11 0)]) (rest := []) F.1 (mX0_finding l E σ6 (σ6 11 0) r8.1 r8.2 g7) (cwV 1 hts (lw_V q469 q471 qs2 q99 q472) rfl rfl rfl (by decide +kernel) ⟨Nat.le_of_ble_eq_true rfl, Nat.le_of_ble_eq_true rfl⟩) ⟨xPc.blind, va_recv hK (xO_X hW) (ci := 0) (q0 := 0) rfl rfl, F.pre hW hS (.ref (xa E 0) :: [.int (σ6 11 0)])⟩ rfl rfl hl.1 rfl (lv_room (Nat.le_of_ble_eq_true rfl)) dX0_judge_67 ⟨Nat.le_refl _, Nat.le_refl _⟩) hS (fun H locs hW hS => ?_)
          obtain ⟨h1, h2⟩ := Prod.mk.inj (Option.some.inj h); subst h1; subst h2
          exact x_iret F hr hlk hW hS dX0_judge_70
      · rw [g4, xct_r] at h
        refine x_backTv (x_runVT (C := RX0) (b := (xa E 0)) (As := [.int 0, .int 5]) (rest := []) F.1 (mX0_need l E σ3 0 5 (some r5) σ6 g4) (cwV 2 hts (lw_V q856 q858 qs25 q99 q859) rfl rfl rfl (by decide +kernel) ⟨Nat.le_of_ble_eq_true rfl, Nat.le_of_ble_eq_true rfl⟩) ⟨xPc.blind, va_recv hK (xO_X hW) (ci := 0) (q0 := 0) rfl rfl, F.pre hW hS (.ref (xa E 0) :: [.int 0, .int 5])⟩ rfl rfl hl.1 rfl (lv_room (Nat.le_of_ble_eq_true rfl)) dX0_judge_17 ⟨Nat.le_refl _, Nat.le_refl _⟩) hS (fun H locs hW hS => ?_)
        cases h
    · rw [xro_s] at h
      by_cases hj10 : j9 < 4
      · rw [if_pos hj10] at h
        refine x_backTr (x_runVT (C := RX0) (b := (xa E 0)) (As := [.int a1]) (rest := []) F.1 (mX0_rowAt l E σ a1 (some (some j9)) σ3 g1) (cwV 1 hts (lw_V q849 q851 qs24 q99 q852) rfl rfl rfl (by decide +kernel) ⟨Nat.le_of_ble_eq_true rfl, Nat.le_of_ble_eq_true rfl⟩) ⟨xPc.blind, va_recv hK (xO_X hW) (ci := 0) (q0 := 0) rfl rfl, F.pre hW hS (.ref (xa E 0) :: [.int a1])⟩ rfl rfl hl.1 rfl (lv_room (Nat.le_of_ble_eq_true rfl)) dX0_judge_2 ⟨Nat.le_refl _, Nat.le_refl _⟩) hS (fun H locs hW hS => ?_)
        refine lv_astore_n (lv' := [(2, .ref (xq E j9)), (0, .ref (xa E 0)), (1, .int a1)]) hx hb dX0_judge_5 rfl hl (by decide) rfl (fun ls hl => ?_)
        refine lv_aload_n hx hb dX0_judge_6 rfl (lv_at hl 1 rfl) ?_
        refine lv_aload_n hx hb dX0_judge_7 rfl (lv_at hl 0 rfl) ?_
        refine lv_ifnull hx hb dX0_judge_8 ?_
        refine lv_iconst (v := 1) hx hb dX0_judge_11 (by decide) ?_
        refine lv_goto (tgt := 16) hx hb dX0_judge_12 (by decide) ?_
        refine lv_iconst (v := 5) hx hb dX0_judge_16 (by decide) ?_
        rcases g11 : fX0_need σ3 1 5 with _ | ⟨_ | r12, σ13⟩
        · rw [g11] at h; cases h
        · rw [g11, xct_t] at h
          refine x_backTc F (x_runVT (C := RX0) (b := (xa E 0)) (As := [.int 1, .int 5]) (rest := []) F.1 (mX0_need l E σ3 1 5 none σ13 g11) (cwV 2 hts (lw_V q856 q858 qs25 q99 q859) rfl rfl rfl (by decide +kernel) ⟨Nat.le_of_ble_eq_true rfl, Nat.le_of_ble_eq_true rfl⟩) ⟨xPc.blind, va_recv hK (xO_X hW) (ci := 0) (q0 := 0) rfl rfl, F.pre hW hS (.ref (xa E 0) :: [.int 1, .int 5])⟩ rfl rfl hl.1 rfl (lv_room (Nat.le_of_ble_eq_true rfl)) dX0_judge_17 ⟨Nat.le_refl _, Nat.le_refl _⟩) hS htb ⟨by decide, by decide⟩ (by decide) (hts _ q131) (fun H1 hW1 => va_recv hK (xO_F hW1) (ci := 1) (q0 := 0) rfl rfl) (fun H locs hW hS => ?_)
          refine lv_astore_n (lv' := [(2, .ref (xa E 1)), (0, .ref (xa E 0)), (1, .int a1)]) hx hb dX0_judge_61 rfl hl (by decide) rfl (fun ls hl => ?_)
          refine lv_aload_n hx hb dX0_judge_62 rfl (lv_at hl 1 rfl) ?_
          refine lv_aload_n hx hb dX0_judge_63 rfl (lv_at hl 0 rfl) ?_
          refine va_getN (D := xD E) (ci := 1) (v := .int (σ13 11 0)) (C := RX1) (T := TX1) (N := 7) hx hb hts in_X1 hown hK (xO_F hW) 0 rfl rfl 6 (by decide) (va_Nw.use rfl (F.2.1.2.1 _ q183 rfl)) (fun _ h9 => h9) rfl dX0_judge_64 ?_
          cases g25 : fX0_finding σ13 (σ13 11 0) with
          | none => rw [g25] at h; cases h
          | some r26 =>
            rw [g25, Option.bind_some] at h
            refine x_backi (va_runV (C := RX0) (b := (xa E 0)) (As := [.int (σ13 11 0)]) (rest := []) F.1 (mX0_finding l E σ13 (σ13 11 0) r26.1 r26.2 g25) (cwV 1 hts (lw_V q469 q471 qs2 q99 q472) rfl rfl rfl (by decide +kernel) ⟨Nat.le_of_ble_eq_true rfl, Nat.le_of_ble_eq_true rfl⟩) ⟨xPc.blind, va_recv hK (xO_X hW) (ci := 0) (q0 := 0) rfl rfl, F.pre hW hS (.ref (xa E 0) :: [.int (σ13 11 0)])⟩ rfl rfl hl.1 rfl (lv_room (Nat.le_of_ble_eq_true rfl)) dX0_judge_67 ⟨Nat.le_refl _, Nat.le_refl _⟩) hS (fun H locs hW hS => ?_)
            obtain ⟨h1, h2⟩ := Prod.mk.inj (Option.some.inj h); subst h1; subst h2
            exact x_iret F hr hlk hW hS dX0_judge_70
        · rw [g11, xct_r] at h
          refine x_backTv (x_runVT (C := RX0) (b := (xa E 0)) (As := [.int 1, .int 5]) (rest := []) F.1 (mX0_need l E σ3 1 5 (some r12) σ13 g11) (cwV 2 hts (lw_V q856 q858 qs25 q99 q859) rfl rfl rfl (by decide +kernel) ⟨Nat.le_of_ble_eq_true rfl, Nat.le_of_ble_eq_true rfl⟩) ⟨xPc.blind, va_recv hK (xO_X hW) (ci := 0) (q0 := 0) rfl rfl, F.pre hW hS (.ref (xa E 0) :: [.int 1, .int 5])⟩ rfl rfl hl.1 rfl (lv_room (Nat.le_of_ble_eq_true rfl)) dX0_judge_17 ⟨Nat.le_refl _, Nat.le_refl _⟩) hS (fun H locs hW hS => ?_)
          refine lv_iconst (v := 0) hx hb dX0_judge_20 (by decide) ?_
          refine lv_istore_n (lv' := [(3, .int 0), (2, .ref (xq E j9)), (0, .ref (xa E 0)), (1, .int a1)]) hx hb dX0_judge_21 rfl hl (by decide) rfl (fun ls hl => ?_)
          cases g20 : gX0_judge_22 σ13 j9 xfu 0 with
          | none => rw [g20] at h; cases h
          | some q21 =>
            rw [g20, Option.bind_some] at h
            refine lX0_judge_22 hj10 F xfu 0 q21 g20 _ _ _ hW hS (lv_sub hl [0, 1, 2, 3] rfl) (fun H locs ls hW hS hl => ?_)
            refine lv_iload_n hx hb dX0_judge_45 rfl (lv_at hl 0 rfl) ?_
            refine lv_aload_n hx hb dX0_judge_46 rfl (lv_at hl 1 rfl) ?_
            cases g22 : fX0_length σ13 j9 with
            | none => rw [g22] at h; cases h
            | some r23 =>
              rw [g22, Option.bind_some] at h
              refine x_backi (va_runS (As := [.ref (xq E j9)]) (rest := [.int q21]) F.1 (mX0_length l E σ13 j9 hj10 r23 g22) (va_cwS 1 hts (lw_S q871 q872 q99 q873) rfl rfl rfl (by decide +kernel) ⟨Nat.le_of_ble_eq_true rfl, Nat.le_of_ble_eq_true rfl⟩) ⟨xPc.blind, F.pre hW hS [.ref (xq E j9)]⟩ rfl rfl hl.1 rfl (lv_room (Nat.le_of_ble_eq_true rfl)) dX0_judge_47 ⟨Nat.le_refl _, Nat.le_refl _⟩) hS (fun H locs hW hS => ?_)
              refine lv_icmp_ne (tgt := 57) hx hb dX0_judge_50 (by decide) (fun c24 => ?_) (fun c24 => ?_)
              · rw [if_neg c24] at h
                refine lv_iconst (v := 1) hx hb dX0_judge_57 (by decide) ?_
                refine lv_iload_n hx hb dX0_judge_58 rfl (lv_at hl 0 rfl) ?_
                refine lv_iadd hx hb dX0_judge_59 ?_
                obtain ⟨h1, h2⟩ := Prod.mk.inj (Option.some.inj h); subst h1; subst h2
                exact x_iret F hr hlk hW hS dX0_judge_60
              · rw [if_pos c24] at h
                refine lv_iconst (v := 0) hx hb dX0_judge_53 (by decide) ?_
                refine lv_goto (tgt := 60) hx hb dX0_judge_54 (by decide) ?_
                obtain ⟨h1, h2⟩ := Prod.mk.inj (Option.some.inj h); subst h1; subst h2
                exact x_iret F hr hlk hW hS dX0_judge_60
      · rw [if_neg hj10] at h; cases h
