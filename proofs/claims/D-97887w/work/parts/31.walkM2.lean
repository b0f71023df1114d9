set_option maxRecDepth 100000
/-! WildBellsModel.go(I)I -/
def fX13_go (σ : xM) (a1 : Int32) : Option (Int32 × xM) :=
  if (fX13_within a1 1 24) = 0 then ((fX13_finding σ (-1000001)).bind (fun r12 => some (r12.1, r12.2))) else (if ((σ 20 ((0 : Int32).toNatClampNeg)) + a1) ≤ 99999 then ((fX13_hours σ a1).bind (fun r4 => (fX13_caughtNow r4).bind (fun r6 => (fX13_bits r6).bind (fun r8 => some (r8, r4))))) else ((fX13_finding σ (-1000005)).bind (fun r10 => some (r10.1, r10.2))))
set_option maxHeartbeats 4000000 in
theorem mX13_go (l : Launch) (E : xE) (σ : xM) (a1 : Int32) (r : Int32) (σ' : xM) (h : fX13_go σ a1 = some (r, σ')) : Met l yX13_go (ws_ yX13_go cX13_go 2 (some .int)) ({ frames := 8, cells := 0, slots := 0, locals := 189 } : Room) (xPc E σ [.ref (xa E 186), .int a1]) (xQc E (.returned (some (.int r))) σ') 0 0 (xA E) := by
  refine x_of (C := RX13) (n := "go") (d := "(I)I") (r := (some .int)) (by decide) rfl (by first | decide | exact Nat.le_of_ble_eq_true rfl) ?_
  intro p e s m below meth c ls F hr hlk hW hS hl
  have hl : lv_has ls 2 [(0, .ref (xa E 186)), (1, .int a1)] := hl
  obtain ⟨hx, hb, hml, hown, hts⟩ := id F.1
  have hK := F.2.1.1
  unfold fX13_go at h
  refine lv_iload_n hx hb dX13_go_0 rfl (lv_at hl 1 rfl) ?_
  refine lv_iconst (v := 1) hx hb dX13_go_1 (by decide) ?_
  refine lv_bipush (v := 24) hx hb dX13_go_2 (by decide) ?_
  refine x_backi (va_runS (As := [.int a1, .int 1, .int 24]) (rest := []) F.1 (mX13_within l E σ a1 1 24) (va_cwS 3 hts (lw_S q1276 q1277 q115 q1278) rfl rfl rfl (by decide +kernel) ⟨Nat.le_of_ble_eq_true rfl, Nat.le_of_ble_eq_true rfl⟩) ⟨xPc.blind, F.pre hW hS [.int a1, .int 1, .int 24]⟩ rfl rfl hl.1 rfl (lv_room (Nat.le_of_ble_eq_true rfl)) dX13_go_4 ⟨Nat.le_refl _, Nat.le_refl _⟩) hS (fun H locs hW hS => ?_)
  refine lv_if_ne (tgt := 17) hx hb dX13_go_7 (by decide) (fun c1 => ?_) (fun c1 => ?_)
  · rw [if_neg c1] at h
    refine lv_aload_n hx hb dX13_go_17 rfl (lv_at hl 0 rfl) ?_
    refine va_get (D := xD E) (ci := 13) (v := .ref (xa E 187)) (C := RX13) (T := TX13) (N := 24) hx hb hts in_X13 hown hK (xO_M hW) 0 rfl rfl 0 (by decide) (hts _ q1196) (fun _ h9 => h9) rfl dX13_go_18 ?_
    refine lv_iconst (v := 0) hx hb dX13_go_21 (by decide) ?_
    refine va_iald hx hb hK (xV_p hW xp_187) 0 0 rfl rfl (x_lit (by decide)) dX13_go_22 ?_
    refine lv_iload_n hx hb dX13_go_23 rfl (lv_at hl 1 rfl) ?_
    refine lv_iadd hx hb dX13_go_24 ?_
    refine lv_ldc (v := 99999) hx hb hown (hts _ q1397) dX13_go_25 ?_
    refine lv_icmp_le (tgt := 37) hx hb dX13_go_27 (by decide) (fun c2 => ?_) (fun c2 => ?_)
    · rw [if_pos c2] at h
      refine lv_aload_n hx hb dX13_go_37 rfl (lv_at hl 0 rfl) ?_
      refine lv_iload_n hx hb dX13_go_38 rfl (lv_at hl 1 rfl) ?_
      cases g3 : fX13_hours σ a1 with
      | none => rw [g3] at h; cases h
      | some r4 =>
        rw [g3, Option.bind_some] at h
        refine x_backv (va_runV (C := RX13) (b := (xa E 186)) (As := [.int a1]) (rest := []) F.1 (mX13_hours l E σ a1 r4 g3) (cwV 1 hts (lw_V q1399 q1401 qs66 q115 q1402) rfl rfl rfl (by decide +kernel) ⟨Nat.le_of_ble_eq_true rfl, Nat.le_of_ble_eq_true rfl⟩) ⟨xPc.blind, va_recv hK (xO_M hW) (ci := 13) (q0 := 0) rfl rfl, F.pre hW hS (.ref (xa E 186) :: [.int a1])⟩ rfl rfl hl.1 rfl (lv_room (Nat.le_of_ble_eq_true rfl)) dX13_go_39 ⟨Nat.le_refl _, Nat.le_refl _⟩) hS (fun H locs hW hS => ?_)
        refine lv_aload_n hx hb dX13_go_42 rfl (lv_at hl 0 rfl) ?_
        cases g5 : fX13_caughtNow r4 with
        | none => rw [g5] at h; cases h
        | some r6 =>
          rw [g5, Option.bind_some] at h
          refine x_backi (va_runV (C := RX13) (b := (xa E 186)) (As := []) (rest := []) F.1 (mX13_caughtNow l E r4 r6 g5) (cwV 0 hts (lw_V q1411 q1413 qs69 q115 q1414) rfl rfl rfl (by decide +kernel) ⟨Nat.le_of_ble_eq_true rfl, Nat.le_of_ble_eq_true rfl⟩) ⟨xPc.blind, va_recv hK (xO_M hW) (ci := 13) (q0 := 0) rfl rfl, F.pre hW hS (.ref (xa E 186) :: [])⟩ rfl rfl hl.1 rfl (lv_room (Nat.le_of_ble_eq_true rfl)) dX13_go_43 ⟨Nat.le_refl _, Nat.le_refl _⟩) hS (fun H locs hW hS => ?_)
          cases g7 : fX13_bits r6 with
          | none => rw [g7] at h; cases h
          | some r8 =>
            rw [g7, Option.bind_some] at h
            refine x_backi (va_runS (As := [.int r6]) (rest := []) F.1 (mX13_bits l E r4 r6 r8 g7) (va_cwS 1 hts (lw_S q1415 q1416 q115 q1417) rfl rfl rfl (by decide +kernel) ⟨Nat.le_of_ble_eq_true rfl, Nat.le_of_ble_eq_true rfl⟩) ⟨xPc.blind, F.pre hW hS [.int r6]⟩ rfl rfl hl.1 rfl (lv_room (Nat.le_of_ble_eq_true rfl)) dX13_go_46 ⟨Nat.le_refl _, Nat.le_refl _⟩) hS (fun H locs hW hS => ?_)
            obtain ⟨h1, h2⟩ := Prod.mk.inj (Option.some.inj h); subst h1; subst h2
            exact x_iret F hr hlk hW hS dX13_go_49
    · rw [if_neg c2] at h
      refine lv_aload_n hx hb dX13_go_30 rfl (lv_at hl 0 rfl) ?_
      refine lv_ldc (v := (-1000005)) hx hb hown (hts _ q1398) dX13_go_31 ?_
      cases g9 : fX13_finding σ (-1000005) with
      | none => rw [g9] at h; cases h
      | some r10 =>
        rw [g9, Option.bind_some] at h
        refine x_backi (va_runV (C := RX13) (b := (xa E 186)) (As := [.int (-1000005)]) (rest := []) F.1 (mX13_finding l E σ (-1000005) r10.1 r10.2 g9) (cwV 1 hts (lw_V q1280 q1282 qs52 q115 q1283) rfl rfl rfl (by decide +kernel) ⟨Nat.le_of_ble_eq_true rfl, Nat.le_of_ble_eq_true rfl⟩) ⟨xPc.blind, va_recv hK (xO_M hW) (ci := 13) (q0 := 0) rfl rfl, F.pre hW hS (.ref (xa E 186) :: [.int (-1000005)])⟩ rfl rfl hl.1 rfl (lv_room (Nat.le_of_ble_eq_true rfl)) dX13_go_33 ⟨Nat.le_refl _, Nat.le_refl _⟩) hS (fun H locs hW hS => ?_)
        obtain ⟨h1, h2⟩ := Prod.mk.inj (Option.some.inj h); subst h1; subst h2
        exact x_iret F hr hlk hW hS dX13_go_36
  · rw [if_pos c1] at h
    refine lv_aload_n hx hb dX13_go_10 rfl (lv_at hl 0 rfl) ?_
    refine lv_ldc (v := (-1000001)) hx hb hown (hts _ q1279) dX13_go_11 ?_
    cases g11 : fX13_finding σ (-1000001) with
    | none => rw [g11] at h; cases h
    | some r12 =>
      rw [g11, Option.bind_some] at h
      refine x_backi (va_runV (C := RX13) (b := (xa E 186)) (As := [.int (-1000001)]) (rest := []) F.1 (mX13_finding l E σ (-1000001) r12.1 r12.2 g11) (cwV 1 hts (lw_V q1280 q1282 qs52 q115 q1283) rfl rfl rfl (by decide +kernel) ⟨Nat.le_of_ble_eq_true rfl, Nat.le_of_ble_eq_true rfl⟩) ⟨xPc.blind, va_recv hK (xO_M hW) (ci := 13) (q0 := 0) rfl rfl, F.pre hW hS (.ref (xa E 186) :: [.int (-1000001)])⟩ rfl rfl hl.1 rfl (lv_room (Nat.le_of_ble_eq_true rfl)) dX13_go_13 ⟨Nat.le_refl _, Nat.le_refl _⟩) hS (fun H locs hW hS => ?_)
      obtain ⟨h1, h2⟩ := Prod.mk.inj (Option.some.inj h); subst h1; subst h2
      exact x_iret F hr hlk hW hS dX13_go_16
/-! WildBellsModel.nets()I -/
def gX13_nets_4 (σ : xM) : Nat → Int32 → Int32 → Option (Int32 × Int32)
  | 0, _, _ => none
  | n + 1, x1, x2 => if 64 ≤ x2 then (some (x1, x2)) else (if xin (18 + x2) 186 then (gX13_nets_4 σ n (x1 + (σ 20 ((18 + x2).toNatClampNeg))) (x2 + 1)) else none)
def fX13_nets (σ : xM) : Option Int32 :=
  (gX13_nets_4 σ xfu 0 0).bind (fun q4 => some q4.1)
set_option maxHeartbeats 4000000 in
theorem lX13_nets_4 {p : Program} {l : Launch} {e : Env} {s : State} {m : MethodId} {av : Array Value} {below : List Frame} {meth : Method} {c : Code} {Q : State → Prop} {E : xE} {σ : xM} (F : xFx p m c cX13_nets 3 s av RX13 E) : ∀ (n : Nat) (x1 : Int32) (x2 : Int32) (q : (Int32 × Int32)), gX13_nets_4 σ n x1 x2 = some q → ∀ (H : Heap) (locs : List Loc) (ls : Array Slot), xW E σ H → va_S (xA E) s.heap H locs → lv_has ls 3 [(2, .int x2), (1, .int x1), (0, .ref (xa E 186))] → (∀ (H : Heap) (locs : List Loc) (ls : Array Slot), xW E σ H → va_S (xA E) s.heap H locs → lv_has ls 3 [(2, .int q.2), (1, .int q.1), (0, .ref (xa E 186))] → W p l e ({ frames := 0, cells := 0, slots := 0, locals := 0 } : Room) s m av below meth c H locs 0 0 Q (F0 m 28 ls [])) → W p l e ({ frames := 0, cells := 0, slots := 0, locals := 0 } : Room) s m av below meth c H locs 0 0 Q (F0 m 4 ls []) := by
  obtain ⟨hx, hb, hml, hown, hts⟩ := id F.1
  have hK := F.2.1.1
  intro n
  induction n with
  | zero =>
    intro x1 x2 q h
    cases h
  | succ n ih =>
    intro x1 x2 q h H locs ls hW hS hl kk
    rw [gX13_nets_4] at h
    refine lv_iload_n hx hb dX13_nets_4 rfl (lv_at hl 0 rfl) ?_
    refine lv_bipush (v := 64) hx hb dX13_nets_5 (by decide) ?_
    refine lv_icmp_ge (tgt := 28) hx hb dX13_nets_7 (by decide) (fun c1 => ?_) (fun c1 => ?_)
    · rw [if_pos c1] at h
      have h := Option.some.inj h; subst h
      exact kk _ _ _ hW hS (lv_sub hl [0, 1, 2] rfl)
    · rw [if_neg c1] at h
      refine lv_iload_n hx hb dX13_nets_10 rfl (lv_at hl 1 rfl) ?_
      refine lv_aload_n hx hb dX13_nets_11 rfl (lv_at hl 2 rfl) ?_
      refine va_get (D := xD E) (ci := 13) (v := .ref (xa E 187)) (C := RX13) (T := TX13) (N := 24) hx hb hts in_X13 hown hK (xO_M hW) 0 rfl rfl 0 (by decide) (hts _ q1196) (fun _ h9 => h9) rfl dX13_nets_12 ?_
      refine lv_bipush (v := 18) hx hb dX13_nets_15 (by decide) ?_
      refine lv_iload_n hx hb dX13_nets_17 rfl (lv_at hl 0 rfl) ?_
      refine lv_iadd hx hb dX13_nets_18 ?_
      by_cases hi2 : xin (18 + x2) 186
      · rw [if_pos hi2] at h
        refine va_iald hx hb hK (xV_p hW xp_187) 0 0 rfl rfl hi2 dX13_nets_19 ?_
        refine lv_iadd hx hb dX13_nets_20 ?_
        refine lv_istore_n (lv' := [(1, .int (x1 + (σ 20 ((18 + x2).toNatClampNeg)))), (2, .int x2), (0, .ref (xa E 186))]) hx hb dX13_nets_21 rfl hl (by decide) rfl (fun ls hl => ?_)
        refine lv_iinc (k := 1) (v := (x2 + 1)) (lv' := [(2, .int (x2 + 1)), (1, .int (x1 + (σ 20 ((18 + x2).toNatClampNeg)))), (0, .ref (xa E 186))]) hx hb dX13_nets_22 hl rfl rfl (by decide) rfl (fun ls hl => ?_)
        refine lv_goto (tgt := 4) hx hb dX13_nets_25 (by decide) ?_
        exact ih (x1 + (σ 20 ((18 + x2).toNatClampNeg))) (x2 + 1) _ h _ _ _ hW hS (lv_sub hl [0, 1, 2] rfl) kk
      · rw [if_neg hi2] at h; cases h
set_option maxHeartbeats 4000000 in
theorem mX13_nets (l : Launch) (E : xE) (σ : xM) (r : Int32) (h : fX13_nets σ = some r) : Met l yX13_nets (ws_ yX13_nets cX13_nets 3 (some .int)) ({ frames := 0, cells := 0, slots := 0, locals := 0 } : Room) (xPc E σ [.ref (xa E 186)]) (xQc E (.returned (some (.int r))) σ) 0 0 (xA E) := by
  refine x_of (C := RX13) (n := "nets") (d := "()I") (r := (some .int)) (by decide) rfl (by first | decide | exact Nat.le_of_ble_eq_true rfl) ?_
  intro p e s m below meth c ls F hr hlk hW hS hl
  have hl : lv_has ls 3 [(0, .ref (xa E 186))] := hl
  obtain ⟨hx, hb, hml, hown, hts⟩ := id F.1
  have hK := F.2.1.1
  unfold fX13_nets at h
  refine lv_iconst (v := 0) hx hb dX13_nets_0 (by decide) ?_
  refine lv_istore_n (lv' := [(1, .int 0), (0, .ref (xa E 186))]) hx hb dX13_nets_1 rfl hl (by decide) rfl (fun ls hl => ?_)
  refine lv_iconst (v := 0) hx hb dX13_nets_2 (by decide) ?_
  refine lv_istore_n (lv' := [(2, .int 0), (1, .int 0), (0, .ref (xa E 186))]) hx hb dX13_nets_3 rfl hl (by decide) rfl (fun ls hl => ?_)
  cases g3 : gX13_nets_4 σ xfu 0 0 with
  | none => rw [g3] at h; cases h
  | some q4 =>
    rw [g3, Option.bind_some] at h
    refine lX13_nets_4 F xfu 0 0 q4 g3 _ _ _ hW hS (lv_sub hl [0, 1, 2] rfl) (fun H locs ls hW hS hl => ?_)
    refine lv_iload_n hx hb dX13_nets_28 rfl (lv_at hl 1 rfl) ?_
    have h := Option.some.inj h; subst h
    exact x_iret F hr hlk hW hS dX13_nets_29
/-! WildBellsModel.caughtWeight()I -/
def gX13_caughtWeight_4 (σ : xM) : Nat → Int32 → Int32 → Option (Int32 × Int32)
  | 0, _, _ => none
  | n + 1, x1, x2 => if (σ 20 ((2 : Int32).toNatClampNeg)) ≤ x2 then (some (x1, x2)) else ((fX13_isCaught σ x2).bind (fun r3 => if r3 = 0 then (gX13_caughtWeight_4 σ n (x1 + 0) (x2 + 1)) else ((fX13_bellIs σ x2 3).bind (fun r6 => gX13_caughtWeight_4 σ n (x1 + r6) (x2 + 1)))))
def fX13_caughtWeight (σ : xM) : Option Int32 :=
  (gX13_caughtWeight_4 σ xfu 0 0).bind (fun q8 => some q8.1)
set_option maxHeartbeats 4000000 in
theorem lX13_caughtWeight_4 {p : Program} {l : Launch} {e : Env} {s : State} {m : MethodId} {av : Array Value} {below : List Frame} {meth : Method} {c : Code} {Q : State → Prop} {E : xE} {σ : xM} (F : xFx p m c cX13_caughtWeight 3 s av RX13 E) : ∀ (n : Nat) (x1 : Int32) (x2 : Int32) (q : (Int32 × Int32)), gX13_caughtWeight_4 σ n x1 x2 = some q → ∀ (H : Heap) (locs : List Loc) (ls : Array Slot), xW E σ H → va_S (xA E) s.heap H locs → lv_has ls 3 [(2, .int x2), (1, .int x1), (0, .ref (xa E 186))] → (∀ (H : Heap) (locs : List Loc) (ls : Array Slot), xW E σ H → va_S (xA E) s.heap H locs → lv_has ls 3 [(2, .int q.2), (1, .int q.1), (0, .ref (xa E 186))] → W p l e ({ frames := 3, cells := 0, slots := 0, locals := 64 } : Room) s m av below meth c H locs 0 0 Q (F0 m 41 ls [])) → W p l e ({ frames := 3, cells := 0, slots := 0, locals := 64 } : Room) s m av below meth c H locs 0 0 Q (F0 m 4 ls []) := by
  obtain ⟨hx, hb, hml, hown, hts⟩ := id F.1
  have hK := F.2.1.1
  intro n
  induction n with
  | zero =>
    intro x1 x2 q h
    cases h
  | succ n ih =>
    intro x1 x2 q h H locs ls hW hS hl kk
    rw [gX13_caughtWeight_4] at h
    refine lv_iload_n hx hb dX13_caughtWeight_4 rfl (lv_at hl 0 rfl) ?_
    refine lv_aload_n hx hb dX13_caughtWeight_5 rfl (lv_at hl 2 rfl) ?_
    refine va_get (D := xD E) (ci := 13) (v := .ref (xa E 187)) (C := RX13) (T := TX13) (N := 24) hx hb hts in_X13 hown hK (xO_M hW) 0 rfl rfl 0 (by decide) (hts _ q1196) (fun _ h9 => h9) rfl dX13_caughtWeight_6 ?_
    refine lv_iconst (v := 2) hx hb dX13_caughtWeight_9 (by decide) ?_
    refine va_iald hx hb hK (xV_p hW xp_187) 0 0 rfl rfl (x_lit (by decide)) dX13_caughtWeight_10 ?_
    refine lv_icmp_ge (tgt := 41) hx hb dX13_caughtWeight_11 (by decide) (fun c1 => ?_) (fun c1 => ?_)
    · rw [if_pos c1] at h
      have h := Option.some.inj h; subst h
      exact kk _ _ _ hW hS (lv_sub hl [0, 1, 2] rfl)
    · rw [if_neg c1] at h
      refine lv_iload_n hx hb dX13_caughtWeight_14 rfl (lv_at hl 1 rfl) ?_
      refine lv_aload_n hx hb dX13_caughtWeight_15 rfl (lv_at hl 2 rfl) ?_
      refine lv_iload_n hx hb dX13_caughtWeight_16 rfl (lv_at hl 0 rfl) ?_
      cases g2 : fX13_isCaught σ x2 with
      | none => rw [g2] at h; cases h
      | some r3 =>
        rw [g2, Option.bind_some] at h
        refine x_backi (va_runV (C := RX13) (b := (xa E 186)) (As := [.int x2]) (rest := [.int x1]) F.1 (mX13_isCaught l E σ x2 r3 g2) (cwV 1 hts (lw_V q1353 q1355 qs60 q115 q1356) rfl rfl rfl (by decide +kernel) ⟨Nat.le_of_ble_eq_true rfl, Nat.le_of_ble_eq_true rfl⟩) ⟨xPc.blind, va_recv hK (xO_M hW) (ci := 13) (q0 := 0) rfl rfl, F.pre hW hS (.ref (xa E 186) :: [.int x2])⟩ rfl rfl hl.1 rfl (lv_room (Nat.le_of_ble_eq_true rfl)) dX13_caughtWeight_17 ⟨Nat.le_refl _, Nat.le_refl _⟩) hS (fun H locs hW hS => ?_)
        refine lv_if_eq (tgt := 32) hx hb dX13_caughtWeight_20 (by decide) (fun c4 => ?_) (fun c4 => ?_)
        · rw [if_pos c4] at h
          refine lv_iconst (v := 0) hx hb dX13_caughtWeight_32 (by decide) ?_
          refine lv_iadd hx hb dX13_caughtWeight_33 ?_
          refine lv_istore_n (lv' := [(1, .int (x1 + 0)), (2, .int x2), (0, .ref (xa E 186))]) hx hb dX13_caughtWeight_34 rfl hl (by decide) rfl (fun ls hl => ?_)
          refine lv_iinc (k := 1) (v := (x2 + 1)) (lv' := [(2, .int (x2 + 1)), (1, .int (x1 + 0)), (0, .ref (xa E 186))]) hx hb dX13_caughtWeight_35 hl rfl rfl (by decide) rfl (fun ls hl => ?_)
          refine lv_goto (tgt := 4) hx hb dX13_caughtWeight_38 (by decide) ?_
          exact ih (x1 + 0) (x2 + 1) _ h _ _ _ hW hS (lv_sub hl [0, 1, 2] rfl) kk
        · rw [if_neg c4] at h
          refine lv_aload_n hx hb dX13_caughtWeight_23 rfl (lv_at hl 2 rfl) ?_
          refine lv_iload_n hx hb dX13_caughtWeight_24 rfl (lv_at hl 0 rfl) ?_
          refine lv_iconst (v := 3) hx hb dX13_caughtWeight_25 (by decide) ?_
          cases g5 : fX13_bellIs σ x2 3 with
          | none => rw [g5] at h; cases h
          | some r6 =>
            rw [g5, Option.bind_some] at h
            refine x_backi (va_runV (C := RX13) (b := (xa E 186)) (As := [.int x2, .int 3]) (rest := [.int x1]) F.1 (mX13_bellIs l E σ x2 3 r6 g5) (cwV 2 hts (lw_V q1326 q1328 qs56 q115 q1329) rfl rfl rfl (by decide +kernel) ⟨Nat.le_of_ble_eq_true rfl, Nat.le_of_ble_eq_true rfl⟩) ⟨xPc.blind, va_recv hK (xO_M hW) (ci := 13) (q0 := 0) rfl rfl, F.pre hW hS (.ref (xa E 186) :: [.int x2, .int 3])⟩ rfl rfl hl.1 rfl (lv_room (Nat.le_of_ble_eq_true rfl)) dX13_caughtWeight_26 ⟨Nat.le_refl _, Nat.le_refl _⟩) hS (fun H locs hW hS => ?_)
            refine lv_goto (tgt := 33) hx hb dX13_caughtWeight_29 (by decide) ?_
            refine lv_iadd hx hb dX13_caughtWeight_33 ?_
            refine lv_istore_n (lv' := [(1, .int (x1 + r6)), (2, .int x2), (0, .ref (xa E 186))]) hx hb dX13_caughtWeight_34 rfl hl (by decide) rfl (fun ls hl => ?_)
            refine lv_iinc (k := 1) (v := (x2 + 1)) (lv' := [(2, .int (x2 + 1)), (1, .int (x1 + r6)), (0, .ref (xa E 186))]) hx hb dX13_caughtWeight_35 hl rfl rfl (by decide) rfl (fun ls hl => ?_)
            refine lv_goto (tgt := 4) hx hb dX13_caughtWeight_38 (by decide) ?_
            exact ih (x1 + r6) (x2 + 1) _ h _ _ _ hW hS (lv_sub hl [0, 1, 2] rfl) kk
set_option maxHeartbeats 4000000 in
theorem mX13_caughtWeight (l : Launch) (E : xE) (σ : xM) (r : Int32) (h : fX13_caughtWeight σ = some r) : Met l yX13_caughtWeight (ws_ yX13_caughtWeight cX13_caughtWeight 3 (some .int)) ({ frames := 3, cells := 0, slots := 0, locals := 64 } : Room) (xPc E σ [.ref (xa E 186)]) (xQc E (.returned (some (.int r))) σ) 0 0 (xA E) := by
  refine x_of (C := RX13) (n := "caughtWeight") (d := "()I") (r := (some .int)) (by decide) rfl (by first | decide | exact Nat.le_of_ble_eq_true rfl) ?_
  intro p e s m below meth c ls F hr hlk hW hS hl
  have hl : lv_has ls 3 [(0, .ref (xa E 186))] := hl
  obtain ⟨hx, hb, hml, hown, hts⟩ := id F.1
  have hK := F.2.1.1
  unfold fX13_caughtWeight at h
  refine lv_iconst (v := 0) hx hb dX13_caughtWeight_0 (by decide) ?_
  refine lv_istore_n (lv' := [(1, .int 0), (0, .ref (xa E 186))]) hx hb dX13_caughtWeight_1 rfl hl (by decide) rfl (fun ls hl => ?_)
  refine lv_iconst (v := 0) hx hb dX13_caughtWeight_2 (by decide) ?_
  refine lv_istore_n (lv' := [(2, .int 0), (1, .int 0), (0, .ref (xa E 186))]) hx hb dX13_caughtWeight_3 rfl hl (by decide) rfl (fun ls hl => ?_)
  cases g7 : gX13_caughtWeight_4 σ xfu 0 0 with
  | none => rw [g7] at h; cases h
  | some q8 =>
    rw [g7, Option.bind_some] at h
    refine lX13_caughtWeight_4 F xfu 0 0 q8 g7 _ _ _ hW hS (lv_sub hl [0, 1, 2] rfl) (fun H locs ls hW hS hl => ?_)
    refine lv_iload_n hx hb dX13_caughtWeight_41 rfl (lv_at hl 1 rfl) ?_
    have h := Option.some.inj h; subst h
    exact x_iret F hr hlk hW hS dX13_caughtWeight_42
/-! WildBellsModel.now(I)I -/
def fX13_now (σ : xM) (a1 : Int32) : Option (Int32 × xM) :=
  (if a1 = 0 then (some ((σ 20 ((0 : Int32).toNatClampNeg)), σ)) else (if a1 = 1 then ((fX13_caughtNow σ).bind (fun r4 => some (r4, σ))) else (if a1 = 2 then ((fX13_nets σ).bind (fun r7 => some (r7, σ))) else (if a1 = 3 then (some ((σ 20 ((1 : Int32).toNatClampNeg)), σ)) else (if a1 = 4 then ((fX13_caughtWeight σ).bind (fun r11 => some (r11, σ))) else ((fX13_finding σ (-1000001)).bind (fun r13 => some (r13.1, r13.2))))))))
set_option maxHeartbeats 4000000 in
theorem mX13_now (l : Launch) (E : xE) (σ : xM) (a1 : Int32) (r : Int32) (σ' : xM) (h : fX13_now σ a1 = some (r, σ')) : Met l yX13_now (ws_ yX13_now cX13_now 2 (some .int)) ({ frames := 4, cells := 0, slots := 0, locals := 86 } : Room) (xPc E σ [.ref (xa E 186), .int a1]) (xQc E (.returned (some (.int r))) σ') 0 0 (xA E) := by
  refine x_of (C := RX13) (n := "now") (d := "(I)I") (r := (some .int)) (by decide) rfl (by first | decide | exact Nat.le_of_ble_eq_true rfl) ?_
  intro p e s m below meth c ls F hr hlk hW hS hl
  have hl : lv_has ls 2 [(0, .ref (xa E 186)), (1, .int a1)] := hl
  obtain ⟨hx, hb, hml, hown, hts⟩ := id F.1
  have hK := F.2.1.1
  unfold fX13_now at h
  refine lv_iload_n hx hb dX13_now_0 rfl (lv_at hl 1 rfl) ?_
  by_cases c1 : a1 = 0
  · rw [if_pos c1] at h
    refine lv_tableIn (tgt := 36) hx hb dX13_now_1 (by rw [c1]; decide) (by rw [c1]; decide) (by rw [c1]; rfl) (by decide) ?_
    refine lv_aload_n hx hb dX13_now_36 rfl (lv_at hl 0 rfl) ?_
    refine va_get (D := xD E) (ci := 13) (v := .ref (xa E 187)) (C := RX13) (T := TX13) (N := 24) hx hb hts in_X13 hown hK (xO_M hW) 0 rfl rfl 0 (by decide) (hts _ q1196) (fun _ h9 => h9) rfl dX13_now_37 ?_
    refine lv_iconst (v := 0) hx hb dX13_now_40 (by decide) ?_
    refine va_iald hx hb hK (xV_p hW xp_187) 0 0 rfl rfl (x_lit (by decide)) dX13_now_41 ?_
    obtain ⟨h1, h2⟩ := Prod.mk.inj (Option.some.inj h); subst h1; subst h2
    exact x_iret F hr hlk hW hS dX13_now_42
  · rw [if_neg c1] at h
    by_cases c2 : a1 = 1
    · rw [if_pos c2] at h
      refine lv_tableIn (tgt := 43) hx hb dX13_now_1 (by rw [c2]; decide) (by rw [c2]; decide) (by rw [c2]; rfl) (by decide) ?_
      refine lv_aload_n hx hb dX13_now_43 rfl (lv_at hl 0 rfl) ?_
      cases g3 : fX13_caughtNow σ with
      | none => rw [g3] at h; cases h
      | some r4 =>
        rw [g3, Option.bind_some] at h
        refine x_backi (va_runV (C := RX13) (b := (xa E 186)) (As := []) (rest := []) F.1 (mX13_caughtNow l E σ r4 g3) (cwV 0 hts (lw_V q1411 q1413 qs69 q115 q1414) rfl rfl rfl (by decide +kernel) ⟨Nat.le_of_ble_eq_true rfl, Nat.le_of_ble_eq_true rfl⟩) ⟨xPc.blind, va_recv hK (xO_M hW) (ci := 13) (q0 := 0) rfl rfl, F.pre hW hS (.ref (xa E 186) :: [])⟩ rfl rfl hl.1 rfl (lv_room (Nat.le_of_ble_eq_true rfl)) dX13_now_44 ⟨Nat.le_refl _, Nat.le_refl _⟩) hS (fun H locs hW hS => ?_)
        obtain ⟨h1, h2⟩ := Prod.mk.inj (Option.some.inj h); subst h1; subst h2
        exact x_iret F hr hlk hW hS dX13_now_47
    · rw [if_neg c2] at h
      by_cases c5 : a1 = 2
      · rw [if_pos c5] at h
        refine lv_tableIn (tgt := 48) hx hb dX13_now_1 (by rw [c5]; decide) (by rw [c5]; decide) (by rw [c5]; rfl) (by decide) ?_
        refine lv_aload_n hx hb dX13_now_48 rfl (lv_at hl 0 rfl) ?_
        cases g6 : fX13_nets σ with
        | none => rw [g6] at h; cases h
        | some r7 =>
          rw [g6, Option.bind_some] at h
          refine x_backi (va_runV (C := RX13) (b := (xa E 186)) (As := []) (rest := []) F.1 (mX13_nets l E σ r7 g6) (cwV 0 hts (lw_V q1422 q1424 qs70 q115 q1425) rfl rfl rfl (by decide +kernel) ⟨Nat.le_of_ble_eq_true rfl, Nat.le_of_ble_eq_true rfl⟩) ⟨xPc.blind, va_recv hK (xO_M hW) (ci := 13) (q0 := 0) rfl rfl, F.pre hW hS (.ref (xa E 186) :: [])⟩ rfl rfl hl.1 rfl (lv_room (Nat.le_of_ble_eq_true rfl)) dX13_now_49 ⟨Nat.le_refl _, Nat.le_refl _⟩) hS (fun H locs hW hS => ?_)
          obtain ⟨h1, h2⟩ := Prod.mk.inj (Option.some.inj h); subst h1; subst h2
          exact x_iret F hr hlk hW hS dX13_now_52
      · rw [if_neg c5] at h
        by_cases c8 : a1 = 3
        · rw [if_pos c8] at h
          refine lv_tableIn (tgt := 53) hx hb dX13_now_1 (by rw [c8]; decide) (by rw [c8]; decide) (by rw [c8]; rfl) (by decide) ?_
          refine lv_aload_n hx hb dX13_now_53 rfl (lv_at hl 0 rfl) ?_
          refine va_get (D := xD E) (ci := 13) (v := .ref (xa E 187)) (C := RX13) (T := TX13) (N := 24) hx hb hts in_X13 hown hK (xO_M hW) 0 rfl rfl 0 (by decide) (hts _ q1196) (fun _ h9 => h9) rfl dX13_now_54 ?_
          refine lv_iconst (v := 1) hx hb dX13_now_57 (by decide) ?_
          refine va_iald hx hb hK (xV_p hW xp_187) 0 0 rfl rfl (x_lit (by decide)) dX13_now_58 ?_
          obtain ⟨h1, h2⟩ := Prod.mk.inj (Option.some.inj h); subst h1; subst h2
          exact x_iret F hr hlk hW hS dX13_now_59
        · rw [if_neg c8] at h
          by_cases c9 : a1 = 4
          · rw [if_pos c9] at h
            refine lv_tableIn (tgt := 60) hx hb dX13_now_1 (by rw [c9]; decide) (by rw [c9]; decide) (by rw [c9]; rfl) (by decide) ?_
            refine lv_aload_n hx hb dX13_now_60 rfl (lv_at hl 0 rfl) ?_
            cases g10 : fX13_caughtWeight σ with
            | none => rw [g10] at h; cases h
            | some r11 =>
              rw [g10, Option.bind_some] at h
              refine x_backi (va_runV (C := RX13) (b := (xa E 186)) (As := []) (rest := []) F.1 (mX13_caughtWeight l E σ r11 g10) (cwV 0 hts (lw_V q1426 q1428 qs71 q115 q1429) rfl rfl rfl (by decide +kernel) ⟨Nat.le_of_ble_eq_true rfl, Nat.le_of_ble_eq_true rfl⟩) ⟨xPc.blind, va_recv hK (xO_M hW) (ci := 13) (q0 := 0) rfl rfl, F.pre hW hS (.ref (xa E 186) :: [])⟩ rfl rfl hl.1 rfl (lv_room (Nat.le_of_ble_eq_true rfl)) dX13_now_61 ⟨Nat.le_refl _, Nat.le_refl _⟩) hS (fun H locs hW hS => ?_)
              obtain ⟨h1, h2⟩ := Prod.mk.inj (Option.some.inj h); subst h1; subst h2
              exact x_iret F hr hlk hW hS dX13_now_64
          · rw [if_neg c9] at h
            refine lv_tableOut (tgt := 65) hx hb dX13_now_1 (by have := lv_neT (a := 0) c1 rfl; have := lv_neT (a := 1) c2 rfl; have := lv_neT (a := 2) c5 rfl; have := lv_neT (a := 3) c8 rfl; have := lv_neT (a := 4) c9 rfl; omega) (by decide) ?_
            refine lv_aload_n hx hb dX13_now_65 rfl (lv_at hl 0 rfl) ?_
            refine lv_ldc (v := (-1000001)) hx hb hown (hts _ q1279) dX13_now_66 ?_
            cases g12 : fX13_finding σ (-1000001) with
            | none => rw [g12] at h; cases h
            | some r13 =>
              rw [g12, Option.bind_some] at h
              refine x_backi (va_runV (C := RX13) (b := (xa E 186)) (As := [.int (-1000001)]) (rest := []) F.1 (mX13_finding l E σ (-1000001) r13.1 r13.2 g12) (cwV 1 hts (lw_V q1280 q1282 qs52 q115 q1283) rfl rfl rfl (by decide +kernel) ⟨Nat.le_of_ble_eq_true rfl, Nat.le_of_ble_eq_true rfl⟩) ⟨xPc.blind, va_recv hK (xO_M hW) (ci := 13) (q0 := 0) rfl rfl, F.pre hW hS (.ref (xa E 186) :: [.int (-1000001)])⟩ rfl rfl hl.1 rfl (lv_room (Nat.le_of_ble_eq_true rfl)) dX13_now_68 ⟨Nat.le_refl _, Nat.le_refl _⟩) hS (fun H locs hW hS => ?_)
              obtain ⟨h1, h2⟩ := Prod.mk.inj (Option.some.inj h); subst h1; subst h2
              exact x_iret F hr hlk hW hS dX13_now_71
/-! WildBellsModel.loud(II)I -/
def fX13_loud (σ : xM) (a1 : Int32) (a2 : Int32) : Option (Int32 × xM) :=
  (fX13_isBell σ a1).bind (fun r2 => if r2 = 0 then ((fX13_finding σ (-1000001)).bind (fun r5 => some (r5.1, r5.2))) else (if (fX13_isCell a2) = 0 then ((fX13_finding σ (-1000001)).bind (fun r8 => some (r8.1, r8.2))) else ((fX13_loudAt σ a1 a2).bind (fun r10 => some (r10, σ)))))
set_option maxHeartbeats 4000000 in
theorem mX13_loud (l : Launch) (E : xE) (σ : xM) (a1 : Int32) (a2 : Int32) (r : Int32) (σ' : xM) (h : fX13_loud σ a1 a2 = some (r, σ')) : Met l yX13_loud (ws_ yX13_loud cX13_loud 3 (some .int)) ({ frames := 4, cells := 0, slots := 0, locals := 86 } : Room) (xPc E σ [.ref (xa E 186), .int a1, .int a2]) (xQc E (.returned (some (.int r))) σ') 0 0 (xA E) := by
  refine x_of (C := RX13) (n := "loud") (d := "(II)I") (r := (some .int)) (by decide) rfl (by first | decide | exact Nat.le_of_ble_eq_true rfl) ?_
  intro p e s m below meth c ls F hr hlk hW hS hl
  have hl : lv_has ls 3 [(0, .ref (xa E 186)), (1, .int a1), (2, .int a2)] := hl
  obtain ⟨hx, hb, hml, hown, hts⟩ := id F.1
  have hK := F.2.1.1
  unfold fX13_loud at h
  refine lv_aload_n hx hb dX13_loud_0 rfl (lv_at hl 0 rfl) ?_
  refine lv_iload_n hx hb dX13_loud_1 rfl (lv_at hl 1 rfl) ?_
  cases g1 : fX13_isBell σ a1 with
  | none => rw [g1] at h; cases h
  | some r2 =>
    rw [g1, Option.bind_some] at h
    refine x_backi (va_runV (C := RX13) (b := (xa E 186)) (As := [.int a1]) (rest := []) F.1 (mX13_isBell l E σ a1 r2 g1) (cwV 1 hts (lw_V q1322 q1324 qs55 q115 q1325) rfl rfl rfl (by decide +kernel) ⟨Nat.le_of_ble_eq_true rfl, Nat.le_of_ble_eq_true rfl⟩) ⟨xPc.blind, va_recv hK (xO_M hW) (ci := 13) (q0 := 0) rfl rfl, F.pre hW hS (.ref (xa E 186) :: [.int a1])⟩ rfl rfl hl.1 rfl (lv_room (Nat.le_of_ble_eq_true rfl)) dX13_loud_2 ⟨Nat.le_refl _, Nat.le_refl _⟩) hS (fun H locs hW hS => ?_)
    refine lv_if_eq (tgt := 24) hx hb dX13_loud_5 (by decide) (fun c3 => ?_) (fun c3 => ?_)
    · rw [if_pos c3] at h
      refine lv_aload_n hx hb dX13_loud_24 rfl (lv_at hl 0 rfl) ?_
      refine lv_ldc (v := (-1000001)) hx hb hown (hts _ q1279) dX13_loud_25 ?_
      cases g4 : fX13_finding σ (-1000001) with
      | none => rw [g4] at h; cases h
      | some r5 =>
        rw [g4, Option.bind_some] at h
        refine x_backi (va_runV (C := RX13) (b := (xa E 186)) (As := [.int (-1000001)]) (rest := []) F.1 (mX13_finding l E σ (-1000001) r5.1 r5.2 g4) (cwV 1 hts (lw_V q1280 q1282 qs52 q115 q1283) rfl rfl rfl (by decide +kernel) ⟨Nat.le_of_ble_eq_true rfl, Nat.le_of_ble_eq_true rfl⟩) ⟨xPc.blind, va_recv hK (xO_M hW) (ci := 13) (q0 := 0) rfl rfl, F.pre hW hS (.ref (xa E 186) :: [.int (-1000001)])⟩ rfl rfl hl.1 rfl (lv_room (Nat.le_of_ble_eq_true rfl)) dX13_loud_27 ⟨Nat.le_refl _, Nat.le_refl _⟩) hS (fun H locs hW hS => ?_)
        obtain ⟨h1, h2⟩ := Prod.mk.inj (Option.some.inj h); subst h1; subst h2
        exact x_iret F hr hlk hW hS dX13_loud_30
    · rw [if_neg c3] at h
      refine lv_iload_n hx hb dX13_loud_8 rfl (lv_at hl 2 rfl) ?_
      refine x_backi (va_runS (As := [.int a2]) (rest := []) F.1 (mX13_isCell l E σ a2) (va_cwS 1 hts (lw_S q1273 q1274 q115 q1275) rfl rfl rfl (by decide +kernel) ⟨Nat.le_of_ble_eq_true rfl, Nat.le_of_ble_eq_true rfl⟩) ⟨xPc.blind, F.pre hW hS [.int a2]⟩ rfl rfl hl.1 rfl (lv_room (Nat.le_of_ble_eq_true rfl)) dX13_loud_9 ⟨Nat.le_refl _, Nat.le_refl _⟩) hS (fun H locs hW hS => ?_)
      refine lv_if_eq (tgt := 24) hx hb dX13_loud_12 (by decide) (fun c6 => ?_) (fun c6 => ?_)
      · rw [if_pos c6] at h
        refine lv_aload_n hx hb dX13_loud_24 rfl (lv_at hl 0 rfl) ?_
        refine lv_ldc (v := (-1000001)) hx hb hown (hts _ q1279) dX13_loud_25 ?_
        cases g7 : fX13_finding σ (-1000001) with
        | none => rw [g7] at h; cases h
        | some r8 =>
          rw [g7, Option.bind_some] at h
          refine x_backi (va_runV (C := RX13) (b := (xa E 186)) (As := [.int (-1000001)]) (rest := []) F.1 (mX13_finding l E σ (-1000001) r8.1 r8.2 g7) (cwV 1 hts (lw_V q1280 q1282 qs52 q115 q1283) rfl rfl rfl (by decide +kernel) ⟨Nat.le_of_ble_eq_true rfl, Nat.le_of_ble_eq_true rfl⟩) ⟨xPc.blind, va_recv hK (xO_M hW) (ci := 13) (q0 := 0) rfl rfl, F.pre hW hS (.ref (xa E 186) :: [.int (-1000001)])⟩ rfl rfl hl.1 rfl (lv_room (Nat.le_of_ble_eq_true rfl)) dX13_loud_27 ⟨Nat.le_refl _, Nat.le_refl _⟩) hS (fun H locs hW hS => ?_)
          obtain ⟨h1, h2⟩ := Prod.mk.inj (Option.some.inj h); subst h1; subst h2
          exact x_iret F hr hlk hW hS dX13_loud_30
      · rw [if_neg c6] at h
        refine lv_aload_n hx hb dX13_loud_15 rfl (lv_at hl 0 rfl) ?_
        refine lv_iload_n hx hb dX13_loud_16 rfl (lv_at hl 1 rfl) ?_
        refine lv_iload_n hx hb dX13_loud_17 rfl (lv_at hl 2 rfl) ?_
        cases g9 : fX13_loudAt σ a1 a2 with
        | none => rw [g9] at h; cases h
        | some r10 =>
          rw [g9, Option.bind_some] at h
          refine x_backi (va_runV (C := RX13) (b := (xa E 186)) (As := [.int a1, .int a2]) (rest := []) F.1 (mX13_loudAt l E σ a1 a2 r10 g9) (cwV 2 hts (lw_V q1381 q1383 qs63 q115 q1384) rfl rfl rfl (by decide +kernel) ⟨Nat.le_of_ble_eq_true rfl, Nat.le_of_ble_eq_true rfl⟩) ⟨xPc.blind, va_recv hK (xO_M hW) (ci := 13) (q0 := 0) rfl rfl, F.pre hW hS (.ref (xa E 186) :: [.int a1, .int a2])⟩ rfl rfl hl.1 rfl (lv_room (Nat.le_of_ble_eq_true rfl)) dX13_loud_18 ⟨Nat.le_refl _, Nat.le_refl _⟩) hS (fun H locs hW hS => ?_)
          refine lv_goto (tgt := 30) hx hb dX13_loud_21 (by decide) ?_
          obtain ⟨h1, h2⟩ := Prod.mk.inj (Option.some.inj h); subst h1; subst h2
          exact x_iret F hr hlk hW hS dX13_loud_30
/-! WildBellsModel.fieldBehind(III)I -/
def fX13_fieldBehind (σ : xM) (a1 : Int32) (a2 : Int32) (a3 : Int32) : Option (Int32 × xM) :=
  (fX13_copyRow σ 20 22).bind (fun r2 => (fX13_hours r2 a2).bind (fun r4 => (fX13_bellIs r4 a1 a3).bind (fun r6 => (fX13_putBack r4 r6).bind (fun r8 => some (r8.1, r8.2)))))
set_option maxHeartbeats 4000000 in
theorem mX13_fieldBehind (l : Launch) (E : xE) (σ : xM) (a1 : Int32) (a2 : Int32) (a3 : Int32) (r : Int32) (σ' : xM) (h : fX13_fieldBehind σ a1 a2 a3 = some (r, σ')) : Met l yX13_fieldBehind (ws_ yX13_fieldBehind cX13_fieldBehind 4 (some .int)) ({ frames := 8, cells := 0, slots := 0, locals := 189 } : Room) (xPc E σ [.ref (xa E 186), .int a1, .int a2, .int a3]) (xQc E (.returned (some (.int r))) σ') 0 0 (xA E) := by
  refine x_of (C := RX13) (n := "fieldBehind") (d := "(III)I") (r := (some .int)) (by decide) rfl (by first | decide | exact Nat.le_of_ble_eq_true rfl) ?_
  intro p e s m below meth c ls F hr hlk hW hS hl
  have hl : lv_has ls 4 [(0, .ref (xa E 186)), (1, .int a1), (2, .int a2), (3, .int a3)] := hl
  obtain ⟨hx, hb, hml, hown, hts⟩ := id F.1
  have hK := F.2.1.1
  unfold fX13_fieldBehind at h
  refine lv_aload_n hx hb dX13_fieldBehind_0 rfl (lv_at hl 0 rfl) ?_
  refine va_get (D := xD E) (ci := 13) (v := .ref (xa E 187)) (C := RX13) (T := TX13) (N := 24) hx hb hts in_X13 hown hK (xO_M hW) 0 rfl rfl 0 (by decide) (hts _ q1196) (fun _ h9 => h9) rfl dX13_fieldBehind_1 ?_
  refine lv_aload_n hx hb dX13_fieldBehind_4 rfl (lv_at hl 0 rfl) ?_
  refine va_get (D := xD E) (ci := 13) (v := .ref (xa E 189)) (C := RX13) (T := TX13) (N := 24) hx hb hts in_X13 hown hK (xO_M hW) 0 rfl rfl 2 (by decide) (hts _ q1198) (fun _ h9 => h9) rfl dX13_fieldBehind_5 ?_
  cases g1 : fX13_copyRow σ 20 22 with
  | none => rw [g1] at h; cases h
  | some r2 =>
    rw [g1, Option.bind_some] at h
    refine x_backv (va_runS (As := [.ref (xa E 187), .ref (xa E 189)]) (rest := []) F.1 (mX13_copyRow l E σ 187 20 xp_187 189 22 xp_189 r2 g1) (va_cwS 2 hts (lw_S q1442 q1443 q115 q1444) rfl rfl rfl (by decide +kernel) ⟨Nat.le_of_ble_eq_true rfl, Nat.le_of_ble_eq_true rfl⟩) ⟨xPc.blind, F.pre hW hS [.ref (xa E 187), .ref (xa E 189)]⟩ rfl rfl hl.1 rfl (lv_room (Nat.le_of_ble_eq_true rfl)) dX13_fieldBehind_8 ⟨Nat.le_refl _, Nat.le_refl _⟩) hS (fun H locs hW hS => ?_)
    refine lv_aload_n hx hb dX13_fieldBehind_11 rfl (lv_at hl 0 rfl) ?_
    refine lv_iload_n hx hb dX13_fieldBehind_12 rfl (lv_at hl 2 rfl) ?_
    cases g3 : fX13_hours r2 a2 with
    | none => rw [g3] at h; cases h
    | some r4 =>
      rw [g3, Option.bind_some] at h
      refine x_backv (va_runV (C := RX13) (b := (xa E 186)) (As := [.int a2]) (rest := []) F.1 (mX13_hours l E r2 a2 r4 g3) (cwV 1 hts (lw_V q1399 q1401 qs66 q115 q1402) rfl rfl rfl (by decide +kernel) ⟨Nat.le_of_ble_eq_true rfl, Nat.le_of_ble_eq_true rfl⟩) ⟨xPc.blind, va_recv hK (xO_M hW) (ci := 13) (q0 := 0) rfl rfl, F.pre hW hS (.ref (xa E 186) :: [.int a2])⟩ rfl rfl hl.1 rfl (lv_room (Nat.le_of_ble_eq_true rfl)) dX13_fieldBehind_13 ⟨Nat.le_refl _, Nat.le_refl _⟩) hS (fun H locs hW hS => ?_)
      refine lv_aload_n hx hb dX13_fieldBehind_16 rfl (lv_at hl 0 rfl) ?_
      refine lv_aload_n hx hb dX13_fieldBehind_17 rfl (lv_at hl 0 rfl) ?_
      refine lv_iload_n hx hb dX13_fieldBehind_18 rfl (lv_at hl 1 rfl) ?_
      refine lv_iload_n hx hb dX13_fieldBehind_19 rfl (lv_at hl 3 rfl) ?_
      cases g5 : fX13_bellIs r4 a1 a3 with
      | none => rw [g5] at h; cases h
      | some r6 =>
        rw [g5, Option.bind_some] at h
        refine x_backi (va_runV (C := RX13) (b := (xa E 186)) (As := [.int a1, .int a3]) (rest := [.ref (xa E 186)]) F.1 (mX13_bellIs l E r4 a1 a3 r6 g5) (cwV 2 hts (lw_V q1326 q1328 qs56 q115 q1329) rfl rfl rfl (by decide +kernel) ⟨Nat.le_of_ble_eq_true rfl, Nat.le_of_ble_eq_true rfl⟩) ⟨xPc.blind, va_recv hK (xO_M hW) (ci := 13) (q0 := 0) rfl rfl, F.pre hW hS (.ref (xa E 186) :: [.int a1, .int a3])⟩ rfl rfl hl.1 rfl (lv_room (Nat.le_of_ble_eq_true rfl)) dX13_fieldBehind_20 ⟨Nat.le_refl _, Nat.le_refl _⟩) hS (fun H locs hW hS => ?_)
        cases g7 : fX13_putBack r4 r6 with
        | none => rw [g7] at h; cases h
        | some r8 =>
          rw [g7, Option.bind_some] at h
          refine x_backi (va_runV (C := RX13) (b := (xa E 186)) (As := [.int r6]) (rest := []) F.1 (mX13_putBack l E r4 r6 r8.1 r8.2 g7) (cwV 1 hts (lw_V q1445 q1447 qs73 q115 q1448) rfl rfl rfl (by decide +kernel) ⟨Nat.le_of_ble_eq_true rfl, Nat.le_of_ble_eq_true rfl⟩) ⟨xPc.blind, va_recv hK (xO_M hW) (ci := 13) (q0 := 0) rfl rfl, F.pre hW hS (.ref (xa E 186) :: [.int r6])⟩ rfl rfl hl.1 rfl (lv_room (Nat.le_of_ble_eq_true rfl)) dX13_fieldBehind_23 ⟨Nat.le_refl _, Nat.le_refl _⟩) hS (fun H locs hW hS => ?_)
          obtain ⟨h1, h2⟩ := Prod.mk.inj (Option.some.inj h); subst h1; subst h2
          exact x_iret F hr hlk hW hS dX13_fieldBehind_26
/-! WildBellsModel.ahead(II)I -/
def fX13_ahead (σ : xM) (a1 : Int32) (a2 : Int32) : Option (Int32 × xM) :=
  (fX13_isBell σ a1).bind (fun r2 => if r2 = 0 then ((fX13_finding σ (-1000001)).bind (fun r5 => some (r5.1, r5.2))) else (if (fX13_within a2 0 60) = 0 then ((fX13_finding σ (-1000001)).bind (fun r8 => some (r8.1, r8.2))) else ((fX13_fieldBehind σ a1 a2 1).bind (fun r10 => some (r10.1, r10.2)))))
set_option maxHeartbeats 4000000 in
theorem mX13_ahead (l : Launch) (E : xE) (σ : xM) (a1 : Int32) (a2 : Int32) (r : Int32) (σ' : xM) (h : fX13_ahead σ a1 a2 = some (r, σ')) : Met l yX13_ahead (ws_ yX13_ahead cX13_ahead 3 (some .int)) ({ frames := 9, cells := 0, slots := 0, locals := 212 } : Room) (xPc E σ [.ref (xa E 186), .int a1, .int a2]) (xQc E (.returned (some (.int r))) σ') 0 0 (xA E) := by
  refine x_of (C := RX13) (n := "ahead") (d := "(II)I") (r := (some .int)) (by decide) rfl (by first | decide | exact Nat.le_of_ble_eq_true rfl) ?_
  intro p e s m below meth c ls F hr hlk hW hS hl
  have hl : lv_has ls 3 [(0, .ref (xa E 186)), (1, .int a1), (2, .int a2)] := hl
  obtain ⟨hx, hb, hml, hown, hts⟩ := id F.1
  have hK := F.2.1.1
  unfold fX13_ahead at h
  refine lv_aload_n hx hb dX13_ahead_0 rfl (lv_at hl 0 rfl) ?_
  refine lv_iload_n hx hb dX13_ahead_1 rfl (lv_at hl 1 rfl) ?_
  cases g1 : fX13_isBell σ a1 with
  | none => rw [g1] at h; cases h
  | some r2 =>
    rw [g1, Option.bind_some] at h
    refine x_backi (va_runV (C := RX13) (b := (xa E 186)) (As := [.int a1]) (rest := []) F.1 (mX13_isBell l E σ a1 r2 g1) (cwV 1 hts (lw_V q1322 q1324 qs55 q115 q1325) rfl rfl rfl (by decide +kernel) ⟨Nat.le_of_ble_eq_true rfl, Nat.le_of_ble_eq_true rfl⟩) ⟨xPc.blind, va_recv hK (xO_M hW) (ci := 13) (q0 := 0) rfl rfl, F.pre hW hS (.ref (xa E 186) :: [.int a1])⟩ rfl rfl hl.1 rfl (lv_room (Nat.le_of_ble_eq_true rfl)) dX13_ahead_2 ⟨Nat.le_refl _, Nat.le_refl _⟩) hS (fun H locs hW hS => ?_)
    refine lv_if_eq (tgt := 28) hx hb dX13_ahead_5 (by decide) (fun c3 => ?_) (fun c3 => ?_)
    · rw [if_pos c3] at h
      refine lv_aload_n hx hb dX13_ahead_28 rfl (lv_at hl 0 rfl) ?_
      refine lv_ldc (v := (-1000001)) hx hb hown (hts _ q1279) dX13_ahead_29 ?_
      cases g4 : fX13_finding σ (-1000001) with
      | none => rw [g4] at h; cases h
      | some r5 =>
        rw [g4, Option.bind_some] at h
        refine x_backi (va_runV (C := RX13) (b := (xa E 186)) (As := [.int (-1000001)]) (rest := []) F.1 (mX13_finding l E σ (-1000001) r5.1 r5.2 g4) (cwV 1 hts (lw_V q1280 q1282 qs52 q115 q1283) rfl rfl rfl (by decide +kernel) ⟨Nat.le_of_ble_eq_true rfl, Nat.le_of_ble_eq_true rfl⟩) ⟨xPc.blind, va_recv hK (xO_M hW) (ci := 13) (q0 := 0) rfl rfl, F.pre hW hS (.ref (xa E 186) :: [.int (-1000001)])⟩ rfl rfl hl.1 rfl (lv_room (Nat.le_of_ble_eq_true rfl)) dX13_ahead_31 ⟨Nat.le_refl _, Nat.le_refl _⟩) hS (fun H locs hW hS => ?_)
        obtain ⟨h1, h2⟩ := Prod.mk.inj (Option.some.inj h); subst h1; subst h2
        exact x_iret F hr hlk hW hS dX13_ahead_34
    · rw [if_neg c3] at h
      refine lv_iload_n hx hb dX13_ahead_8 rfl (lv_at hl 2 rfl) ?_
      refine lv_iconst (v := 0) hx hb dX13_ahead_9 (by decide) ?_
      refine lv_bipush (v := 60) hx hb dX13_ahead_10 (by decide) ?_
      refine x_backi (va_runS (As := [.int a2, .int 0, .int 60]) (rest := []) F.1 (mX13_within l E σ a2 0 60) (va_cwS 3 hts (lw_S q1276 q1277 q115 q1278) rfl rfl rfl (by decide +kernel) ⟨Nat.le_of_ble_eq_true rfl, Nat.le_of_ble_eq_true rfl⟩) ⟨xPc.blind, F.pre hW hS [.int a2, .int 0, .int 60]⟩ rfl rfl hl.1 rfl (lv_room (Nat.le_of_ble_eq_true rfl)) dX13_ahead_12 ⟨Nat.le_refl _, Nat.le_refl _⟩) hS (fun H locs hW hS => ?_)
      refine lv_if_eq (tgt := 28) hx hb dX13_ahead_15 (by decide) (fun c6 => ?_) (fun c6 => ?_)
      · rw [if_pos c6] at h
        refine lv_aload_n hx hb dX13_ahead_28 rfl (lv_at hl 0 rfl) ?_
        refine lv_ldc (v := (-1000001)) hx hb hown (hts _ q1279) dX13_ahead_29 ?_
        cases g7 : fX13_finding σ (-1000001) with
        | none => rw [g7] at h; cases h
        | some r8 =>
          rw [g7, Option.bind_some] at h
          refine x_backi (va_runV (C := RX13) (b := (xa E 186)) (As := [.int (-1000001)]) (rest := []) F.1 (mX13_finding l E σ (-1000001) r8.1 r8.2 g7) (cwV 1 hts (lw_V q1280 q1282 qs52 q115 q1283) rfl rfl rfl (by decide +kernel) ⟨Nat.le_of_ble_eq_true rfl, Nat.le_of_ble_eq_true rfl⟩) ⟨xPc.blind, va_recv hK (xO_M hW) (ci := 13) (q0 := 0) rfl rfl, F.pre hW hS (.ref (xa E 186) :: [.int (-1000001)])⟩ rfl rfl hl.1 rfl (lv_room (Nat.le_of_ble_eq_true rfl)) dX13_ahead_31 ⟨Nat.le_refl _, Nat.le_refl _⟩) hS (fun H locs hW hS => ?_)
          obtain ⟨h1, h2⟩ := Prod.mk.inj (Option.some.inj h); subst h1; subst h2
          exact x_iret F hr hlk hW hS dX13_ahead_34
      · rw [if_neg c6] at h
        refine lv_aload_n hx hb dX13_ahead_18 rfl (lv_at hl 0 rfl) ?_
        refine lv_iload_n hx hb dX13_ahead_19 rfl (lv_at hl 1 rfl) ?_
        refine lv_iload_n hx hb dX13_ahead_20 rfl (lv_at hl 2 rfl) ?_
        refine lv_iconst (v := 1) hx hb dX13_ahead_21 (by decide) ?_
        cases g9 : fX13_fieldBehind σ a1 a2 1 with
        | none => rw [g9] at h; cases h
        | some r10 =>
          rw [g9, Option.bind_some] at h
          refine x_backi (va_runV (C := RX13) (b := (xa E 186)) (As := [.int a1, .int a2, .int 1]) (rest := []) F.1 (mX13_fieldBehind l E σ a1 a2 1 r10.1 r10.2 g9) (cwV 3 hts (lw_V q1438 q1440 qs72 q115 q1441) rfl rfl rfl (by decide +kernel) ⟨Nat.le_of_ble_eq_true rfl, Nat.le_of_ble_eq_true rfl⟩) ⟨xPc.blind, va_recv hK (xO_M hW) (ci := 13) (q0 := 0) rfl rfl, F.pre hW hS (.ref (xa E 186) :: [.int a1, .int a2, .int 1])⟩ rfl rfl hl.1 rfl (lv_room (Nat.le_of_ble_eq_true rfl)) dX13_ahead_22 ⟨Nat.le_refl _, Nat.le_refl _⟩) hS (fun H locs hW hS => ?_)
          refine lv_goto (tgt := 34) hx hb dX13_ahead_25 (by decide) ?_
          obtain ⟨h1, h2⟩ := Prod.mk.inj (Option.some.inj h); subst h1; subst h2
          exact x_iret F hr hlk hW hS dX13_ahead_34
/-! WildBellsModel.caughtIn(II)I -/
def gX13_caughtIn_13 (b1 : Int32) (b2 : Int32) : Nat → Int32 → xM → Option (Int32 × xM)
  | 0, _, _ => none
  | n + 1, x3, σ => if b2 ≤ x3 then (some (x3, σ)) else ((fX13_isCaught σ b1).bind (fun r5 => if r5 = 0 then ((fX13_hour σ).bind (fun r8 => gX13_caughtIn_13 b1 b2 n (x3 + 1) r8)) else (some (x3, σ))))
def fX13_caughtIn (σ : xM) (a1 : Int32) (a2 : Int32) : Option (Int32 × xM) :=
  (fX13_copyRow σ 20 22).bind (fun r2 => (gX13_caughtIn_13 a1 a2 xfu 0 r2).bind (fun q10 => (fX13_isCaught q10.2 a1).bind (fun r12 => if r12 = 0 then ((fX13_putBack q10.2 1000000).bind (fun r15 => some (r15.1, r15.2))) else ((fX13_putBack q10.2 q10.1).bind (fun r17 => some (r17.1, r17.2))))))
set_option maxHeartbeats 4000000 in
theorem lX13_caughtIn_13 {p : Program} {l : Launch} {e : Env} {s : State} {m : MethodId} {av : Array Value} {below : List Frame} {meth : Method} {c : Code} {Q : State → Prop} {E : xE} {b1 : Int32} {b2 : Int32} (F : xFx p m c cX13_caughtIn 4 s av RX13 E) : ∀ (n : Nat) (x3 : Int32) (σ : xM) (q : (Int32 × xM)), gX13_caughtIn_13 b1 b2 n x3 σ = some q → ∀ (H : Heap) (locs : List Loc) (ls : Array Slot), xW E σ H → va_S (xA E) s.heap H locs → lv_has ls 4 [(3, .int x3), (0, .ref (xa E 186)), (1, .int b1), (2, .int b2)] → (∀ (H : Heap) (locs : List Loc) (ls : Array Slot), xW E q.2 H → va_S (xA E) s.heap H locs → lv_has ls 4 [(3, .int q.1), (0, .ref (xa E 186)), (1, .int b1), (2, .int b2)] → W p l e ({ frames := 7, cells := 0, slots := 0, locals := 167 } : Room) s m av below meth c H locs 0 0 Q (F0 m 36 ls [])) → W p l e ({ frames := 7, cells := 0, slots := 0, locals := 167 } : Room) s m av below meth c H locs 0 0 Q (F0 m 13 ls []) := by
  obtain ⟨hx, hb, hml, hown, hts⟩ := id F.1
  have hK := F.2.1.1
  intro n
  induction n with
  | zero =>
    intro x3 σ q h
    cases h
  | succ n ih =>
    intro x3 σ q h H locs ls hW hS hl kk
    rw [gX13_caughtIn_13] at h
    refine lv_iload_n hx hb dX13_caughtIn_13 rfl (lv_at hl 0 rfl) ?_
    refine lv_iload_n hx hb dX13_caughtIn_14 rfl (lv_at hl 3 rfl) ?_
    refine lv_icmp_ge (tgt := 36) hx hb dX13_caughtIn_15 (by decide) (fun c3 => ?_) (fun c3 => ?_)
    · rw [if_pos c3] at h
      have h := Option.some.inj h; subst h
      exact kk _ _ _ hW hS (lv_sub hl [0, 1, 2, 3] rfl)
    · rw [if_neg c3] at h
      refine lv_aload_n hx hb dX13_caughtIn_18 rfl (lv_at hl 1 rfl) ?_
      refine lv_iload_n hx hb dX13_caughtIn_19 rfl (lv_at hl 2 rfl) ?_
      cases g4 : fX13_isCaught σ b1 with
      | none => rw [g4] at h; cases h
      | some r5 =>
        rw [g4, Option.bind_some] at h
        refine x_backi (va_runV (C := RX13) (b := (xa E 186)) (As := [.int b1]) (rest := []) F.1 (mX13_isCaught l E σ b1 r5 g4) (cwV 1 hts (lw_V q1353 q1355 qs60 q115 q1356) rfl rfl rfl (by decide +kernel) ⟨Nat.le_of_ble_eq_true rfl, Nat.le_of_ble_eq_true rfl⟩) ⟨xPc.blind, va_recv hK (xO_M hW) (ci := 13) (q0 := 0) rfl rfl, F.pre hW hS (.ref (xa E 186) :: [.int b1])⟩ rfl rfl hl.1 rfl (lv_room (Nat.le_of_ble_eq_true rfl)) dX13_caughtIn_20 ⟨Nat.le_refl _, Nat.le_refl _⟩) hS (fun H locs hW hS => ?_)
        refine lv_if_ne (tgt := 36) hx hb dX13_caughtIn_23 (by decide) (fun c6 => ?_) (fun c6 => ?_)
        · rw [if_neg c6] at h
          have h := Option.some.inj h; subst h
          exact kk _ _ _ hW hS (lv_sub hl [0, 1, 2, 3] rfl)
        · rw [if_pos c6] at h
          refine lv_aload_n hx hb dX13_caughtIn_26 rfl (lv_at hl 1 rfl) ?_
          cases g7 : fX13_hour σ with
          | none => rw [g7] at h; cases h
          | some r8 =>
            rw [g7, Option.bind_some] at h
            refine x_backv (va_runV (C := RX13) (b := (xa E 186)) (As := []) (rest := []) F.1 (mX13_hour l E σ r8 g7) (cwV 0 hts (lw_V q1403 q1405 qs67 q115 q1406) rfl rfl rfl (by decide +kernel) ⟨Nat.le_of_ble_eq_true rfl, Nat.le_of_ble_eq_true rfl⟩) ⟨xPc.blind, va_recv hK (xO_M hW) (ci := 13) (q0 := 0) rfl rfl, F.pre hW hS (.ref (xa E 186) :: [])⟩ rfl rfl hl.1 rfl (lv_room (Nat.le_of_ble_eq_true rfl)) dX13_caughtIn_27 ⟨Nat.le_refl _, Nat.le_refl _⟩) hS (fun H locs hW hS => ?_)
            refine lv_iinc (k := 0) (v := (x3 + 1)) (lv' := [(3, .int (x3 + 1)), (0, .ref (xa E 186)), (1, .int b1), (2, .int b2)]) hx hb dX13_caughtIn_30 hl rfl rfl (by decide) rfl (fun ls hl => ?_)
            refine lv_goto (tgt := 13) hx hb dX13_caughtIn_33 (by decide) ?_
            exact ih (x3 + 1) r8 _ h _ _ _ hW hS (lv_sub hl [0, 1, 2, 3] rfl) kk
set_option maxHeartbeats 4000000 in
theorem mX13_caughtIn (l : Launch) (E : xE) (σ : xM) (a1 : Int32) (a2 : Int32) (r : Int32) (σ' : xM) (h : fX13_caughtIn σ a1 a2 = some (r, σ')) : Met l yX13_caughtIn (ws_ yX13_caughtIn cX13_caughtIn 4 (some .int)) ({ frames := 7, cells := 0, slots := 0, locals := 167 } : Room) (xPc E σ [.ref (xa E 186), .int a1, .int a2]) (xQc E (.returned (some (.int r))) σ') 0 0 (xA E) := by
  refine x_of (C := RX13) (n := "caughtIn") (d := "(II)I") (r := (some .int)) (by decide) rfl (by first | decide | exact Nat.le_of_ble_eq_true rfl) ?_
  intro p e s m below meth c ls F hr hlk hW hS hl
  have hl : lv_has ls 4 [(0, .ref (xa E 186)), (1, .int a1), (2, .int a2)] := hl
  obtain ⟨hx, hb, hml, hown, hts⟩ := id F.1
  have hK := F.2.1.1
  unfold fX13_caughtIn at h
  refine lv_aload_n hx hb dX13_caughtIn_0 rfl (lv_at hl 0 rfl) ?_
  refine va_get (D := xD E) (ci := 13) (v := .ref (xa E 187)) (C := RX13) (T := TX13) (N := 24) hx hb hts in_X13 hown hK (xO_M hW) 0 rfl rfl 0 (by decide) (hts _ q1196) (fun _ h9 => h9) rfl dX13_caughtIn_1 ?_
  refine lv_aload_n hx hb dX13_caughtIn_4 rfl (lv_at hl 0 rfl) ?_
  refine va_get (D := xD E) (ci := 13) (v := .ref (xa E 189)) (C := RX13) (T := TX13) (N := 24) hx hb hts in_X13 hown hK (xO_M hW) 0 rfl rfl 2 (by decide) (hts _ q1198) (fun _ h9 => h9) rfl dX13_caughtIn_5 ?_
  cases g1 : fX13_copyRow σ 20 22 with
  | none => rw [g1] at h; cases h
  | some r2 =>
    rw [g1, Option.bind_some] at h
    refine x_backv (va_runS (As := [.ref (xa E 187), .ref (xa E 189)]) (rest := []) F.1 (mX13_copyRow l E σ 187 20 xp_187 189 22 xp_189 r2 g1) (va_cwS 2 hts (lw_S q1442 q1443 q115 q1444) rfl rfl rfl (by decide +kernel) ⟨Nat.le_of_ble_eq_true rfl, Nat.le_of_ble_eq_true rfl⟩) ⟨xPc.blind, F.pre hW hS [.ref (xa E 187), .ref (xa E 189)]⟩ rfl rfl hl.1 rfl (lv_room (Nat.le_of_ble_eq_true rfl)) dX13_caughtIn_8 ⟨Nat.le_refl _, Nat.le_refl _⟩) hS (fun H locs hW hS => ?_)
    refine lv_iconst (v := 0) hx hb dX13_caughtIn_11 (by decide) ?_
    refine lv_istore_n (lv' := [(3, .int 0), (0, .ref (xa E 186)), (1, .int a1), (2, .int a2)]) hx hb dX13_caughtIn_12 rfl hl (by decide) rfl (fun ls hl => ?_)
    cases g9 : gX13_caughtIn_13 a1 a2 xfu 0 r2 with
    | none => rw [g9] at h; cases h
    | some q10 =>
      rw [g9, Option.bind_some] at h
      refine lX13_caughtIn_13 F xfu 0 r2 q10 g9 _ _ _ hW hS (lv_sub hl [0, 1, 2, 3] rfl) (fun H locs ls hW hS hl => ?_)
      refine lv_aload_n hx hb dX13_caughtIn_36 rfl (lv_at hl 1 rfl) ?_
      refine lv_aload_n hx hb dX13_caughtIn_37 rfl (lv_at hl 1 rfl) ?_
      refine lv_iload_n hx hb dX13_caughtIn_38 rfl (lv_at hl 2 rfl) ?_
      cases g11 : fX13_isCaught q10.2 a1 with
      | none => rw [g11] at h; cases h
      | some r12 =>
        rw [g11, Option.bind_some] at h
        refine x_backi (va_runV (C := RX13) (b := (xa E 186)) (As := [.int a1]) (rest := [.ref (xa E 186)]) F.1 (mX13_isCaught l E q10.2 a1 r12 g11) (cwV 1 hts (lw_V q1353 q1355 qs60 q115 q1356) rfl rfl rfl (by decide +kernel) ⟨Nat.le_of_ble_eq_true rfl, Nat.le_of_ble_eq_true rfl⟩) ⟨xPc.blind, va_recv hK (xO_M hW) (ci := 13) (q0 := 0) rfl rfl, F.pre hW hS (.ref (xa E 186) :: [.int a1])⟩ rfl rfl hl.1 rfl (lv_room (Nat.le_of_ble_eq_true rfl)) dX13_caughtIn_39 ⟨Nat.le_refl _, Nat.le_refl _⟩) hS (fun H locs hW hS => ?_)
        refine lv_if_eq (tgt := 49) hx hb dX13_caughtIn_42 (by decide) (fun c13 => ?_) (fun c13 => ?_)
        · rw [if_pos c13] at h
          refine lv_ldc (v := 1000000) hx hb hown (hts _ q1457) dX13_caughtIn_49 ?_
          cases g14 : fX13_putBack q10.2 1000000 with
          | none => rw [g14] at h; cases h
          | some r15 =>
            rw [g14, Option.bind_some] at h
            refine x_backi (va_runV (C := RX13) (b := (xa E 186)) (As := [.int 1000000]) (rest := []) F.1 (mX13_putBack l E q10.2 1000000 r15.1 r15.2 g14) (cwV 1 hts (lw_V q1445 q1447 qs73 q115 q1448) rfl rfl rfl (by decide +kernel) ⟨Nat.le_of_ble_eq_true rfl, Nat.le_of_ble_eq_true rfl⟩) ⟨xPc.blind, va_recv hK (xO_M hW) (ci := 13) (q0 := 0) rfl rfl, F.pre hW hS (.ref (xa E 186) :: [.int 1000000])⟩ rfl rfl hl.1 rfl (lv_room (Nat.le_of_ble_eq_true rfl)) dX13_caughtIn_51 ⟨Nat.le_refl _, Nat.le_refl _⟩) hS (fun H locs hW hS => ?_)
            obtain ⟨h1, h2⟩ := Prod.mk.inj (Option.some.inj h); subst h1; subst h2
            exact x_iret F hr hlk hW hS dX13_caughtIn_54
        · rw [if_neg c13] at h
          refine lv_iload_n hx hb dX13_caughtIn_45 rfl (lv_at hl 0 rfl) ?_
          refine lv_goto (tgt := 51) hx hb dX13_caughtIn_46 (by decide) ?_
          cases g16 : fX13_putBack q10.2 q10.1 with
          | none => rw [g16] at h; cases h
          | some r17 =>
            rw [g16, Option.bind_some] at h
            refine x_backi (va_runV (C := RX13) (b := (xa E 186)) (As := [.int q10.1]) (rest := []) F.1 (mX13_putBack l E q10.2 q10.1 r17.1 r17.2 g16) (cwV 1 hts (lw_V q1445 q1447 qs73 q115 q1448) rfl rfl rfl (by decide +kernel) ⟨Nat.le_of_ble_eq_true rfl, Nat.le_of_ble_eq_true rfl⟩) ⟨xPc.blind, va_recv hK (xO_M hW) (ci := 13) (q0 := 0) rfl rfl, F.pre hW hS (.ref (xa E 186) :: [.int q10.1])⟩ rfl rfl hl.1 rfl (lv_room (Nat.le_of_ble_eq_true rfl)) dX13_caughtIn_51 ⟨Nat.le_refl _, Nat.le_refl _⟩) hS (fun H locs hW hS => ?_)
            obtain ⟨h1, h2⟩ := Prod.mk.inj (Option.some.inj h); subst h1; subst h2
            exact x_iret F hr hlk hW hS dX13_caughtIn_54
/-! WildBellsModel.told(I)I -/
def fX13_told (σ : xM) (a1 : Int32) : Option (Int32 × xM) :=
  if a1 = 1000000 then ((fX13_finding σ (-1000004)).bind (fun r3 => some (r3.1, r3.2))) else (some (a1, σ))
set_option maxHeartbeats 4000000 in
theorem mX13_told (l : Launch) (E : xE) (σ : xM) (a1 : Int32) (r : Int32) (σ' : xM) (h : fX13_told σ a1 = some (r, σ')) : Met l yX13_told (ws_ yX13_told cX13_told 2 (some .int)) ({ frames := 1, cells := 0, slots := 0, locals := 21 } : Room) (xPc E σ [.ref (xa E 186), .int a1]) (xQc E (.returned (some (.int r))) σ') 0 0 (xA E) := by
  refine x_of (C := RX13) (n := "told") (d := "(I)I") (r := (some .int)) (by decide) rfl (by first | decide | exact Nat.le_of_ble_eq_true rfl) ?_
  intro p e s m below meth c ls F hr hlk hW hS hl
  have hl : lv_has ls 2 [(0, .ref (xa E 186)), (1, .int a1)] := hl
  obtain ⟨hx, hb, hml, hown, hts⟩ := id F.1
  have hK := F.2.1.1
  unfold fX13_told at h
  refine lv_iload_n hx hb dX13_told_0 rfl (lv_at hl 1 rfl) ?_
  refine lv_ldc (v := 1000000) hx hb hown (hts _ q1457) dX13_told_1 ?_
  refine lv_icmp_ne (tgt := 15) hx hb dX13_told_3 (by decide) (fun c1 => ?_) (fun c1 => ?_)
  · rw [if_neg c1] at h
    refine lv_iload_n hx hb dX13_told_15 rfl (lv_at hl 1 rfl) ?_
    obtain ⟨h1, h2⟩ := Prod.mk.inj (Option.some.inj h); subst h1; subst h2
    exact x_iret F hr hlk hW hS dX13_told_16
  · rw [if_pos c1] at h
    refine lv_aload_n hx hb dX13_told_6 rfl (lv_at hl 0 rfl) ?_
    refine lv_ldc (v := (-1000004)) hx hb hown (hts _ q1462) dX13_told_7 ?_
    cases g2 : fX13_finding σ (-1000004) with
    | none => rw [g2] at h; cases h
    | some r3 =>
      rw [g2, Option.bind_some] at h
      refine x_backi (va_runV (C := RX13) (b := (xa E 186)) (As := [.int (-1000004)]) (rest := []) F.1 (mX13_finding l E σ (-1000004) r3.1 r3.2 g2) (cwV 1 hts (lw_V q1280 q1282 qs52 q115 q1283) rfl rfl rfl (by decide +kernel) ⟨Nat.le_of_ble_eq_true rfl, Nat.le_of_ble_eq_true rfl⟩) ⟨xPc.blind, va_recv hK (xO_M hW) (ci := 13) (q0 := 0) rfl rfl, F.pre hW hS (.ref (xa E 186) :: [.int (-1000004)])⟩ rfl rfl hl.1 rfl (lv_room (Nat.le_of_ble_eq_true rfl)) dX13_told_9 ⟨Nat.le_refl _, Nat.le_refl _⟩) hS (fun H locs hW hS => ?_)
      refine lv_goto (tgt := 16) hx hb dX13_told_12 (by decide) ?_
      obtain ⟨h1, h2⟩ := Prod.mk.inj (Option.some.inj h); subst h1; subst h2
      exact x_iret F hr hlk hW hS dX13_told_16
/-! WildBellsModel.when(I)I -/
def fX13_when (σ : xM) (a1 : Int32) : Option (Int32 × xM) :=
  (fX13_isBell σ a1).bind (fun r2 => if r2 = 0 then ((fX13_finding σ (-1000001)).bind (fun r5 => some (r5.1, r5.2))) else ((fX13_caughtIn σ a1 60).bind (fun r7 => (fX13_told r7.2 r7.1).bind (fun r9 => some (r9.1, r9.2)))))
set_option maxHeartbeats 4000000 in
theorem mX13_when (l : Launch) (E : xE) (σ : xM) (a1 : Int32) (r : Int32) (σ' : xM) (h : fX13_when σ a1 = some (r, σ')) : Met l yX13_when (ws_ yX13_when cX13_when 2 (some .int)) ({ frames := 8, cells := 0, slots := 0, locals := 190 } : Room) (xPc E σ [.ref (xa E 186), .int a1]) (xQc E (.returned (some (.int r))) σ') 0 0 (xA E) := by
  refine x_of (C := RX13) (n := "when") (d := "(I)I") (r := (some .int)) (by decide) rfl (by first | decide | exact Nat.le_of_ble_eq_true rfl) ?_
  intro p e s m below meth c ls F hr hlk hW hS hl
  have hl : lv_has ls 2 [(0, .ref (xa E 186)), (1, .int a1)] := hl
  obtain ⟨hx, hb, hml, hown, hts⟩ := id F.1
  have hK := F.2.1.1
  unfold fX13_when at h
  refine lv_aload_n hx hb dX13_when_0 rfl (lv_at hl 0 rfl) ?_
  refine lv_iload_n hx hb dX13_when_1 rfl (lv_at hl 1 rfl) ?_
  cases g1 : fX13_isBell σ a1 with
  | none => rw [g1] at h; cases h
  | some r2 =>
    rw [g1, Option.bind_some] at h
    refine x_backi (va_runV (C := RX13) (b := (xa E 186)) (As := [.int a1]) (rest := []) F.1 (mX13_isBell l E σ a1 r2 g1) (cwV 1 hts (lw_V q1322 q1324 qs55 q115 q1325) rfl rfl rfl (by decide +kernel) ⟨Nat.le_of_ble_eq_true rfl, Nat.le_of_ble_eq_true rfl⟩) ⟨xPc.blind, va_recv hK (xO_M hW) (ci := 13) (q0 := 0) rfl rfl, F.pre hW hS (.ref (xa E 186) :: [.int a1])⟩ rfl rfl hl.1 rfl (lv_room (Nat.le_of_ble_eq_true rfl)) dX13_when_2 ⟨Nat.le_refl _, Nat.le_refl _⟩) hS (fun H locs hW hS => ?_)
    refine lv_if_eq (tgt := 22) hx hb dX13_when_5 (by decide) (fun c3 => ?_) (fun c3 => ?_)
    · rw [if_pos c3] at h
      refine lv_aload_n hx hb dX13_when_22 rfl (lv_at hl 0 rfl) ?_
      refine lv_ldc (v := (-1000001)) hx hb hown (hts _ q1279) dX13_when_23 ?_
      cases g4 : fX13_finding σ (-1000001) with
      | none => rw [g4] at h; cases h
      | some r5 =>
        rw [g4, Option.bind_some] at h
        refine x_backi (va_runV (C := RX13) (b := (xa E 186)) (As := [.int (-1000001)]) (rest := []) F.1 (mX13_finding l E σ (-1000001) r5.1 r5.2 g4) (cwV 1 hts (lw_V q1280 q1282 qs52 q115 q1283) rfl rfl rfl (by decide +kernel) ⟨Nat.le_of_ble_eq_true rfl, Nat.le_of_ble_eq_true rfl⟩) ⟨xPc.blind, va_recv hK (xO_M hW) (ci := 13) (q0 := 0) rfl rfl, F.pre hW hS (.ref (xa E 186) :: [.int (-1000001)])⟩ rfl rfl hl.1 rfl (lv_room (Nat.le_of_ble_eq_true rfl)) dX13_when_25 ⟨Nat.le_refl _, Nat.le_refl _⟩) hS (fun H locs hW hS => ?_)
        obtain ⟨h1, h2⟩ := Prod.mk.inj (Option.some.inj h); subst h1; subst h2
        exact x_iret F hr hlk hW hS dX13_when_28
    · rw [if_neg c3] at h
      refine lv_aload_n hx hb dX13_when_8 rfl (lv_at hl 0 rfl) ?_
      refine lv_aload_n hx hb dX13_when_9 rfl (lv_at hl 0 rfl) ?_
      refine lv_iload_n hx hb dX13_when_10 rfl (lv_at hl 1 rfl) ?_
      refine lv_bipush (v := 60) hx hb dX13_when_11 (by decide) ?_
      cases g6 : fX13_caughtIn σ a1 60 with
      | none => rw [g6] at h; cases h
      | some r7 =>
        rw [g6, Option.bind_some] at h
        refine x_backi (va_runV (C := RX13) (b := (xa E 186)) (As := [.int a1, .int 60]) (rest := [.ref (xa E 186)]) F.1 (mX13_caughtIn l E σ a1 60 r7.1 r7.2 g6) (cwV 2 hts (lw_V q1453 q1455 qs74 q115 q1456) rfl rfl rfl (by decide +kernel) ⟨Nat.le_of_ble_eq_true rfl, Nat.le_of_ble_eq_true rfl⟩) ⟨xPc.blind, va_recv hK (xO_M hW) (ci := 13) (q0 := 0) rfl rfl, F.pre hW hS (.ref (xa E 186) :: [.int a1, .int 60])⟩ rfl rfl hl.1 rfl (lv_room (Nat.le_of_ble_eq_true rfl)) dX13_when_13 ⟨Nat.le_refl _, Nat.le_refl _⟩) hS (fun H locs hW hS => ?_)
        cases g8 : fX13_told r7.2 r7.1 with
        | none => rw [g8] at h; cases h
        | some r9 =>
          rw [g8, Option.bind_some] at h
          refine x_backi (va_runV (C := RX13) (b := (xa E 186)) (As := [.int r7.1]) (rest := []) F.1 (mX13_told l E r7.2 r7.1 r9.1 r9.2 g8) (cwV 1 hts (lw_V q1458 q1460 qs75 q115 q1461) rfl rfl rfl (by decide +kernel) ⟨Nat.le_of_ble_eq_true rfl, Nat.le_of_ble_eq_true rfl⟩) ⟨xPc.blind, va_recv hK (xO_M hW) (ci := 13) (q0 := 0) rfl rfl, F.pre hW hS (.ref (xa E 186) :: [.int r7.1])⟩ rfl rfl hl.1 rfl (lv_room (Nat.le_of_ble_eq_true rfl)) dX13_when_16 ⟨Nat.le_refl _, Nat.le_refl _⟩) hS (fun H locs hW hS => ?_)
          refine lv_goto (tgt := 28) hx hb dX13_when_19 (by decide) ?_
          obtain ⟨h1, h2⟩ := Prod.mk.inj (Option.some.inj h); subst h1; subst h2
          exact x_iret F hr hlk hW hS dX13_when_28
/-! WildBellsModel.still()I -/
def gX13_still_17  : Nat → Int32 → xM → Option (Int32 × xM)
  | 0, _, _ => none
  | n + 1, x1, σ => if 60 ≤ x1 then (some (x1, σ)) else (if (σ 24 1) = 0 then (some (x1, σ)) else ((fX13_hour σ).bind (fun r8 => gX13_still_17 n (x1 + 1) r8)))
def fX13_still (σ : xM) : Option (Int32 × xM) :=
  (fX13_copyRow σ 20 22).bind (fun r2 => (fX13_hour r2).bind (fun r4 => (gX13_still_17 xfu 0 r4).bind (fun q10 => if (q10.2 24 1) = 0 then ((fX13_putBack q10.2 q10.1).bind (fun r13 => (fX13_told r13.2 r13.1).bind (fun r15 => some (r15.1, r15.2)))) else ((fX13_putBack q10.2 1000000).bind (fun r17 => (fX13_told r17.2 r17.1).bind (fun r19 => some (r19.1, r19.2)))))))
set_option maxHeartbeats 4000000 in
theorem lX13_still_17 {p : Program} {l : Launch} {e : Env} {s : State} {m : MethodId} {av : Array Value} {below : List Frame} {meth : Method} {c : Code} {Q : State → Prop} {E : xE} (F : xFx p m c cX13_still 2 s av RX13 E) : ∀ (n : Nat) (x1 : Int32) (σ : xM) (q : (Int32 × xM)), gX13_still_17 n x1 σ = some q → ∀ (H : Heap) (locs : List Loc) (ls : Array Slot), xW E σ H → va_S (xA E) s.heap H locs → lv_has ls 2 [(1, .int x1), (0, .ref (xa E 186))] → (∀ (H : Heap) (locs : List Loc) (ls : Array Slot), xW E q.2 H → va_S (xA E) s.heap H locs → lv_has ls 2 [(1, .int q.1), (0, .ref (xa E 186))] → W p l e ({ frames := 7, cells := 0, slots := 0, locals := 167 } : Room) s m av below meth c H locs 0 0 Q (F0 m 40 ls [])) → W p l e ({ frames := 7, cells := 0, slots := 0, locals := 167 } : Room) s m av below meth c H locs 0 0 Q (F0 m 17 ls []) := by
  obtain ⟨hx, hb, hml, hown, hts⟩ := id F.1
  have hK := F.2.1.1
  intro n
  induction n with
  | zero =>
    intro x1 σ q h
    cases h
  | succ n ih =>
    intro x1 σ q h H locs ls hW hS hl kk
    rw [gX13_still_17] at h
    refine lv_iload_n hx hb dX13_still_17 rfl (lv_at hl 0 rfl) ?_
    refine lv_bipush (v := 60) hx hb dX13_still_18 (by decide) ?_
    refine lv_icmp_ge (tgt := 40) hx hb dX13_still_20 (by decide) (fun c5 => ?_) (fun c5 => ?_)
    · rw [if_pos c5] at h
      have h := Option.some.inj h; subst h
      exact kk _ _ _ hW hS (lv_sub hl [0, 1] rfl)
    · rw [if_neg c5] at h
      refine lv_aload_n hx hb dX13_still_23 rfl (lv_at hl 1 rfl) ?_
      refine va_get (D := xD E) (ci := 13) (v := .int (σ 24 1)) (C := RX13) (T := TX13) (N := 24) hx hb hts in_X13 hown hK (xO_M hW) 0 rfl rfl 7 (by decide) (hts _ q1203) (fun _ h9 => h9) rfl dX13_still_24 ?_
      refine lv_if_eq (tgt := 40) hx hb dX13_still_27 (by decide) (fun c6 => ?_) (fun c6 => ?_)
      · rw [if_pos c6] at h
        have h := Option.some.inj h; subst h
        exact kk _ _ _ hW hS (lv_sub hl [0, 1] rfl)
      · rw [if_neg c6] at h
        refine lv_aload_n hx hb dX13_still_30 rfl (lv_at hl 1 rfl) ?_
        cases g7 : fX13_hour σ with
        | none => rw [g7] at h; cases h
        | some r8 =>
          rw [g7, Option.bind_some] at h
          refine x_backv (va_runV (C := RX13) (b := (xa E 186)) (As := []) (rest := []) F.1 (mX13_hour l E σ r8 g7) (cwV 0 hts (lw_V q1403 q1405 qs67 q115 q1406) rfl rfl rfl (by decide +kernel) ⟨Nat.le_of_ble_eq_true rfl, Nat.le_of_ble_eq_true rfl⟩) ⟨xPc.blind, va_recv hK (xO_M hW) (ci := 13) (q0 := 0) rfl rfl, F.pre hW hS (.ref (xa E 186) :: [])⟩ rfl rfl hl.1 rfl (lv_room (Nat.le_of_ble_eq_true rfl)) dX13_still_31 ⟨Nat.le_refl _, Nat.le_refl _⟩) hS (fun H locs hW hS => ?_)
          refine lv_iinc (k := 0) (v := (x1 + 1)) (lv' := [(1, .int (x1 + 1)), (0, .ref (xa E 186))]) hx hb dX13_still_34 hl rfl rfl (by decide) rfl (fun ls hl => ?_)
          refine lv_goto (tgt := 17) hx hb dX13_still_37 (by decide) ?_
          exact ih (x1 + 1) r8 _ h _ _ _ hW hS (lv_sub hl [0, 1] rfl) kk
set_option maxHeartbeats 4000000 in
theorem mX13_still (l : Launch) (E : xE) (σ : xM) (r : Int32) (σ' : xM) (h : fX13_still σ = some (r, σ')) : Met l yX13_still (ws_ yX13_still cX13_still 2 (some .int)) ({ frames := 7, cells := 0, slots := 0, locals := 167 } : Room) (xPc E σ [.ref (xa E 186)]) (xQc E (.returned (some (.int r))) σ') 0 0 (xA E) := by
  refine x_of (C := RX13) (n := "still") (d := "()I") (r := (some .int)) (by decide) rfl (by first | decide | exact Nat.le_of_ble_eq_true rfl) ?_
  intro p e s m below meth c ls F hr hlk hW hS hl
  have hl : lv_has ls 2 [(0, .ref (xa E 186))] := hl
  obtain ⟨hx, hb, hml, hown, hts⟩ := id F.1
  have hK := F.2.1.1
  unfold fX13_still at h
  refine lv_aload_n hx hb dX13_still_0 rfl (lv_at hl 0 rfl) ?_
  refine va_get (D := xD E) (ci := 13) (v := .ref (xa E 187)) (C := RX13) (T := TX13) (N := 24) hx hb hts in_X13 hown hK (xO_M hW) 0 rfl rfl 0 (by decide) (hts _ q1196) (fun _ h9 => h9) rfl dX13_still_1 ?_
  refine lv_aload_n hx hb dX13_still_4 rfl (lv_at hl 0 rfl) ?_
  refine va_get (D := xD E) (ci := 13) (v := .ref (xa E 189)) (C := RX13) (T := TX13) (N := 24) hx hb hts in_X13 hown hK (xO_M hW) 0 rfl rfl 2 (by decide) (hts _ q1198) (fun _ h9 => h9) rfl dX13_still_5 ?_
  cases g1 : fX13_copyRow σ 20 22 with
  | none => rw [g1] at h; cases h
  | some r2 =>
    rw [g1, Option.bind_some] at h
    refine x_backv (va_runS (As := [.ref (xa E 187), .ref (xa E 189)]) (rest := []) F.1 (mX13_copyRow l E σ 187 20 xp_187 189 22 xp_189 r2 g1) (va_cwS 2 hts (lw_S q1442 q1443 q115 q1444) rfl rfl rfl (by decide +kernel) ⟨Nat.le_of_ble_eq_true rfl, Nat.le_of_ble_eq_true rfl⟩) ⟨xPc.blind, F.pre hW hS [.ref (xa E 187), .ref (xa E 189)]⟩ rfl rfl hl.1 rfl (lv_room (Nat.le_of_ble_eq_true rfl)) dX13_still_8 ⟨Nat.le_refl _, Nat.le_refl _⟩) hS (fun H locs hW hS => ?_)
    refine lv_iconst (v := 0) hx hb dX13_still_11 (by decide) ?_
    refine lv_istore_n (lv' := [(1, .int 0), (0, .ref (xa E 186))]) hx hb dX13_still_12 rfl hl (by decide) rfl (fun ls hl => ?_)
    refine lv_aload_n hx hb dX13_still_13 rfl (lv_at hl 1 rfl) ?_
    cases g3 : fX13_hour r2 with
    | none => rw [g3] at h; cases h
    | some r4 =>
      rw [g3, Option.bind_some] at h
      refine x_backv (va_runV (C := RX13) (b := (xa E 186)) (As := []) (rest := []) F.1 (mX13_hour l E r2 r4 g3) (cwV 0 hts (lw_V q1403 q1405 qs67 q115 q1406) rfl rfl rfl (by decide +kernel) ⟨Nat.le_of_ble_eq_true rfl, Nat.le_of_ble_eq_true rfl⟩) ⟨xPc.blind, va_recv hK (xO_M hW) (ci := 13) (q0 := 0) rfl rfl, F.pre hW hS (.ref (xa E 186) :: [])⟩ rfl rfl hl.1 rfl (lv_room (Nat.le_of_ble_eq_true rfl)) dX13_still_14 ⟨Nat.le_refl _, Nat.le_refl _⟩) hS (fun H locs hW hS => ?_)
      cases g9 : gX13_still_17 xfu 0 r4 with
      | none => rw [g9] at h; cases h
      | some q10 =>
        rw [g9, Option.bind_some] at h
        refine lX13_still_17 F xfu 0 r4 q10 g9 _ _ _ hW hS (lv_sub hl [0, 1] rfl) (fun H locs ls hW hS hl => ?_)
        refine lv_aload_n hx hb dX13_still_40 rfl (lv_at hl 1 rfl) ?_
        refine lv_aload_n hx hb dX13_still_41 rfl (lv_at hl 1 rfl) ?_
        refine lv_aload_n hx hb dX13_still_42 rfl (lv_at hl 1 rfl) ?_
        refine va_get (D := xD E) (ci := 13) (v := .int (q10.2 24 1)) (C := RX13) (T := TX13) (N := 24) hx hb hts in_X13 hown hK (xO_M hW) 0 rfl rfl 7 (by decide) (hts _ q1203) (fun _ h9 => h9) rfl dX13_still_43 ?_
        refine lv_if_eq (tgt := 54) hx hb dX13_still_46 (by decide) (fun c11 => ?_) (fun c11 => ?_)
        · rw [if_pos c11] at h
          refine lv_iload_n hx hb dX13_still_54 rfl (lv_at hl 0 rfl) ?_
          cases g12 : fX13_putBack q10.2 q10.1 with
          | none => rw [g12] at h; cases h
          | some r13 =>
            rw [g12, Option.bind_some] at h
            refine x_backi (va_runV (C := RX13) (b := (xa E 186)) (As := [.int q10.1]) (rest := [.ref (xa E 186)]) F.1 (mX13_putBack l E q10.2 q10.1 r13.1 r13.2 g12) (cwV 1 hts (lw_V q1445 q1447 qs73 q115 q1448) rfl rfl rfl (by decide +kernel) ⟨Nat.le_of_ble_eq_true rfl, Nat.le_of_ble_eq_true rfl⟩) ⟨xPc.blind, va_recv hK (xO_M hW) (ci := 13) (q0 := 0) rfl rfl, F.pre hW hS (.ref (xa E 186) :: [.int q10.1])⟩ rfl rfl hl.1 rfl (lv_room (Nat.le_of_ble_eq_true rfl)) dX13_still_55 ⟨Nat.le_refl _, Nat.le_refl _⟩) hS (fun H locs hW hS => ?_)
            cases g14 : fX13_told r13.2 r13.1 with
            | none => rw [g14] at h; cases h
            | some r15 =>
              rw [g14, Option.bind_some] at h
              refine x_backi (va_runV (C := RX13) (b := (xa E 186)) (As := [.int r13.1]) (rest := []) F.1 (mX13_told l E r13.2 r13.1 r15.1 r15.2 g14) (cwV 1 hts (lw_V q1458 q1460 qs75 q115 q1461) rfl rfl rfl (by decide +kernel) ⟨Nat.le_of_ble_eq_true rfl, Nat.le_of_ble_eq_true rfl⟩) ⟨xPc.blind, va_recv hK (xO_M hW) (ci := 13) (q0 := 0) rfl rfl, F.pre hW hS (.ref (xa E 186) :: [.int r13.1])⟩ rfl rfl hl.1 rfl (lv_room (Nat.le_of_ble_eq_true rfl)) dX13_still_58 ⟨Nat.le_refl _, Nat.le_refl _⟩) hS (fun H locs hW hS => ?_)
              obtain ⟨h1, h2⟩ := Prod.mk.inj (Option.some.inj h); subst h1; subst h2
              exact x_iret F hr hlk hW hS dX13_still_61
        · rw [if_neg c11] at h
          refine lv_ldc (v := 1000000) hx hb hown (hts _ q1457) dX13_still_49 ?_
          refine lv_goto (tgt := 55) hx hb dX13_still_51 (by decide) ?_
          cases g16 : fX13_putBack q10.2 1000000 with
          | none => rw [g16] at h; cases h
          | some r17 =>
            rw [g16, Option.bind_some] at h
            refine x_backi (va_runV (C := RX13) (b := (xa E 186)) (As := [.int 1000000]) (rest := [.ref (xa E 186)]) F.1 (mX13_putBack l E q10.2 1000000 r17.1 r17.2 g16) (cwV 1 hts (lw_V q1445 q1447 qs73 q115 q1448) rfl rfl rfl (by decide +kernel) ⟨Nat.le_of_ble_eq_true rfl, Nat.le_of_ble_eq_true rfl⟩) ⟨xPc.blind, va_recv hK (xO_M hW) (ci := 13) (q0 := 0) rfl rfl, F.pre hW hS (.ref (xa E 186) :: [.int 1000000])⟩ rfl rfl hl.1 rfl (lv_room (Nat.le_of_ble_eq_true rfl)) dX13_still_55 ⟨Nat.le_refl _, Nat.le_refl _⟩) hS (fun H locs hW hS => ?_)
            cases g18 : fX13_told r17.2 r17.1 with
            | none => rw [g18] at h; cases h
            | some r19 =>
              rw [g18, Option.bind_some] at h
              refine x_backi (va_runV (C := RX13) (b := (xa E 186)) (As := [.int r17.1]) (rest := []) F.1 (mX13_told l E r17.2 r17.1 r19.1 r19.2 g18) (cwV 1 hts (lw_V q1458 q1460 qs75 q115 q1461) rfl rfl rfl (by decide +kernel) ⟨Nat.le_of_ble_eq_true rfl, Nat.le_of_ble_eq_true rfl⟩) ⟨xPc.blind, va_recv hK (xO_M hW) (ci := 13) (q0 := 0) rfl rfl, F.pre hW hS (.ref (xa E 186) :: [.int r17.1])⟩ rfl rfl hl.1 rfl (lv_room (Nat.le_of_ble_eq_true rfl)) dX13_still_58 ⟨Nat.le_refl _, Nat.le_refl _⟩) hS (fun H locs hW hS => ?_)
              obtain ⟨h1, h2⟩ := Prod.mk.inj (Option.some.inj h); subst h1; subst h2
              exact x_iret F hr hlk hW hS dX13_still_61
/-! WildBellsModel.setBehind(I)I -/
def fX13_setBehind (σ : xM) (a1 : Int32) : Option (Int32 × xM) :=
  (fX13_copyRow σ 20 22).bind (fun r2 => (fX13_hours r2 a1).bind (fun r4 => (fX13_caughtNow r4).bind (fun r6 => (fX13_putBack r4 r6).bind (fun r8 => some (r8.1, r8.2)))))
set_option maxHeartbeats 4000000 in
theorem mX13_setBehind (l : Launch) (E : xE) (σ : xM) (a1 : Int32) (r : Int32) (σ' : xM) (h : fX13_setBehind σ a1 = some (r, σ')) : Met l yX13_setBehind (ws_ yX13_setBehind cX13_setBehind 2 (some .int)) ({ frames := 8, cells := 0, slots := 0, locals := 189 } : Room) (xPc E σ [.ref (xa E 186), .int a1]) (xQc E (.returned (some (.int r))) σ') 0 0 (xA E) := by
  refine x_of (C := RX13) (n := "setBehind") (d := "(I)I") (r := (some .int)) (by decide) rfl (by first | decide | exact Nat.le_of_ble_eq_true rfl) ?_
  intro p e s m below meth c ls F hr hlk hW hS hl
  have hl : lv_has ls 2 [(0, .ref (xa E 186)), (1, .int a1)] := hl
  obtain ⟨hx, hb, hml, hown, hts⟩ := id F.1
  have hK := F.2.1.1
  unfold fX13_setBehind at h
  refine lv_aload_n hx hb dX13_setBehind_0 rfl (lv_at hl 0 rfl) ?_
  refine va_get (D := xD E) (ci := 13) (v := .ref (xa E 187)) (C := RX13) (T := TX13) (N := 24) hx hb hts in_X13 hown hK (xO_M hW) 0 rfl rfl 0 (by decide) (hts _ q1196) (fun _ h9 => h9) rfl dX13_setBehind_1 ?_
  refine lv_aload_n hx hb dX13_setBehind_4 rfl (lv_at hl 0 rfl) ?_
  refine va_get (D := xD E) (ci := 13) (v := .ref (xa E 189)) (C := RX13) (T := TX13) (N := 24) hx hb hts in_X13 hown hK (xO_M hW) 0 rfl rfl 2 (by decide) (hts _ q1198) (fun _ h9 => h9) rfl dX13_setBehind_5 ?_
  cases g1 : fX13_copyRow σ 20 22 with
  | none => rw [g1] at h; cases h
  | some r2 =>
    rw [g1, Option.bind_some] at h
    refine x_backv (va_runS (As := [.ref (xa E 187), .ref (xa E 189)]) (rest := []) F.1 (mX13_copyRow l E σ 187 20 xp_187 189 22 xp_189 r2 g1) (va_cwS 2 hts (lw_S q1442 q1443 q115 q1444) rfl rfl rfl (by decide +kernel) ⟨Nat.le_of_ble_eq_true rfl, Nat.le_of_ble_eq_true rfl⟩) ⟨xPc.blind, F.pre hW hS [.ref (xa E 187), .ref (xa E 189)]⟩ rfl rfl hl.1 rfl (lv_room (Nat.le_of_ble_eq_true rfl)) dX13_setBehind_8 ⟨Nat.le_refl _, Nat.le_refl _⟩) hS (fun H locs hW hS => ?_)
    refine lv_aload_n hx hb dX13_setBehind_11 rfl (lv_at hl 0 rfl) ?_
    refine lv_iload_n hx hb dX13_setBehind_12 rfl (lv_at hl 1 rfl) ?_
    cases g3 : fX13_hours r2 a1 with
    | none => rw [g3] at h; cases h
    | some r4 =>
      rw [g3, Option.bind_some] at h
      refine x_backv (va_runV (C := RX13) (b := (xa E 186)) (As := [.int a1]) (rest := []) F.1 (mX13_hours l E r2 a1 r4 g3) (cwV 1 hts (lw_V q1399 q1401 qs66 q115 q1402) rfl rfl rfl (by decide +kernel) ⟨Nat.le_of_ble_eq_true rfl, Nat.le_of_ble_eq_true rfl⟩) ⟨xPc.blind, va_recv hK (xO_M hW) (ci := 13) (q0 := 0) rfl rfl, F.pre hW hS (.ref (xa E 186) :: [.int a1])⟩ rfl rfl hl.1 rfl (lv_room (Nat.le_of_ble_eq_true rfl)) dX13_setBehind_13 ⟨Nat.le_refl _, Nat.le_refl _⟩) hS (fun H locs hW hS => ?_)
      refine lv_aload_n hx hb dX13_setBehind_16 rfl (lv_at hl 0 rfl) ?_
      refine lv_aload_n hx hb dX13_setBehind_17 rfl (lv_at hl 0 rfl) ?_
      cases g5 : fX13_caughtNow r4 with
      | none => rw [g5] at h; cases h
      | some r6 =>
        rw [g5, Option.bind_some] at h
        refine x_backi (va_runV (C := RX13) (b := (xa E 186)) (As := []) (rest := [.ref (xa E 186)]) F.1 (mX13_caughtNow l E r4 r6 g5) (cwV 0 hts (lw_V q1411 q1413 qs69 q115 q1414) rfl rfl rfl (by decide +kernel) ⟨Nat.le_of_ble_eq_true rfl, Nat.le_of_ble_eq_true rfl⟩) ⟨xPc.blind, va_recv hK (xO_M hW) (ci := 13) (q0 := 0) rfl rfl, F.pre hW hS (.ref (xa E 186) :: [])⟩ rfl rfl hl.1 rfl (lv_room (Nat.le_of_ble_eq_true rfl)) dX13_setBehind_18 ⟨Nat.le_refl _, Nat.le_refl _⟩) hS (fun H locs hW hS => ?_)
        cases g7 : fX13_putBack r4 r6 with
        | none => rw [g7] at h; cases h
        | some r8 =>
          rw [g7, Option.bind_some] at h
          refine x_backi (va_runV (C := RX13) (b := (xa E 186)) (As := [.int r6]) (rest := []) F.1 (mX13_putBack l E r4 r6 r8.1 r8.2 g7) (cwV 1 hts (lw_V q1445 q1447 qs73 q115 q1448) rfl rfl rfl (by decide +kernel) ⟨Nat.le_of_ble_eq_true rfl, Nat.le_of_ble_eq_true rfl⟩) ⟨xPc.blind, va_recv hK (xO_M hW) (ci := 13) (q0 := 0) rfl rfl, F.pre hW hS (.ref (xa E 186) :: [.int r6])⟩ rfl rfl hl.1 rfl (lv_room (Nat.le_of_ble_eq_true rfl)) dX13_setBehind_21 ⟨Nat.le_refl _, Nat.le_refl _⟩) hS (fun H locs hW hS => ?_)
          obtain ⟨h1, h2⟩ := Prod.mk.inj (Option.some.inj h); subst h1; subst h2
          exact x_iret F hr hlk hW hS dX13_setBehind_24
/-! WildBellsModel.caught(I)I -/
def fX13_caught (σ : xM) (a1 : Int32) : Option (Int32 × xM) :=
  if (fX13_within a1 0 60) = 0 then ((fX13_finding σ (-1000001)).bind (fun r3 => some (r3.1, r3.2))) else ((fX13_setBehind σ a1).bind (fun r5 => some (r5.1, r5.2)))
set_option maxHeartbeats 4000000 in
theorem mX13_caught (l : Launch) (E : xE) (σ : xM) (a1 : Int32) (r : Int32) (σ' : xM) (h : fX13_caught σ a1 = some (r, σ')) : Met l yX13_caught (ws_ yX13_caught cX13_caught 2 (some .int)) ({ frames := 9, cells := 0, slots := 0, locals := 210 } : Room) (xPc E σ [.ref (xa E 186), .int a1]) (xQc E (.returned (some (.int r))) σ') 0 0 (xA E) := by
  refine x_of (C := RX13) (n := "caught") (d := "(I)I") (r := (some .int)) (by decide) rfl (by first | decide | exact Nat.le_of_ble_eq_true rfl) ?_
  intro p e s m below meth c ls F hr hlk hW hS hl
  have hl : lv_has ls 2 [(0, .ref (xa E 186)), (1, .int a1)] := hl
  obtain ⟨hx, hb, hml, hown, hts⟩ := id F.1
  have hK := F.2.1.1
  unfold fX13_caught at h
  refine lv_iload_n hx hb dX13_caught_0 rfl (lv_at hl 1 rfl) ?_
  refine lv_iconst (v := 0) hx hb dX13_caught_1 (by decide) ?_
  refine lv_bipush (v := 60) hx hb dX13_caught_2 (by decide) ?_
  refine x_backi (va_runS (As := [.int a1, .int 0, .int 60]) (rest := []) F.1 (mX13_within l E σ a1 0 60) (va_cwS 3 hts (lw_S q1276 q1277 q115 q1278) rfl rfl rfl (by decide +kernel) ⟨Nat.le_of_ble_eq_true rfl, Nat.le_of_ble_eq_true rfl⟩) ⟨xPc.blind, F.pre hW hS [.int a1, .int 0, .int 60]⟩ rfl rfl hl.1 rfl (lv_room (Nat.le_of_ble_eq_true rfl)) dX13_caught_4 ⟨Nat.le_refl _, Nat.le_refl _⟩) hS (fun H locs hW hS => ?_)
  refine lv_if_eq (tgt := 18) hx hb dX13_caught_7 (by decide) (fun c1 => ?_) (fun c1 => ?_)
  · rw [if_pos c1] at h
    refine lv_aload_n hx hb dX13_caught_18 rfl (lv_at hl 0 rfl) ?_
    refine lv_ldc (v := (-1000001)) hx hb hown (hts _ q1279) dX13_caught_19 ?_
    cases g2 : fX13_finding σ (-1000001) with
    | none => rw [g2] at h; cases h
    | some r3 =>
      rw [g2, Option.bind_some] at h
      refine x_backi (va_runV (C := RX13) (b := (xa E 186)) (As := [.int (-1000001)]) (rest := []) F.1 (mX13_finding l E σ (-1000001) r3.1 r3.2 g2) (cwV 1 hts (lw_V q1280 q1282 qs52 q115 q1283) rfl rfl rfl (by decide +kernel) ⟨Nat.le_of_ble_eq_true rfl, Nat.le_of_ble_eq_true rfl⟩) ⟨xPc.blind, va_recv hK (xO_M hW) (ci := 13) (q0 := 0) rfl rfl, F.pre hW hS (.ref (xa E 186) :: [.int (-1000001)])⟩ rfl rfl hl.1 rfl (lv_room (Nat.le_of_ble_eq_true rfl)) dX13_caught_21 ⟨Nat.le_refl _, Nat.le_refl _⟩) hS (fun H locs hW hS => ?_)
      obtain ⟨h1, h2⟩ := Prod.mk.inj (Option.some.inj h); subst h1; subst h2
      exact x_iret F hr hlk hW hS dX13_caught_24
  · rw [if_neg c1] at h
    refine lv_aload_n hx hb dX13_caught_10 rfl (lv_at hl 0 rfl) ?_
    refine lv_iload_n hx hb dX13_caught_11 rfl (lv_at hl 1 rfl) ?_
    cases g4 : fX13_setBehind σ a1 with
    | none => rw [g4] at h; cases h
    | some r5 =>
      rw [g4, Option.bind_some] at h
      refine x_backi (va_runV (C := RX13) (b := (xa E 186)) (As := [.int a1]) (rest := []) F.1 (mX13_setBehind l E σ a1 r5.1 r5.2 g4) (cwV 1 hts (lw_V q1471 q1473 qs76 q115 q1474) rfl rfl rfl (by decide +kernel) ⟨Nat.le_of_ble_eq_true rfl, Nat.le_of_ble_eq_true rfl⟩) ⟨xPc.blind, va_recv hK (xO_M hW) (ci := 13) (q0 := 0) rfl rfl, F.pre hW hS (.ref (xa E 186) :: [.int a1])⟩ rfl rfl hl.1 rfl (lv_room (Nat.le_of_ble_eq_true rfl)) dX13_caught_12 ⟨Nat.le_refl _, Nat.le_refl _⟩) hS (fun H locs hW hS => ?_)
      refine lv_goto (tgt := 24) hx hb dX13_caught_15 (by decide) ?_
      obtain ⟨h1, h2⟩ := Prod.mk.inj (Option.some.inj h); subst h1; subst h2
      exact x_iret F hr hlk hW hS dX13_caught_24
/-! WildBellsModel.orNone(I)I -/
def fX13_orNone (σ : xM) (a1 : Int32) : Option (Int32 × xM) :=
  if 0 ≤ a1 then (some (a1, σ)) else ((fX13_finding σ (-1000004)).bind (fun r3 => some (r3.1, r3.2)))
set_option maxHeartbeats 4000000 in
theorem mX13_orNone (l : Launch) (E : xE) (σ : xM) (a1 : Int32) (r : Int32) (σ' : xM) (h : fX13_orNone σ a1 = some (r, σ')) : Met l yX13_orNone (ws_ yX13_orNone cX13_orNone 2 (some .int)) ({ frames := 1, cells := 0, slots := 0, locals := 21 } : Room) (xPc E σ [.ref (xa E 186), .int a1]) (xQc E (.returned (some (.int r))) σ') 0 0 (xA E) := by
  refine x_of (C := RX13) (n := "orNone") (d := "(I)I") (r := (some .int)) (by decide) rfl (by first | decide | exact Nat.le_of_ble_eq_true rfl) ?_
  intro p e s m below meth c ls F hr hlk hW hS hl
  have hl : lv_has ls 2 [(0, .ref (xa E 186)), (1, .int a1)] := hl
  obtain ⟨hx, hb, hml, hown, hts⟩ := id F.1
  have hK := F.2.1.1
  unfold fX13_orNone at h
  refine lv_iload_n hx hb dX13_orNone_0 rfl (lv_at hl 1 rfl) ?_
  refine lv_if_ge (tgt := 13) hx hb dX13_orNone_1 (by decide) (fun c1 => ?_) (fun c1 => ?_)
  · rw [if_pos c1] at h
    refine lv_iload_n hx hb dX13_orNone_13 rfl (lv_at hl 1 rfl) ?_
    obtain ⟨h1, h2⟩ := Prod.mk.inj (Option.some.inj h); subst h1; subst h2
    exact x_iret F hr hlk hW hS dX13_orNone_14
  · rw [if_neg c1] at h
    refine lv_aload_n hx hb dX13_orNone_4 rfl (lv_at hl 0 rfl) ?_
    refine lv_ldc (v := (-1000004)) hx hb hown (hts _ q1462) dX13_orNone_5 ?_
    cases g2 : fX13_finding σ (-1000004) with
    | none => rw [g2] at h; cases h
    | some r3 =>
      rw [g2, Option.bind_some] at h
      refine x_backi (va_runV (C := RX13) (b := (xa E 186)) (As := [.int (-1000004)]) (rest := []) F.1 (mX13_finding l E σ (-1000004) r3.1 r3.2 g2) (cwV 1 hts (lw_V q1280 q1282 qs52 q115 q1283) rfl rfl rfl (by decide +kernel) ⟨Nat.le_of_ble_eq_true rfl, Nat.le_of_ble_eq_true rfl⟩) ⟨xPc.blind, va_recv hK (xO_M hW) (ci := 13) (q0 := 0) rfl rfl, F.pre hW hS (.ref (xa E 186) :: [.int (-1000004)])⟩ rfl rfl hl.1 rfl (lv_room (Nat.le_of_ble_eq_true rfl)) dX13_orNone_7 ⟨Nat.le_refl _, Nat.le_refl _⟩) hS (fun H locs hW hS => ?_)
      refine lv_goto (tgt := 14) hx hb dX13_orNone_10 (by decide) ?_
      obtain ⟨h1, h2⟩ := Prod.mk.inj (Option.some.inj h); subst h1; subst h2
      exact x_iret F hr hlk hW hS dX13_orNone_14
/-! WildBellsModel.netFor(I)I -/
def gX13_netFor_23 (b1 : Int32) : Nat → Int32 → Int32 → Int32 → xM → Option (Int32 × Int32 × Int32 × xM)
  | 0, _, _, _, _ => none
  | n + 1, x2, x3, x4, σ => if 64 ≤ x4 then (some (x2, x3, x4, σ)) else ((fX13_hasNet σ x4).bind (fun r6 => if r6 = 0 then (if xin (18 + x4) 186 then ((fX13_caughtIn (xup σ 20 ((18 + x4).toNatClampNeg) 1) b1 20).bind (fun r10 => if xin (18 + x4) 186 then (if x3 ≤ r10.1 then (gX13_netFor_23 b1 n x2 (fJ3_min x3 r10.1) (x4 + 1) (xup r10.2 20 ((18 + x4).toNatClampNeg) 0)) else (gX13_netFor_23 b1 n x4 (fJ3_min x3 r10.1) (x4 + 1) (xup r10.2 20 ((18 + x4).toNatClampNeg) 0))) else none)) else none) else (gX13_netFor_23 b1 n x2 x3 (x4 + 1) σ)))
def fX13_netFor (σ : xM) (a1 : Int32) : Option (Int32 × xM) :=
  (fX13_isBell σ a1).bind (fun r2 => if r2 = 0 then ((fX13_finding σ (-1000001)).bind (fun r18 => some (r18.1, r18.2))) else ((gX13_netFor_23 a1 xfu (-1) 1000000 0 σ).bind (fun q14 => (fX13_orNone q14.2.2.2 q14.1).bind (fun r16 => some (r16.1, r16.2)))))
set_option maxHeartbeats 4000000 in
theorem lX13_netFor_23 {p : Program} {l : Launch} {e : Env} {s : State} {m : MethodId} {av : Array Value} {below : List Frame} {meth : Method} {c : Code} {Q : State → Prop} {E : xE} {b1 : Int32} (F : xFx p m c cX13_netFor 6 s av RX13 E) : ∀ (n : Nat) (x2 : Int32) (x3 : Int32) (x4 : Int32) (σ : xM) (q : (Int32 × Int32 × Int32 × xM)), gX13_netFor_23 b1 n x2 x3 x4 σ = some q → ∀ (H : Heap) (locs : List Loc) (ls : Array Slot), xW E σ H → va_S (xA E) s.heap H locs → lv_has ls 6 [(4, .int x4), (3, .int x3), (2, .int x2), (0, .ref (xa E 186)), (1, .int b1)] → (∀ (H : Heap) (locs : List Loc) (ls : Array Slot), xW E q.2.2.2 H → va_S (xA E) s.heap H locs → lv_has ls 6 [(4, .int q.2.2.1), (3, .int q.2.1), (2, .int q.1), (0, .ref (xa E 186)), (1, .int b1)] → W p l e ({ frames := 8, cells := 0, slots := 0, locals := 190 } : Room) s m av below meth c H locs 0 0 Q (F0 m 96 ls [])) → W p l e ({ frames := 8, cells := 0, slots := 0, locals := 190 } : Room) s m av below meth c H locs 0 0 Q (F0 m 23 ls []) := by
  obtain ⟨hx, hb, hml, hown, hts⟩ := id F.1
  have hK := F.2.1.1
  intro n
  induction n with
  | zero =>
    intro x2 x3 x4 σ q h
    cases h
  | succ n ih =>
    intro x2 x3 x4 σ q h H locs ls hW hS hl kk
    rw [gX13_netFor_23] at h
    refine lv_iload hx hb dX13_netFor_23 (lv_at hl 0 rfl) ?_
    refine lv_bipush (v := 64) hx hb dX13_netFor_25 (by decide) ?_
    refine lv_icmp_ge (tgt := 96) hx hb dX13_netFor_27 (by decide) (fun c4 => ?_) (fun c4 => ?_)
    · rw [if_pos c4] at h
      have h := Option.some.inj h; subst h
      exact kk _ _ _ hW hS (lv_sub hl [0, 1, 2, 3, 4] rfl)
    · rw [if_neg c4] at h
      refine lv_aload_n hx hb dX13_netFor_30 rfl (lv_at hl 3 rfl) ?_
      refine lv_iload hx hb dX13_netFor_31 (lv_at hl 0 rfl) ?_
      cases g5 : fX13_hasNet σ x4 with
      | none => rw [g5] at h; cases h
      | some r6 =>
        rw [g5, Option.bind_some] at h
        refine x_backi (va_runV (C := RX13) (b := (xa E 186)) (As := [.int x4]) (rest := []) F.1 (mX13_hasNet l E σ x4 r6 g5) (cwV 1 hts (lw_V q1407 q1409 qs68 q115 q1410) rfl rfl rfl (by decide +kernel) ⟨Nat.le_of_ble_eq_true rfl, Nat.le_of_ble_eq_true rfl⟩) ⟨xPc.blind, va_recv hK (xO_M hW) (ci := 13) (q0 := 0) rfl rfl, F.pre hW hS (.ref (xa E 186) :: [.int x4])⟩ rfl rfl hl.1 rfl (lv_room (Nat.le_of_ble_eq_true rfl)) dX13_netFor_33 ⟨Nat.le_refl _, Nat.le_refl _⟩) hS (fun H locs hW hS => ?_)
        refine lv_if_ne (tgt := 90) hx hb dX13_netFor_36 (by decide) (fun c7 => ?_) (fun c7 => ?_)
        · rw [if_neg c7] at h
          refine lv_iinc (k := 0) (v := (x4 + 1)) (lv' := [(4, .int (x4 + 1)), (3, .int x3), (2, .int x2), (0, .ref (xa E 186)), (1, .int b1)]) hx hb dX13_netFor_90 hl rfl rfl (by decide) rfl (fun ls hl => ?_)
          refine lv_goto (tgt := 23) hx hb dX13_netFor_93 (by decide) ?_
          exact ih x2 x3 (x4 + 1) σ _ h _ _ _ hW hS (lv_sub hl [0, 1, 2, 3, 4] rfl) kk
        · rw [if_pos c7] at h
          refine lv_aload_n hx hb dX13_netFor_39 rfl (lv_at hl 3 rfl) ?_
          refine va_get (D := xD E) (ci := 13) (v := .ref (xa E 187)) (C := RX13) (T := TX13) (N := 24) hx hb hts in_X13 hown hK (xO_M hW) 0 rfl rfl 0 (by decide) (hts _ q1196) (fun _ h9 => h9) rfl dX13_netFor_40 ?_
          refine lv_bipush (v := 18) hx hb dX13_netFor_43 (by decide) ?_
          refine lv_iload hx hb dX13_netFor_45 (lv_at hl 0 rfl) ?_
          refine lv_iadd hx hb dX13_netFor_47 ?_
          refine lv_iconst (v := 1) hx hb dX13_netFor_48 (by decide) ?_
          by_cases hi8 : xin (18 + x4) 186
          · rw [if_pos hi8] at h
            refine x_iast F hW hS 187 186 20 (fun j => j) xp_187.1 xp_187.2.1 xp_187.2.2.1 xp_187.2.2.2 hi8 dX13_netFor_49 (fun H locs hW hS => ?_)
            refine lv_aload_n hx hb dX13_netFor_50 rfl (lv_at hl 3 rfl) ?_
            refine lv_iload_n hx hb dX13_netFor_51 rfl (lv_at hl 4 rfl) ?_
            refine lv_bipush (v := 20) hx hb dX13_netFor_52 (by decide) ?_
            cases g9 : fX13_caughtIn (xup σ 20 ((18 + x4).toNatClampNeg) 1) b1 20 with
            | none => rw [g9] at h; cases h
            | some r10 =>
              rw [g9, Option.bind_some] at h
              refine x_backi (va_runV (C := RX13) (b := (xa E 186)) (As := [.int b1, .int 20]) (rest := []) F.1 (mX13_caughtIn l E (xup σ 20 ((18 + x4).toNatClampNeg) 1) b1 20 r10.1 r10.2 g9) (cwV 2 hts (lw_V q1453 q1455 qs74 q115 q1456) rfl rfl rfl (by decide +kernel) ⟨Nat.le_of_ble_eq_true rfl, Nat.le_of_ble_eq_true rfl⟩) ⟨xPc.blind, va_recv hK (xO_M hW) (ci := 13) (q0 := 0) rfl rfl, F.pre hW hS (.ref (xa E 186) :: [.int b1, .int 20])⟩ rfl rfl hl.1 rfl (lv_room (Nat.le_of_ble_eq_true rfl)) dX13_netFor_54 ⟨Nat.le_refl _, Nat.le_refl _⟩) hS (fun H locs hW hS => ?_)
              refine lv_istore (lv' := [(5, .int r10.1), (4, .int x4), (3, .int x3), (2, .int x2), (0, .ref (xa E 186)), (1, .int b1)]) hx hb dX13_netFor_57 hl (by decide) rfl (fun ls hl => ?_)
              refine lv_aload_n hx hb dX13_netFor_59 rfl (lv_at hl 4 rfl) ?_
              refine va_get (D := xD E) (ci := 13) (v := .ref (xa E 187)) (C := RX13) (T := TX13) (N := 24) hx hb hts in_X13 hown hK (xO_M hW) 0 rfl rfl 0 (by decide) (hts _ q1196) (fun _ h9 => h9) rfl dX13_netFor_60 ?_
              refine lv_bipush (v := 18) hx hb dX13_netFor_63 (by decide) ?_
              refine lv_iload hx hb dX13_netFor_65 (lv_at hl 1 rfl) ?_
              refine lv_iadd hx hb dX13_netFor_67 ?_
              refine lv_iconst (v := 0) hx hb dX13_netFor_68 (by decide) ?_
              by_cases hi11 : xin (18 + x4) 186
              · rw [if_pos hi11] at h
                refine x_iast F hW hS 187 186 20 (fun j => j) xp_187.1 xp_187.2.1 xp_187.2.2.1 xp_187.2.2.2 hi11 dX13_netFor_69 (fun H locs hW hS => ?_)
                refine lv_iload hx hb dX13_netFor_70 (lv_at hl 0 rfl) ?_
                refine lv_iload_n hx hb dX13_netFor_72 rfl (lv_at hl 2 rfl) ?_
                refine lv_icmp_ge (tgt := 81) hx hb dX13_netFor_73 (by decide) (fun c12 => ?_) (fun c12 => ?_)
                · rw [if_pos c12] at h
                  refine lv_iload_n hx hb dX13_netFor_81 rfl (lv_at hl 3 rfl) ?_
                  refine lv_istore_n (lv' := [(2, .int x2), (5, .int r10.1), (4, .int x4), (3, .int x3), (0, .ref (xa E 186)), (1, .int b1)]) hx hb dX13_netFor_82 rfl hl (by decide) rfl (fun ls hl => ?_)
                  refine lv_iload_n hx hb dX13_netFor_83 rfl (lv_at hl 3 rfl) ?_
                  refine lv_iload hx hb dX13_netFor_84 (lv_at hl 1 rfl) ?_
                  refine x_backi (va_runS (As := [.int x3, .int r10.1]) (rest := []) F.1 (mJ3_min l E (xup r10.2 20 ((18 + x4).toNatClampNeg) 0) x3 r10.1) (va_cwS 2 hts (lw_S q1342 q597 q116 q598) rfl rfl rfl (by decide +kernel) ⟨Nat.le_of_ble_eq_true rfl, Nat.le_of_ble_eq_true rfl⟩) ⟨xPc.blind, F.pre hW hS [.int x3, .int r10.1]⟩ rfl rfl hl.1 rfl (lv_room (Nat.le_of_ble_eq_true rfl)) dX13_netFor_86 ⟨Nat.le_refl _, Nat.le_refl _⟩) hS (fun H locs hW hS => ?_)
                  refine lv_istore_n (lv' := [(3, .int (fJ3_min x3 r10.1)), (2, .int x2), (5, .int r10.1), (4, .int x4), (0, .ref (xa E 186)), (1, .int b1)]) hx hb dX13_netFor_89 rfl hl (by decide) rfl (fun ls hl => ?_)
                  refine lv_iinc (k := 3) (v := (x4 + 1)) (lv' := [(4, .int (x4 + 1)), (3, .int (fJ3_min x3 r10.1)), (2, .int x2), (5, .int r10.1), (0, .ref (xa E 186)), (1, .int b1)]) hx hb dX13_netFor_90 hl rfl rfl (by decide) rfl (fun ls hl => ?_)
                  refine lv_goto (tgt := 23) hx hb dX13_netFor_93 (by decide) ?_
                  exact ih x2 (fJ3_min x3 r10.1) (x4 + 1) (xup r10.2 20 ((18 + x4).toNatClampNeg) 0) _ h _ _ _ hW hS (lv_sub hl [0, 1, 2, 4, 5] rfl) kk
                · rw [if_neg c12] at h
                  refine lv_iload hx hb dX13_netFor_76 (lv_at hl 1 rfl) ?_
                  refine lv_goto (tgt := 82) hx hb dX13_netFor_78 (by decide) ?_
                  refine lv_istore_n (lv' := [(2, .int x4), (5, .int r10.1), (4, .int x4), (3, .int x3), (0, .ref (xa E 186)), (1, .int b1)]) hx hb dX13_netFor_82 rfl hl (by decide) rfl (fun ls hl => ?_)
                  refine lv_iload_n hx hb dX13_netFor_83 rfl (lv_at hl 3 rfl) ?_
                  refine lv_iload hx hb dX13_netFor_84 (lv_at hl 1 rfl) ?_
                  refine x_backi (va_runS (As := [.int x3, .int r10.1]) (rest := []) F.1 (mJ3_min l E (xup r10.2 20 ((18 + x4).toNatClampNeg) 0) x3 r10.1) (va_cwS 2 hts (lw_S q1342 q597 q116 q598) rfl rfl rfl (by decide +kernel) ⟨Nat.le_of_ble_eq_true rfl, Nat.le_of_ble_eq_true rfl⟩) ⟨xPc.blind, F.pre hW hS [.int x3, .int r10.1]⟩ rfl rfl hl.1 rfl (lv_room (Nat.le_of_ble_eq_true rfl)) dX13_netFor_86 ⟨Nat.le_refl _, Nat.le_refl _⟩) hS (fun H locs hW hS => ?_)
                  refine lv_istore_n (lv' := [(3, .int (fJ3_min x3 r10.1)), (2, .int x4), (5, .int r10.1), (4, .int x4), (0, .ref (xa E 186)), (1, .int b1)]) hx hb dX13_netFor_89 rfl hl (by decide) rfl (fun ls hl => ?_)
                  refine lv_iinc (k := 3) (v := (x4 + 1)) (lv' := [(4, .int (x4 + 1)), (3, .int (fJ3_min x3 r10.1)), (2, .int x4), (5, .int r10.1), (0, .ref (xa E 186)), (1, .int b1)]) hx hb dX13_netFor_90 hl rfl rfl (by decide) rfl (fun ls hl => ?_)
                  refine lv_goto (tgt := 23) hx hb dX13_netFor_93 (by decide) ?_
                  exact ih x4 (fJ3_min x3 r10.1) (x4 + 1) (xup r10.2 20 ((18 + x4).toNatClampNeg) 0) _ h _ _ _ hW hS (lv_sub hl [0, 1, 2, 4, 5] rfl) kk
              · rw [if_neg hi11] at h; cases h
          · rw [if_neg hi8] at h; cases h
set_option maxHeartbeats 4000000 in
theorem mX13_netFor (l : Launch) (E : xE) (σ : xM) (a1 : Int32) (r : Int32) (σ' : xM) (h : fX13_netFor σ a1 = some (r, σ')) : Met l yX13_netFor (ws_ yX13_netFor cX13_netFor 6 (some .int)) ({ frames := 8, cells := 0, slots := 0, locals := 190 } : Room) (xPc E σ [.ref (xa E 186), .int a1]) (xQc E (.returned (some (.int r))) σ') 0 0 (xA E) := by
  refine x_of (C := RX13) (n := "netFor") (d := "(I)I") (r := (some .int)) (by decide) rfl (by first | decide | exact Nat.le_of_ble_eq_true rfl) ?_
  intro p e s m below meth c ls F hr hlk hW hS hl
  have hl : lv_has ls 6 [(0, .ref (xa E 186)), (1, .int a1)] := hl
  obtain ⟨hx, hb, hml, hown, hts⟩ := id F.1
  have hK := F.2.1.1
  unfold fX13_netFor at h
  refine lv_aload_n hx hb dX13_netFor_0 rfl (lv_at hl 0 rfl) ?_
  refine lv_iload_n hx hb dX13_netFor_1 rfl (lv_at hl 1 rfl) ?_
  cases g1 : fX13_isBell σ a1 with
  | none => rw [g1] at h; cases h
  | some r2 =>
    rw [g1, Option.bind_some] at h
    refine x_backi (va_runV (C := RX13) (b := (xa E 186)) (As := [.int a1]) (rest := []) F.1 (mX13_isBell l E σ a1 r2 g1) (cwV 1 hts (lw_V q1322 q1324 qs55 q115 q1325) rfl rfl rfl (by decide +kernel) ⟨Nat.le_of_ble_eq_true rfl, Nat.le_of_ble_eq_true rfl⟩) ⟨xPc.blind, va_recv hK (xO_M hW) (ci := 13) (q0 := 0) rfl rfl, F.pre hW hS (.ref (xa E 186) :: [.int a1])⟩ rfl rfl hl.1 rfl (lv_room (Nat.le_of_ble_eq_true rfl)) dX13_netFor_2 ⟨Nat.le_refl _, Nat.le_refl _⟩) hS (fun H locs hW hS => ?_)
    refine lv_if_ne (tgt := 15) hx hb dX13_netFor_5 (by decide) (fun c3 => ?_) (fun c3 => ?_)
    · rw [if_neg c3] at h
      refine lv_iconst (v := (-1)) hx hb dX13_netFor_15 (by decide) ?_
      refine lv_istore_n (lv' := [(2, .int (-1)), (0, .ref (xa E 186)), (1, .int a1)]) hx hb dX13_netFor_16 rfl hl (by decide) rfl (fun ls hl => ?_)
      refine lv_ldc (v := 1000000) hx hb hown (hts _ q1457) dX13_netFor_17 ?_
      refine lv_istore_n (lv' := [(3, .int 1000000), (2, .int (-1)), (0, .ref (xa E 186)), (1, .int a1)]) hx hb dX13_netFor_19 rfl hl (by decide) rfl (fun ls hl => ?_)
      refine lv_iconst (v := 0) hx hb dX13_netFor_20 (by decide) ?_
      refine lv_istore (lv' := [(4, .int 0), (3, .int 1000000), (2, .int (-1)), (0, .ref (xa E 186)), (1, .int a1)]) hx hb dX13_netFor_21 hl (by decide) rfl (fun ls hl => ?_)
      cases g13 : gX13_netFor_23 a1 xfu (-1) 1000000 0 σ with
      | none => rw [g13] at h; cases h
      | some q14 =>
        rw [g13, Option.bind_some] at h
        refine lX13_netFor_23 F xfu (-1) 1000000 0 σ q14 g13 _ _ _ hW hS (lv_sub hl [0, 1, 2, 3, 4] rfl) (fun H locs ls hW hS hl => ?_)
        refine lv_aload_n hx hb dX13_netFor_96 rfl (lv_at hl 3 rfl) ?_
        refine lv_iload_n hx hb dX13_netFor_97 rfl (lv_at hl 2 rfl) ?_
        cases g15 : fX13_orNone q14.2.2.2 q14.1 with
        | none => rw [g15] at h; cases h
        | some r16 =>
          rw [g15, Option.bind_some] at h
          refine x_backi (va_runV (C := RX13) (b := (xa E 186)) (As := [.int q14.1]) (rest := []) F.1 (mX13_orNone l E q14.2.2.2 q14.1 r16.1 r16.2 g15) (cwV 1 hts (lw_V q1479 q1481 qs77 q115 q1482) rfl rfl rfl (by decide +kernel) ⟨Nat.le_of_ble_eq_true rfl, Nat.le_of_ble_eq_true rfl⟩) ⟨xPc.blind, va_recv hK (xO_M hW) (ci := 13) (q0 := 0) rfl rfl, F.pre hW hS (.ref (xa E 186) :: [.int q14.1])⟩ rfl rfl hl.1 rfl (lv_room (Nat.le_of_ble_eq_true rfl)) dX13_netFor_98 ⟨Nat.le_refl _, Nat.le_refl _⟩) hS (fun H locs hW hS => ?_)
          obtain ⟨h1, h2⟩ := Prod.mk.inj (Option.some.inj h); subst h1; subst h2
          exact x_iret F hr hlk hW hS dX13_netFor_101
    · rw [if_pos c3] at h
      refine lv_aload_n hx hb dX13_netFor_8 rfl (lv_at hl 0 rfl) ?_
      refine lv_ldc (v := (-1000001)) hx hb hown (hts _ q1279) dX13_netFor_9 ?_
      cases g17 : fX13_finding σ (-1000001) with
      | none => rw [g17] at h; cases h
      | some r18 =>
        rw [g17, Option.bind_some] at h
        refine x_backi (va_runV (C := RX13) (b := (xa E 186)) (As := [.int (-1000001)]) (rest := []) F.1 (mX13_finding l E σ (-1000001) r18.1 r18.2 g17) (cwV 1 hts (lw_V q1280 q1282 qs52 q115 q1283) rfl rfl rfl (by decide +kernel) ⟨Nat.le_of_ble_eq_true rfl, Nat.le_of_ble_eq_true rfl⟩) ⟨xPc.blind, va_recv hK (xO_M hW) (ci := 13) (q0 := 0) rfl rfl, F.pre hW hS (.ref (xa E 186) :: [.int (-1000001)])⟩ rfl rfl hl.1 rfl (lv_room (Nat.le_of_ble_eq_true rfl)) dX13_netFor_11 ⟨Nat.le_refl _, Nat.le_refl _⟩) hS (fun H locs hW hS => ?_)
        obtain ⟨h1, h2⟩ := Prod.mk.inj (Option.some.inj h); subst h1; subst h2
        exact x_iret F hr hlk hW hS dX13_netFor_14
/-! WildBellsModel.best(I)I -/
def gX13_best_24 (b1 : Int32) : Nat → Int32 → Int32 → Int32 → xM → Option (Int32 × Int32 × Int32 × xM)
  | 0, _, _, _, _ => none
  | n + 1, x2, x3, x4, σ => if 64 ≤ x4 then (some (x2, x3, x4, σ)) else ((fX13_hasNet σ x4).bind (fun r4 => if r4 = 0 then (if xin (18 + x4) 186 then ((fX13_setBehind (xup σ 20 ((18 + x4).toNatClampNeg) 1) b1).bind (fun r8 => (fX13_bits r8.1).bind (fun r10 => if xin (18 + x4) 186 then (if r10 ≤ x3 then (gX13_best_24 b1 n x2 (fJ3_max x3 r10) (x4 + 1) (xup r8.2 20 ((18 + x4).toNatClampNeg) 0)) else (gX13_best_24 b1 n x4 (fJ3_max x3 r10) (x4 + 1) (xup r8.2 20 ((18 + x4).toNatClampNeg) 0))) else none))) else none) else (gX13_best_24 b1 n x2 x3 (x4 + 1) σ)))
def fX13_best (σ : xM) (a1 : Int32) : Option (Int32 × xM) :=
  if (fX13_within a1 0 20) = 0 then ((fX13_finding σ (-1000001)).bind (fun r18 => some (r18.1, r18.2))) else ((gX13_best_24 a1 xfu (-1) (-1) 0 σ).bind (fun q14 => (fX13_orNone q14.2.2.2 q14.1).bind (fun r16 => some (r16.1, r16.2))))
set_option maxHeartbeats 4000000 in
theorem lX13_best_24 {p : Program} {l : Launch} {e : Env} {s : State} {m : MethodId} {av : Array Value} {below : List Frame} {meth : Method} {c : Code} {Q : State → Prop} {E : xE} {b1 : Int32} (F : xFx p m c cX13_best 6 s av RX13 E) : ∀ (n : Nat) (x2 : Int32) (x3 : Int32) (x4 : Int32) (σ : xM) (q : (Int32 × Int32 × Int32 × xM)), gX13_best_24 b1 n x2 x3 x4 σ = some q → ∀ (H : Heap) (locs : List Loc) (ls : Array Slot), xW E σ H → va_S (xA E) s.heap H locs → lv_has ls 6 [(4, .int x4), (3, .int x3), (2, .int x2), (0, .ref (xa E 186)), (1, .int b1)] → (∀ (H : Heap) (locs : List Loc) (ls : Array Slot), xW E q.2.2.2 H → va_S (xA E) s.heap H locs → lv_has ls 6 [(4, .int q.2.2.1), (3, .int q.2.1), (2, .int q.1), (0, .ref (xa E 186)), (1, .int b1)] → W p l e ({ frames := 9, cells := 0, slots := 0, locals := 210 } : Room) s m av below meth c H locs 0 0 Q (F0 m 98 ls [])) → W p l e ({ frames := 9, cells := 0, slots := 0, locals := 210 } : Room) s m av below meth c H locs 0 0 Q (F0 m 24 ls []) := by
  obtain ⟨hx, hb, hml, hown, hts⟩ := id F.1
  have hK := F.2.1.1
  intro n
  induction n with
  | zero =>
    intro x2 x3 x4 σ q h
    cases h
  | succ n ih =>
    intro x2 x3 x4 σ q h H locs ls hW hS hl kk
    rw [gX13_best_24] at h
    refine lv_iload hx hb dX13_best_24 (lv_at hl 0 rfl) ?_
    refine lv_bipush (v := 64) hx hb dX13_best_26 (by decide) ?_
    refine lv_icmp_ge (tgt := 98) hx hb dX13_best_28 (by decide) (fun c2 => ?_) (fun c2 => ?_)
    · rw [if_pos c2] at h
      have h := Option.some.inj h; subst h
      exact kk _ _ _ hW hS (lv_sub hl [0, 1, 2, 3, 4] rfl)
    · rw [if_neg c2] at h
      refine lv_aload_n hx hb dX13_best_31 rfl (lv_at hl 3 rfl) ?_
      refine lv_iload hx hb dX13_best_32 (lv_at hl 0 rfl) ?_
      cases g3 : fX13_hasNet σ x4 with
      | none => rw [g3] at h; cases h
      | some r4 =>
        rw [g3, Option.bind_some] at h
        refine x_backi (va_runV (C := RX13) (b := (xa E 186)) (As := [.int x4]) (rest := []) F.1 (mX13_hasNet l E σ x4 r4 g3) (cwV 1 hts (lw_V q1407 q1409 qs68 q115 q1410) rfl rfl rfl (by decide +kernel) ⟨Nat.le_of_ble_eq_true rfl, Nat.le_of_ble_eq_true rfl⟩) ⟨xPc.blind, va_recv hK (xO_M hW) (ci := 13) (q0 := 0) rfl rfl, F.pre hW hS (.ref (xa E 186) :: [.int x4])⟩ rfl rfl hl.1 rfl (lv_room (Nat.le_of_ble_eq_true rfl)) dX13_best_34 ⟨Nat.le_refl _, Nat.le_refl _⟩) hS (fun H locs hW hS => ?_)
        refine lv_if_ne (tgt := 92) hx hb dX13_best_37 (by decide) (fun c5 => ?_) (fun c5 => ?_)
        · rw [if_neg c5] at h
          refine lv_iinc (k := 0) (v := (x4 + 1)) (lv' := [(4, .int (x4 + 1)), (3, .int x3), (2, .int x2), (0, .ref (xa E 186)), (1, .int b1)]) hx hb dX13_best_92 hl rfl rfl (by decide) rfl (fun ls hl => ?_)
          refine lv_goto (tgt := 24) hx hb dX13_best_95 (by decide) ?_
          exact ih x2 x3 (x4 + 1) σ _ h _ _ _ hW hS (lv_sub hl [0, 1, 2, 3, 4] rfl) kk
        · rw [if_pos c5] at h
          refine lv_aload_n hx hb dX13_best_40 rfl (lv_at hl 3 rfl) ?_
          refine va_get (D := xD E) (ci := 13) (v := .ref (xa E 187)) (C := RX13) (T := TX13) (N := 24) hx hb hts in_X13 hown hK (xO_M hW) 0 rfl rfl 0 (by decide) (hts _ q1196) (fun _ h9 => h9) rfl dX13_best_41 ?_
          refine lv_bipush (v := 18) hx hb dX13_best_44 (by decide) ?_
          refine lv_iload hx hb dX13_best_46 (lv_at hl 0 rfl) ?_
          refine lv_iadd hx hb dX13_best_48 ?_
          refine lv_iconst (v := 1) hx hb dX13_best_49 (by decide) ?_
          by_cases hi6 : xin (18 + x4) 186
          · rw [if_pos hi6] at h
            refine x_iast F hW hS 187 186 20 (fun j => j) xp_187.1 xp_187.2.1 xp_187.2.2.1 xp_187.2.2.2 hi6 dX13_best_50 (fun H locs hW hS => ?_)
            refine lv_aload_n hx hb dX13_best_51 rfl (lv_at hl 3 rfl) ?_
            refine lv_iload_n hx hb dX13_best_52 rfl (lv_at hl 4 rfl) ?_
            cases g7 : fX13_setBehind (xup σ 20 ((18 + x4).toNatClampNeg) 1) b1 with
            | none => rw [g7] at h; cases h
            | some r8 =>
              rw [g7, Option.bind_some] at h
              refine x_backi (va_runV (C := RX13) (b := (xa E 186)) (As := [.int b1]) (rest := []) F.1 (mX13_setBehind l E (xup σ 20 ((18 + x4).toNatClampNeg) 1) b1 r8.1 r8.2 g7) (cwV 1 hts (lw_V q1471 q1473 qs76 q115 q1474) rfl rfl rfl (by decide +kernel) ⟨Nat.le_of_ble_eq_true rfl, Nat.le_of_ble_eq_true rfl⟩) ⟨xPc.blind, va_recv hK (xO_M hW) (ci := 13) (q0 := 0) rfl rfl, F.pre hW hS (.ref (xa E 186) :: [.int b1])⟩ rfl rfl hl.1 rfl (lv_room (Nat.le_of_ble_eq_true rfl)) dX13_best_53 ⟨Nat.le_refl _, Nat.le_refl _⟩) hS (fun H locs hW hS => ?_)
              cases g9 : fX13_bits r8.1 with
              | none => rw [g9] at h; cases h
              | some r10 =>
                rw [g9, Option.bind_some] at h
                refine x_backi (va_runS (As := [.int r8.1]) (rest := []) F.1 (mX13_bits l E r8.2 r8.1 r10 g9) (va_cwS 1 hts (lw_S q1415 q1416 q115 q1417) rfl rfl rfl (by decide +kernel) ⟨Nat.le_of_ble_eq_true rfl, Nat.le_of_ble_eq_true rfl⟩) ⟨xPc.blind, F.pre hW hS [.int r8.1]⟩ rfl rfl hl.1 rfl (lv_room (Nat.le_of_ble_eq_true rfl)) dX13_best_56 ⟨Nat.le_refl _, Nat.le_refl _⟩) hS (fun H locs hW hS => ?_)
                refine lv_istore (lv' := [(5, .int r10), (4, .int x4), (3, .int x3), (2, .int x2), (0, .ref (xa E 186)), (1, .int b1)]) hx hb dX13_best_59 hl (by decide) rfl (fun ls hl => ?_)
                refine lv_aload_n hx hb dX13_best_61 rfl (lv_at hl 4 rfl) ?_
                refine va_get (D := xD E) (ci := 13) (v := .ref (xa E 187)) (C := RX13) (T := TX13) (N := 24) hx hb hts in_X13 hown hK (xO_M hW) 0 rfl rfl 0 (by decide) (hts _ q1196) (fun _ h9 => h9) rfl dX13_best_62 ?_
                refine lv_bipush (v := 18) hx hb dX13_best_65 (by decide) ?_
                refine lv_iload hx hb dX13_best_67 (lv_at hl 1 rfl) ?_
                refine lv_iadd hx hb dX13_best_69 ?_
                refine lv_iconst (v := 0) hx hb dX13_best_70 (by decide) ?_
                by_cases hi11 : xin (18 + x4) 186
                · rw [if_pos hi11] at h
                  refine x_iast F hW hS 187 186 20 (fun j => j) xp_187.1 xp_187.2.1 xp_187.2.2.1 xp_187.2.2.2 hi11 dX13_best_71 (fun H locs hW hS => ?_)
                  refine lv_iload hx hb dX13_best_72 (lv_at hl 0 rfl) ?_
                  refine lv_iload_n hx hb dX13_best_74 rfl (lv_at hl 2 rfl) ?_
                  refine lv_icmp_le (tgt := 83) hx hb dX13_best_75 (by decide) (fun c12 => ?_) (fun c12 => ?_)
                  · rw [if_pos c12] at h
                    refine lv_iload_n hx hb dX13_best_83 rfl (lv_at hl 3 rfl) ?_
                    refine lv_istore_n (lv' := [(2, .int x2), (5, .int r10), (4, .int x4), (3, .int x3), (0, .ref (xa E 186)), (1, .int b1)]) hx hb dX13_best_84 rfl hl (by decide) rfl (fun ls hl => ?_)
                    refine lv_iload_n hx hb dX13_best_85 rfl (lv_at hl 3 rfl) ?_
                    refine lv_iload hx hb dX13_best_86 (lv_at hl 1 rfl) ?_
                    refine x_backi (va_runS (As := [.int x3, .int r10]) (rest := []) F.1 (mJ3_max l E (xup r8.2 20 ((18 + x4).toNatClampNeg) 0) x3 r10) (va_cwS 2 hts (lw_S q1357 q504 q116 q505) rfl rfl rfl (by decide +kernel) ⟨Nat.le_of_ble_eq_true rfl, Nat.le_of_ble_eq_true rfl⟩) ⟨xPc.blind, F.pre hW hS [.int x3, .int r10]⟩ rfl rfl hl.1 rfl (lv_room (Nat.le_of_ble_eq_true rfl)) dX13_best_88 ⟨Nat.le_refl _, Nat.le_refl _⟩) hS (fun H locs hW hS => ?_)
                    refine lv_istore_n (lv' := [(3, .int (fJ3_max x3 r10)), (2, .int x2), (5, .int r10), (4, .int x4), (0, .ref (xa E 186)), (1, .int b1)]) hx hb dX13_best_91 rfl hl (by decide) rfl (fun ls hl => ?_)
                    refine lv_iinc (k := 3) (v := (x4 + 1)) (lv' := [(4, .int (x4 + 1)), (3, .int (fJ3_max x3 r10)), (2, .int x2), (5, .int r10), (0, .ref (xa E 186)), (1, .int b1)]) hx hb dX13_best_92 hl rfl rfl (by decide) rfl (fun ls hl => ?_)
                    refine lv_goto (tgt := 24) hx hb dX13_best_95 (by decide) ?_
                    exact ih x2 (fJ3_max x3 r10) (x4 + 1) (xup r8.2 20 ((18 + x4).toNatClampNeg) 0) _ h _ _ _ hW hS (lv_sub hl [0, 1, 2, 4, 5] rfl) kk
                  · rw [if_neg c12] at h
                    refine lv_iload hx hb dX13_best_78 (lv_at hl 1 rfl) ?_
                    refine lv_goto (tgt := 84) hx hb dX13_best_80 (by decide) ?_
                    refine lv_istore_n (lv' := [(2, .int x4), (5, .int r10), (4, .int x4), (3, .int x3), (0, .ref (xa E 186)), (1, .int b1)]) hx hb dX13_best_84 rfl hl (by decide) rfl (fun ls hl => ?_)
                    refine lv_iload_n hx hb dX13_best_85 rfl (lv_at hl 3 rfl) ?_
                    refine lv_iload hx hb dX13_best_86 (lv_at hl 1 rfl) ?_
                    refine x_backi (va_runS (As := [.int x3, .int r10]) (rest := []) F.1 (mJ3_max l E (xup r8.2 20 ((18 + x4).toNatClampNeg) 0) x3 r10) (va_cwS 2 hts (lw_S q1357 q504 q116 q505) rfl rfl rfl (by decide +kernel) ⟨Nat.le_of_ble_eq_true rfl, Nat.le_of_ble_eq_true rfl⟩) ⟨xPc.blind, F.pre hW hS [.int x3, .int r10]⟩ rfl rfl hl.1 rfl (lv_room (Nat.le_of_ble_eq_true rfl)) dX13_best_88 ⟨Nat.le_refl _, Nat.le_refl _⟩) hS (fun H locs hW hS => ?_)
                    refine lv_istore_n (lv' := [(3, .int (fJ3_max x3 r10)), (2, .int x4), (5, .int r10), (4, .int x4), (0, .ref (xa E 186)), (1, .int b1)]) hx hb dX13_best_91 rfl hl (by decide) rfl (fun ls hl => ?_)
                    refine lv_iinc (k := 3) (v := (x4 + 1)) (lv' := [(4, .int (x4 + 1)), (3, .int (fJ3_max x3 r10)), (2, .int x4), (5, .int r10), (0, .ref (xa E 186)), (1, .int b1)]) hx hb dX13_best_92 hl rfl rfl (by decide) rfl (fun ls hl => ?_)
                    refine lv_goto (tgt := 24) hx hb dX13_best_95 (by decide) ?_
                    exact ih x4 (fJ3_max x3 r10) (x4 + 1) (xup r8.2 20 ((18 + x4).toNatClampNeg) 0) _ h _ _ _ hW hS (lv_sub hl [0, 1, 2, 4, 5] rfl) kk
                · rw [if_neg hi11] at h; cases h
          · rw [if_neg hi6] at h; cases h
set_option maxHeartbeats 4000000 in
theorem mX13_best (l : Launch) (E : xE) (σ : xM) (a1 : Int32) (r : Int32) (σ' : xM) (h : fX13_best σ a1 = some (r, σ')) : Met l yX13_best (ws_ yX13_best cX13_best 6 (some .int)) ({ frames := 9, cells := 0, slots := 0, locals := 210 } : Room) (xPc E σ [.ref (xa E 186), .int a1]) (xQc E (.returned (some (.int r))) σ') 0 0 (xA E) := by
  refine x_of (C := RX13) (n := "best") (d := "(I)I") (r := (some .int)) (by decide) rfl (by first | decide | exact Nat.le_of_ble_eq_true rfl) ?_
  intro p e s m below meth c ls F hr hlk hW hS hl
  have hl : lv_has ls 6 [(0, .ref (xa E 186)), (1, .int a1)] := hl
  obtain ⟨hx, hb, hml, hown, hts⟩ := id F.1
  have hK := F.2.1.1
  unfold fX13_best at h
  refine lv_iload_n hx hb dX13_best_0 rfl (lv_at hl 1 rfl) ?_
  refine lv_iconst (v := 0) hx hb dX13_best_1 (by decide) ?_
  refine lv_bipush (v := 20) hx hb dX13_best_2 (by decide) ?_
  refine x_backi (va_runS (As := [.int a1, .int 0, .int 20]) (rest := []) F.1 (mX13_within l E σ a1 0 20) (va_cwS 3 hts (lw_S q1276 q1277 q115 q1278) rfl rfl rfl (by decide +kernel) ⟨Nat.le_of_ble_eq_true rfl, Nat.le_of_ble_eq_true rfl⟩) ⟨xPc.blind, F.pre hW hS [.int a1, .int 0, .int 20]⟩ rfl rfl hl.1 rfl (lv_room (Nat.le_of_ble_eq_true rfl)) dX13_best_4 ⟨Nat.le_refl _, Nat.le_refl _⟩) hS (fun H locs hW hS => ?_)
  refine lv_if_ne (tgt := 17) hx hb dX13_best_7 (by decide) (fun c1 => ?_) (fun c1 => ?_)
  · rw [if_neg c1] at h
    refine lv_iconst (v := (-1)) hx hb dX13_best_17 (by decide) ?_
    refine lv_istore_n (lv' := [(2, .int (-1)), (0, .ref (xa E 186)), (1, .int a1)]) hx hb dX13_best_18 rfl hl (by decide) rfl (fun ls hl => ?_)
    refine lv_iconst (v := (-1)) hx hb dX13_best_19 (by decide) ?_
    refine lv_istore_n (lv' := [(3, .int (-1)), (2, .int (-1)), (0, .ref (xa E 186)), (1, .int a1)]) hx hb dX13_best_20 rfl hl (by decide) rfl (fun ls hl => ?_)
    refine lv_iconst (v := 0) hx hb dX13_best_21 (by decide) ?_
    refine lv_istore (lv' := [(4, .int 0), (3, .int (-1)), (2, .int (-1)), (0, .ref (xa E 186)), (1, .int a1)]) hx hb dX13_best_22 hl (by decide) rfl (fun ls hl => ?_)
    cases g13 : gX13_best_24 a1 xfu (-1) (-1) 0 σ with
    | none => rw [g13] at h; cases h
    | some q14 =>
      rw [g13, Option.bind_some] at h
      refine lX13_best_24 F xfu (-1) (-1) 0 σ q14 g13 _ _ _ hW hS (lv_sub hl [0, 1, 2, 3, 4] rfl) (fun H locs ls hW hS hl => ?_)
      refine lv_aload_n hx hb dX13_best_98 rfl (lv_at hl 3 rfl) ?_
      refine lv_iload_n hx hb dX13_best_99 rfl (lv_at hl 2 rfl) ?_
      cases g15 : fX13_orNone q14.2.2.2 q14.1 with
      | none => rw [g15] at h; cases h
      | some r16 =>
        rw [g15, Option.bind_some] at h
        refine x_backi (va_runV (C := RX13) (b := (xa E 186)) (As := [.int q14.1]) (rest := []) F.1 (mX13_orNone l E q14.2.2.2 q14.1 r16.1 r16.2 g15) (cwV 1 hts (lw_V q1479 q1481 qs77 q115 q1482) rfl rfl rfl (by decide +kernel) ⟨Nat.le_of_ble_eq_true rfl, Nat.le_of_ble_eq_true rfl⟩) ⟨xPc.blind, va_recv hK (xO_M hW) (ci := 13) (q0 := 0) rfl rfl, F.pre hW hS (.ref (xa E 186) :: [.int q14.1])⟩ rfl rfl hl.1 rfl (lv_room (Nat.le_of_ble_eq_true rfl)) dX13_best_100 ⟨Nat.le_refl _, Nat.le_refl _⟩) hS (fun H locs hW hS => ?_)
        obtain ⟨h1, h2⟩ := Prod.mk.inj (Option.some.inj h); subst h1; subst h2
        exact x_iret F hr hlk hW hS dX13_best_103
  · rw [if_pos c1] at h
    refine lv_aload_n hx hb dX13_best_10 rfl (lv_at hl 0 rfl) ?_
    refine lv_ldc (v := (-1000001)) hx hb hown (hts _ q1279) dX13_best_11 ?_
    cases g17 : fX13_finding σ (-1000001) with
    | none => rw [g17] at h; cases h
    | some r18 =>
      rw [g17, Option.bind_some] at h
      refine x_backi (va_runV (C := RX13) (b := (xa E 186)) (As := [.int (-1000001)]) (rest := []) F.1 (mX13_finding l E σ (-1000001) r18.1 r18.2 g17) (cwV 1 hts (lw_V q1280 q1282 qs52 q115 q1283) rfl rfl rfl (by decide +kernel) ⟨Nat.le_of_ble_eq_true rfl, Nat.le_of_ble_eq_true rfl⟩) ⟨xPc.blind, va_recv hK (xO_M hW) (ci := 13) (q0 := 0) rfl rfl, F.pre hW hS (.ref (xa E 186) :: [.int (-1000001)])⟩ rfl rfl hl.1 rfl (lv_room (Nat.le_of_ble_eq_true rfl)) dX13_best_13 ⟨Nat.le_refl _, Nat.le_refl _⟩) hS (fun H locs hW hS => ?_)
      obtain ⟨h1, h2⟩ := Prod.mk.inj (Option.some.inj h); subst h1; subst h2
      exact x_iret F hr hlk hW hS dX13_best_16
/-! WildBellsModel.drive(II)I -/
def gX13_drive_42 (b1 : Int32) (b2 : Int32) : Nat → Int32 → Int32 → Int32 → xM → Option (Int32 × Int32 × Int32 × xM)
  | 0, _, _, _, _ => none
  | n + 1, x4, x5, x6, σ => if 64 ≤ x6 then (some (x4, x5, x6, σ)) else (if xin (14 + b1) 186 then ((fX13_caughtIn (xup σ 20 ((14 + b1).toNatClampNeg) x6) b2 20).bind (fun r11 => if x5 ≤ r11.1 then (gX13_drive_42 b1 b2 n x4 (fJ3_min x5 r11.1) (x6 + 1) r11.2) else (gX13_drive_42 b1 b2 n x6 (fJ3_min x5 r11.1) (x6 + 1) r11.2))) else none)
def fX13_drive (σ : xM) (a1 : Int32) (a2 : Int32) : Option (Int32 × xM) :=
  if (fX13_isHunter a1) = 0 then ((fX13_finding σ (-1000001)).bind (fun r3 => some (r3.1, r3.2))) else ((fX13_isBell σ a2).bind (fun r5 => if r5 = 0 then ((fX13_finding σ (-1000001)).bind (fun r19 => some (r19.1, r19.2))) else (if xin (14 + a1) 186 then ((gX13_drive_42 a1 a2 xfu (-1) 1000000 0 σ).bind (fun q14 => if xin (14 + a1) 186 then ((fX13_orNone (xup q14.2.2.2 20 ((14 + a1).toNatClampNeg) (σ 20 ((14 + a1).toNatClampNeg))) q14.1).bind (fun r17 => some (r17.1, r17.2))) else none)) else none)))
set_option maxHeartbeats 4000000 in
theorem lX13_drive_42 {p : Program} {l : Launch} {e : Env} {s : State} {m : MethodId} {av : Array Value} {below : List Frame} {meth : Method} {c : Code} {Q : State → Prop} {E : xE} {b1 : Int32} {b2 : Int32} {b3 : Int32} (F : xFx p m c cX13_drive 8 s av RX13 E) : ∀ (n : Nat) (x4 : Int32) (x5 : Int32) (x6 : Int32) (σ : xM) (q : (Int32 × Int32 × Int32 × xM)), gX13_drive_42 b1 b2 n x4 x5 x6 σ = some q → ∀ (H : Heap) (locs : List Loc) (ls : Array Slot), xW E σ H → va_S (xA E) s.heap H locs → lv_has ls 8 [(6, .int x6), (5, .int x5), (4, .int x4), (3, .int b3), (0, .ref (xa E 186)), (1, .int b1), (2, .int b2)] → (∀ (H : Heap) (locs : List Loc) (ls : Array Slot), xW E q.2.2.2 H → va_S (xA E) s.heap H locs → lv_has ls 8 [(6, .int q.2.2.1), (5, .int q.2.1), (4, .int q.1), (3, .int b3), (0, .ref (xa E 186)), (1, .int b1), (2, .int b2)] → W p l e ({ frames := 8, cells := 0, slots := 0, locals := 190 } : Room) s m av below meth c H locs 0 0 Q (F0 m 100 ls [])) → W p l e ({ frames := 8, cells := 0, slots := 0, locals := 190 } : Room) s m av below meth c H locs 0 0 Q (F0 m 42 ls []) := by
  obtain ⟨hx, hb, hml, hown, hts⟩ := id F.1
  have hK := F.2.1.1
  intro n
  induction n with
  | zero =>
    intro x4 x5 x6 σ q h
    cases h
  | succ n ih =>
    intro x4 x5 x6 σ q h H locs ls hW hS hl kk
    rw [gX13_drive_42] at h
    refine lv_iload hx hb dX13_drive_42 (lv_at hl 0 rfl) ?_
    refine lv_bipush (v := 64) hx hb dX13_drive_44 (by decide) ?_
    refine lv_icmp_ge (tgt := 100) hx hb dX13_drive_46 (by decide) (fun c8 => ?_) (fun c8 => ?_)
    · rw [if_pos c8] at h
      have h := Option.some.inj h; subst h
      exact kk _ _ _ hW hS (lv_sub hl [0, 1, 2, 3, 4, 5, 6] rfl)
    · rw [if_neg c8] at h
      refine lv_aload_n hx hb dX13_drive_49 rfl (lv_at hl 4 rfl) ?_
      refine va_get (D := xD E) (ci := 13) (v := .ref (xa E 187)) (C := RX13) (T := TX13) (N := 24) hx hb hts in_X13 hown hK (xO_M hW) 0 rfl rfl 0 (by decide) (hts _ q1196) (fun _ h9 => h9) rfl dX13_drive_50 ?_
      refine lv_bipush (v := 14) hx hb dX13_drive_53 (by decide) ?_
      refine lv_iload_n hx hb dX13_drive_55 rfl (lv_at hl 5 rfl) ?_
      refine lv_iadd hx hb dX13_drive_56 ?_
      refine lv_iload hx hb dX13_drive_57 (lv_at hl 0 rfl) ?_
      by_cases hi9 : xin (14 + b1) 186
      · rw [if_pos hi9] at h
        refine x_iast F hW hS 187 186 20 (fun j => j) xp_187.1 xp_187.2.1 xp_187.2.2.1 xp_187.2.2.2 hi9 dX13_drive_59 (fun H locs hW hS => ?_)
        refine lv_aload_n hx hb dX13_drive_60 rfl (lv_at hl 4 rfl) ?_
        refine lv_iload_n hx hb dX13_drive_61 rfl (lv_at hl 6 rfl) ?_
        refine lv_bipush (v := 20) hx hb dX13_drive_62 (by decide) ?_
        cases g10 : fX13_caughtIn (xup σ 20 ((14 + b1).toNatClampNeg) x6) b2 20 with
        | none => rw [g10] at h; cases h
        | some r11 =>
          rw [g10, Option.bind_some] at h
          refine x_backi (va_runV (C := RX13) (b := (xa E 186)) (As := [.int b2, .int 20]) (rest := []) F.1 (mX13_caughtIn l E (xup σ 20 ((14 + b1).toNatClampNeg) x6) b2 20 r11.1 r11.2 g10) (cwV 2 hts (lw_V q1453 q1455 qs74 q115 q1456) rfl rfl rfl (by decide +kernel) ⟨Nat.le_of_ble_eq_true rfl, Nat.le_of_ble_eq_true rfl⟩) ⟨xPc.blind, va_recv hK (xO_M hW) (ci := 13) (q0 := 0) rfl rfl, F.pre hW hS (.ref (xa E 186) :: [.int b2, .int 20])⟩ rfl rfl hl.1 rfl (lv_room (Nat.le_of_ble_eq_true rfl)) dX13_drive_64 ⟨Nat.le_refl _, Nat.le_refl _⟩) hS (fun H locs hW hS => ?_)
          refine lv_istore (lv' := [(7, .int r11.1), (6, .int x6), (5, .int x5), (4, .int x4), (3, .int b3), (0, .ref (xa E 186)), (1, .int b1), (2, .int b2)]) hx hb dX13_drive_67 hl (by decide) rfl (fun ls hl => ?_)
          refine lv_iload hx hb dX13_drive_69 (lv_at hl 0 rfl) ?_
          refine lv_iload hx hb dX13_drive_71 (lv_at hl 2 rfl) ?_
          refine lv_icmp_ge (tgt := 81) hx hb dX13_drive_73 (by decide) (fun c12 => ?_) (fun c12 => ?_)
          · rw [if_pos c12] at h
            refine lv_iload hx hb dX13_drive_81 (lv_at hl 3 rfl) ?_
            refine lv_istore (lv' := [(4, .int x4), (7, .int r11.1), (6, .int x6), (5, .int x5), (3, .int b3), (0, .ref (xa E 186)), (1, .int b1), (2, .int b2)]) hx hb dX13_drive_83 hl (by decide) rfl (fun ls hl => ?_)
            refine lv_iload hx hb dX13_drive_85 (lv_at hl 3 rfl) ?_
            refine lv_iload hx hb dX13_drive_87 (lv_at hl 1 rfl) ?_
            refine x_backi (va_runS (As := [.int x5, .int r11.1]) (rest := []) F.1 (mJ3_min l E r11.2 x5 r11.1) (va_cwS 2 hts (lw_S q1342 q597 q116 q598) rfl rfl rfl (by decide +kernel) ⟨Nat.le_of_ble_eq_true rfl, Nat.le_of_ble_eq_true rfl⟩) ⟨xPc.blind, F.pre hW hS [.int x5, .int r11.1]⟩ rfl rfl hl.1 rfl (lv_room (Nat.le_of_ble_eq_true rfl)) dX13_drive_89 ⟨Nat.le_refl _, Nat.le_refl _⟩) hS (fun H locs hW hS => ?_)
            refine lv_istore (lv' := [(5, .int (fJ3_min x5 r11.1)), (4, .int x4), (7, .int r11.1), (6, .int x6), (3, .int b3), (0, .ref (xa E 186)), (1, .int b1), (2, .int b2)]) hx hb dX13_drive_92 hl (by decide) rfl (fun ls hl => ?_)
            refine lv_iinc (k := 3) (v := (x6 + 1)) (lv' := [(6, .int (x6 + 1)), (5, .int (fJ3_min x5 r11.1)), (4, .int x4), (7, .int r11.1), (3, .int b3), (0, .ref (xa E 186)), (1, .int b1), (2, .int b2)]) hx hb dX13_drive_94 hl rfl rfl (by decide) rfl (fun ls hl => ?_)
            refine lv_goto (tgt := 42) hx hb dX13_drive_97 (by decide) ?_
            exact ih x4 (fJ3_min x5 r11.1) (x6 + 1) r11.2 _ h _ _ _ hW hS (lv_sub hl [0, 1, 2, 4, 5, 6, 7] rfl) kk
          · rw [if_neg c12] at h
            refine lv_iload hx hb dX13_drive_76 (lv_at hl 1 rfl) ?_
            refine lv_goto (tgt := 83) hx hb dX13_drive_78 (by decide) ?_
            refine lv_istore (lv' := [(4, .int x6), (7, .int r11.1), (6, .int x6), (5, .int x5), (3, .int b3), (0, .ref (xa E 186)), (1, .int b1), (2, .int b2)]) hx hb dX13_drive_83 hl (by decide) rfl (fun ls hl => ?_)
            refine lv_iload hx hb dX13_drive_85 (lv_at hl 3 rfl) ?_
            refine lv_iload hx hb dX13_drive_87 (lv_at hl 1 rfl) ?_
            refine x_backi (va_runS (As := [.int x5, .int r11.1]) (rest := []) F.1 (mJ3_min l E r11.2 x5 r11.1) (va_cwS 2 hts (lw_S q1342 q597 q116 q598) rfl rfl rfl (by decide +kernel) ⟨Nat.le_of_ble_eq_true rfl, Nat.le_of_ble_eq_true rfl⟩) ⟨xPc.blind, F.pre hW hS [.int x5, .int r11.1]⟩ rfl rfl hl.1 rfl (lv_room (Nat.le_of_ble_eq_true rfl)) dX13_drive_89 ⟨Nat.le_refl _, Nat.le_refl _⟩) hS (fun H locs hW hS => ?_)
            refine lv_istore (lv' := [(5, .int (fJ3_min x5 r11.1)), (4, .int x6), (7, .int r11.1), (6, .int x6), (3, .int b3), (0, .ref (xa E 186)), (1, .int b1), (2, .int b2)]) hx hb dX13_drive_92 hl (by decide) rfl (fun ls hl => ?_)
            refine lv_iinc (k := 3) (v := (x6 + 1)) (lv' := [(6, .int (x6 + 1)), (5, .int (fJ3_min x5 r11.1)), (4, .int x6), (7, .int r11.1), (3, .int b3), (0, .ref (xa E 186)), (1, .int b1), (2, .int b2)]) hx hb dX13_drive_94 hl rfl rfl (by decide) rfl (fun ls hl => ?_)
            refine lv_goto (tgt := 42) hx hb dX13_drive_97 (by decide) ?_
            exact ih x6 (fJ3_min x5 r11.1) (x6 + 1) r11.2 _ h _ _ _ hW hS (lv_sub hl [0, 1, 2, 4, 5, 6, 7] rfl) kk
      · rw [if_neg hi9] at h; cases h
set_option maxHeartbeats 4000000 in
theorem mX13_drive (l : Launch) (E : xE) (σ : xM) (a1 : Int32) (a2 : Int32) (r : Int32) (σ' : xM) (h : fX13_drive σ a1 a2 = some (r, σ')) : Met l yX13_drive (ws_ yX13_drive cX13_drive 8 (some .int)) ({ frames := 8, cells := 0, slots := 0, locals := 190 } : Room) (xPc E σ [.ref (xa E 186), .int a1, .int a2]) (xQc E (.returned (some (.int r))) σ') 0 0 (xA E) := by
  refine x_of (C := RX13) (n := "drive") (d := "(II)I") (r := (some .int)) (by decide) rfl (by first | decide | exact Nat.le_of_ble_eq_true rfl) ?_
  intro p e s m below meth c ls F hr hlk hW hS hl
  have hl : lv_has ls 8 [(0, .ref (xa E 186)), (1, .int a1), (2, .int a2)] := hl
  obtain ⟨hx, hb, hml, hown, hts⟩ := id F.1
  have hK := F.2.1.1
  unfold fX13_drive at h
  refine lv_iload_n hx hb dX13_drive_0 rfl (lv_at hl 1 rfl) ?_
  refine x_backi (va_runS (As := [.int a1]) (rest := []) F.1 (mX13_isHunter l E σ a1) (va_cwS 1 hts (lw_S q1296 q1297 q115 q1298) rfl rfl rfl (by decide +kernel) ⟨Nat.le_of_ble_eq_true rfl, Nat.le_of_ble_eq_true rfl⟩) ⟨xPc.blind, F.pre hW hS [.int a1]⟩ rfl rfl hl.1 rfl (lv_room (Nat.le_of_ble_eq_true rfl)) dX13_drive_1 ⟨Nat.le_refl _, Nat.le_refl _⟩) hS (fun H locs hW hS => ?_)
  refine lv_if_eq (tgt := 15) hx hb dX13_drive_4 (by decide) (fun c1 => ?_) (fun c1 => ?_)
  · rw [if_pos c1] at h
    refine lv_aload_n hx hb dX13_drive_15 rfl (lv_at hl 0 rfl) ?_
    refine lv_ldc (v := (-1000001)) hx hb hown (hts _ q1279) dX13_drive_16 ?_
    cases g2 : fX13_finding σ (-1000001) with
    | none => rw [g2] at h; cases h
    | some r3 =>
      rw [g2, Option.bind_some] at h
      refine x_backi (va_runV (C := RX13) (b := (xa E 186)) (As := [.int (-1000001)]) (rest := []) F.1 (mX13_finding l E σ (-1000001) r3.1 r3.2 g2) (cwV 1 hts (lw_V q1280 q1282 qs52 q115 q1283) rfl rfl rfl (by decide +kernel) ⟨Nat.le_of_ble_eq_true rfl, Nat.le_of_ble_eq_true rfl⟩) ⟨xPc.blind, va_recv hK (xO_M hW) (ci := 13) (q0 := 0) rfl rfl, F.pre hW hS (.ref (xa E 186) :: [.int (-1000001)])⟩ rfl rfl hl.1 rfl (lv_room (Nat.le_of_ble_eq_true rfl)) dX13_drive_18 ⟨Nat.le_refl _, Nat.le_refl _⟩) hS (fun H locs hW hS => ?_)
      obtain ⟨h1, h2⟩ := Prod.mk.inj (Option.some.inj h); subst h1; subst h2
      exact x_iret F hr hlk hW hS dX13_drive_21
  · rw [if_neg c1] at h
    refine lv_aload_n hx hb dX13_drive_7 rfl (lv_at hl 0 rfl) ?_
    refine lv_iload_n hx hb dX13_drive_8 rfl (lv_at hl 2 rfl) ?_
    cases g4 : fX13_isBell σ a2 with
    | none => rw [g4] at h; cases h
    | some r5 =>
      rw [g4, Option.bind_some] at h
      refine x_backi (va_runV (C := RX13) (b := (xa E 186)) (As := [.int a2]) (rest := []) F.1 (mX13_isBell l E σ a2 r5 g4) (cwV 1 hts (lw_V q1322 q1324 qs55 q115 q1325) rfl rfl rfl (by decide +kernel) ⟨Nat.le_of_ble_eq_true rfl, Nat.le_of_ble_eq_true rfl⟩) ⟨xPc.blind, va_recv hK (xO_M hW) (ci := 13) (q0 := 0) rfl rfl, F.pre hW hS (.ref (xa E 186) :: [.int a2])⟩ rfl rfl hl.1 rfl (lv_room (Nat.le_of_ble_eq_true rfl)) dX13_drive_9 ⟨Nat.le_refl _, Nat.le_refl _⟩) hS (fun H locs hW hS => ?_)
      refine lv_if_ne (tgt := 22) hx hb dX13_drive_12 (by decide) (fun c6 => ?_) (fun c6 => ?_)
      · rw [if_neg c6] at h
        refine lv_aload_n hx hb dX13_drive_22 rfl (lv_at hl 0 rfl) ?_
        refine va_get (D := xD E) (ci := 13) (v := .ref (xa E 187)) (C := RX13) (T := TX13) (N := 24) hx hb hts in_X13 hown hK (xO_M hW) 0 rfl rfl 0 (by decide) (hts _ q1196) (fun _ h9 => h9) rfl dX13_drive_23 ?_
        refine lv_bipush (v := 14) hx hb dX13_drive_26 (by decide) ?_
        refine lv_iload_n hx hb dX13_drive_28 rfl (lv_at hl 1 rfl) ?_
        refine lv_iadd hx hb dX13_drive_29 ?_
        by_cases hi7 : xin (14 + a1) 186
        · rw [if_pos hi7] at h
          refine va_iald hx hb hK (xV_p hW xp_187) 0 0 rfl rfl hi7 dX13_drive_30 ?_
          refine lv_istore_n (lv' := [(3, .int (σ 20 ((14 + a1).toNatClampNeg))), (0, .ref (xa E 186)), (1, .int a1), (2, .int a2)]) hx hb dX13_drive_31 rfl hl (by decide) rfl (fun ls hl => ?_)
          refine lv_iconst (v := (-1)) hx hb dX13_drive_32 (by decide) ?_
          refine lv_istore (lv' := [(4, .int (-1)), (3, .int (σ 20 ((14 + a1).toNatClampNeg))), (0, .ref (xa E 186)), (1, .int a1), (2, .int a2)]) hx hb dX13_drive_33 hl (by decide) rfl (fun ls hl => ?_)
          refine lv_ldc (v := 1000000) hx hb hown (hts _ q1457) dX13_drive_35 ?_
          refine lv_istore (lv' := [(5, .int 1000000), (4, .int (-1)), (3, .int (σ 20 ((14 + a1).toNatClampNeg))), (0, .ref (xa E 186)), (1, .int a1), (2, .int a2)]) hx hb dX13_drive_37 hl (by decide) rfl (fun ls hl => ?_)
          refine lv_iconst (v := 0) hx hb dX13_drive_39 (by decide) ?_
          refine lv_istore (lv' := [(6, .int 0), (5, .int 1000000), (4, .int (-1)), (3, .int (σ 20 ((14 + a1).toNatClampNeg))), (0, .ref (xa E 186)), (1, .int a1), (2, .int a2)]) hx hb dX13_drive_40 hl (by decide) rfl (fun ls hl => ?_)
          cases g13 : gX13_drive_42 a1 a2 xfu (-1) 1000000 0 σ with
          | none => rw [g13] at h; cases h
          | some q14 =>
            rw [g13, Option.bind_some] at h
            refine lX13_drive_42 F xfu (-1) 1000000 0 σ q14 g13 _ _ _ hW hS (lv_sub hl [0, 1, 2, 3, 4, 5, 6] rfl) (fun H locs ls hW hS hl => ?_)
            refine lv_aload_n hx hb dX13_drive_100 rfl (lv_at hl 4 rfl) ?_
            refine va_get (D := xD E) (ci := 13) (v := .ref (xa E 187)) (C := RX13) (T := TX13) (N := 24) hx hb hts in_X13 hown hK (xO_M hW) 0 rfl rfl 0 (by decide) (hts _ q1196) (fun _ h9 => h9) rfl dX13_drive_101 ?_
            refine lv_bipush (v := 14) hx hb dX13_drive_104 (by decide) ?_
            refine lv_iload_n hx hb dX13_drive_106 rfl (lv_at hl 5 rfl) ?_
            refine lv_iadd hx hb dX13_drive_107 ?_
            refine lv_iload_n hx hb dX13_drive_108 rfl (lv_at hl 3 rfl) ?_
            by_cases hi15 : xin (14 + a1) 186
            · rw [if_pos hi15] at h
              refine x_iast F hW hS 187 186 20 (fun j => j) xp_187.1 xp_187.2.1 xp_187.2.2.1 xp_187.2.2.2 hi15 dX13_drive_109 (fun H locs hW hS => ?_)
              refine lv_aload_n hx hb dX13_drive_110 rfl (lv_at hl 4 rfl) ?_
              refine lv_iload hx hb dX13_drive_111 (lv_at hl 2 rfl) ?_
              cases g16 : fX13_orNone (xup q14.2.2.2 20 ((14 + a1).toNatClampNeg) (σ 20 ((14 + a1).toNatClampNeg))) q14.1 with
              | none => rw [g16] at h; cases h
              | some r17 =>
                rw [g16, Option.bind_some] at h
                refine x_backi (va_runV (C := RX13) (b := (xa E 186)) (As := [.int q14.1]) (rest := []) F.1 (mX13_orNone l E (xup q14.2.2.2 20 ((14 + a1).toNatClampNeg) (σ 20 ((14 + a1).toNatClampNeg))) q14.1 r17.1 r17.2 g16) (cwV 1 hts (lw_V q1479 q1481 qs77 q115 q1482) rfl rfl rfl (by decide +kernel) ⟨Nat.le_of_ble_eq_true rfl, Nat.le_of_ble_eq_true rfl⟩) ⟨xPc.blind, va_recv hK (xO_M hW) (ci := 13) (q0 := 0) rfl rfl, F.pre hW hS (.ref (xa E 186) :: [.int q14.1])⟩ rfl rfl hl.1 rfl (lv_room (Nat.le_of_ble_eq_true rfl)) dX13_drive_113 ⟨Nat.le_refl _, Nat.le_refl _⟩) hS (fun H locs hW hS => ?_)
                obtain ⟨h1, h2⟩ := Prod.mk.inj (Option.some.inj h); subst h1; subst h2
                exact x_iret F hr hlk hW hS dX13_drive_116
            · rw [if_neg hi15] at h; cases h
        · rw [if_neg hi7] at h; cases h
      · rw [if_pos c6] at h
        refine lv_aload_n hx hb dX13_drive_15 rfl (lv_at hl 0 rfl) ?_
        refine lv_ldc (v := (-1000001)) hx hb hown (hts _ q1279) dX13_drive_16 ?_
        cases g18 : fX13_finding σ (-1000001) with
        | none => rw [g18] at h; cases h
        | some r19 =>
          rw [g18, Option.bind_some] at h
          refine x_backi (va_runV (C := RX13) (b := (xa E 186)) (As := [.int (-1000001)]) (rest := []) F.1 (mX13_finding l E σ (-1000001) r19.1 r19.2 g18) (cwV 1 hts (lw_V q1280 q1282 qs52 q115 q1283) rfl rfl rfl (by decide +kernel) ⟨Nat.le_of_ble_eq_true rfl, Nat.le_of_ble_eq_true rfl⟩) ⟨xPc.blind, va_recv hK (xO_M hW) (ci := 13) (q0 := 0) rfl rfl, F.pre hW hS (.ref (xa E 186) :: [.int (-1000001)])⟩ rfl rfl hl.1 rfl (lv_room (Nat.le_of_ble_eq_true rfl)) dX13_drive_18 ⟨Nat.le_refl _, Nat.le_refl _⟩) hS (fun H locs hW hS => ?_)
          obtain ⟨h1, h2⟩ := Prod.mk.inj (Option.some.inj h); subst h1; subst h2
          exact x_iret F hr hlk hW hS dX13_drive_21
/-! WildBellsModel.kindFor(I)I -/
def gX13_kindFor_30 (b1 : Int32) : Nat → Int32 → Int32 → Int32 → xM → Option (Int32 × Int32 × Int32 × xM)
  | 0, _, _, _, _ => none
  | n + 1, x3, x4, x5, σ => if 6 < x5 then (some (x3, x4, x5, σ)) else (if xin (fX13_at b1 0) 186 then ((fX13_caughtIn (xup σ 20 ((fX13_at b1 0).toNatClampNeg) x5) b1 60).bind (fun r9 => if (fJ3_min 60 r9.1) ≤ x4 then (gX13_kindFor_30 b1 n x3 (fJ3_max x4 (fJ3_min 60 r9.1)) (x5 + 1) r9.2) else (gX13_kindFor_30 b1 n x5 (fJ3_max x4 (fJ3_min 60 r9.1)) (x5 + 1) r9.2))) else none)
def fX13_kindFor (σ : xM) (a1 : Int32) : Option (Int32 × xM) :=
  (fX13_isBell σ a1).bind (fun r2 => if r2 = 0 then ((fX13_finding σ (-1000001)).bind (fun r15 => some (r15.1, r15.2))) else ((fX13_bellIs σ a1 0).bind (fun r5 => (gX13_kindFor_30 a1 xfu (-1) (-1) 0 σ).bind (fun q12 => if xin (fX13_at a1 0) 186 then (some (q12.1, (xup q12.2.2.2 20 ((fX13_at a1 0).toNatClampNeg) r5))) else none))))
set_option maxHeartbeats 4000000 in
theorem lX13_kindFor_30 {p : Program} {l : Launch} {e : Env} {s : State} {m : MethodId} {av : Array Value} {below : List Frame} {meth : Method} {c : Code} {Q : State → Prop} {E : xE} {b1 : Int32} {b2 : Int32} (F : xFx p m c cX13_kindFor 7 s av RX13 E) : ∀ (n : Nat) (x3 : Int32) (x4 : Int32) (x5 : Int32) (σ : xM) (q : (Int32 × Int32 × Int32 × xM)), gX13_kindFor_30 b1 n x3 x4 x5 σ = some q → ∀ (H : Heap) (locs : List Loc) (ls : Array Slot), xW E σ H → va_S (xA E) s.heap H locs → lv_has ls 7 [(5, .int x5), (4, .int x4), (3, .int x3), (2, .int b2), (0, .ref (xa E 186)), (1, .int b1)] → (∀ (H : Heap) (locs : List Loc) (ls : Array Slot), xW E q.2.2.2 H → va_S (xA E) s.heap H locs → lv_has ls 7 [(5, .int q.2.2.1), (4, .int q.2.1), (3, .int q.1), (2, .int b2), (0, .ref (xa E 186)), (1, .int b1)] → W p l e ({ frames := 8, cells := 0, slots := 0, locals := 190 } : Room) s m av below meth c H locs 0 0 Q (F0 m 92 ls [])) → W p l e ({ frames := 8, cells := 0, slots := 0, locals := 190 } : Room) s m av below meth c H locs 0 0 Q (F0 m 30 ls []) := by
  obtain ⟨hx, hb, hml, hown, hts⟩ := id F.1
  have hK := F.2.1.1
  intro n
  induction n with
  | zero =>
    intro x3 x4 x5 σ q h
    cases h
  | succ n ih =>
    intro x3 x4 x5 σ q h H locs ls hW hS hl kk
    rw [gX13_kindFor_30] at h
    refine lv_iload hx hb dX13_kindFor_30 (lv_at hl 0 rfl) ?_
    refine lv_bipush (v := 6) hx hb dX13_kindFor_32 (by decide) ?_
    refine lv_icmp_gt (tgt := 92) hx hb dX13_kindFor_34 (by decide) (fun c6 => ?_) (fun c6 => ?_)
    · rw [if_pos c6] at h
      have h := Option.some.inj h; subst h
      exact kk _ _ _ hW hS (lv_sub hl [0, 1, 2, 3, 4, 5] rfl)
    · rw [if_neg c6] at h
      refine lv_aload_n hx hb dX13_kindFor_37 rfl (lv_at hl 4 rfl) ?_
      refine va_get (D := xD E) (ci := 13) (v := .ref (xa E 187)) (C := RX13) (T := TX13) (N := 24) hx hb hts in_X13 hown hK (xO_M hW) 0 rfl rfl 0 (by decide) (hts _ q1196) (fun _ h9 => h9) rfl dX13_kindFor_38 ?_
      refine lv_iload_n hx hb dX13_kindFor_41 rfl (lv_at hl 5 rfl) ?_
      refine lv_iconst (v := 0) hx hb dX13_kindFor_42 (by decide) ?_
      refine x_backi (va_runS (As := [.int b1, .int 0]) (rest := [.ref (xa E 187)]) F.1 (mX13_at l E σ b1 0) (va_cwS 2 hts (lw_S q1315 q1316 q115 q1317) rfl rfl rfl (by decide +kernel) ⟨Nat.le_of_ble_eq_true rfl, Nat.le_of_ble_eq_true rfl⟩) ⟨xPc.blind, F.pre hW hS [.int b1, .int 0]⟩ rfl rfl hl.1 rfl (lv_room (Nat.le_of_ble_eq_true rfl)) dX13_kindFor_43 ⟨Nat.le_refl _, Nat.le_refl _⟩) hS (fun H locs hW hS => ?_)
      refine lv_iload hx hb dX13_kindFor_46 (lv_at hl 0 rfl) ?_
      by_cases hi7 : xin (fX13_at b1 0) 186
      · rw [if_pos hi7] at h
        refine x_iast F hW hS 187 186 20 (fun j => j) xp_187.1 xp_187.2.1 xp_187.2.2.1 xp_187.2.2.2 hi7 dX13_kindFor_48 (fun H locs hW hS => ?_)
        refine lv_bipush (v := 60) hx hb dX13_kindFor_49 (by decide) ?_
        refine lv_aload_n hx hb dX13_kindFor_51 rfl (lv_at hl 4 rfl) ?_
        refine lv_iload_n hx hb dX13_kindFor_52 rfl (lv_at hl 5 rfl) ?_
        refine lv_bipush (v := 60) hx hb dX13_kindFor_53 (by decide) ?_
        cases g8 : fX13_caughtIn (xup σ 20 ((fX13_at b1 0).toNatClampNeg) x5) b1 60 with
        | none => rw [g8] at h; cases h
        | some r9 =>
          rw [g8, Option.bind_some] at h
          refine x_backi (va_runV (C := RX13) (b := (xa E 186)) (As := [.int b1, .int 60]) (rest := [.int 60]) F.1 (mX13_caughtIn l E (xup σ 20 ((fX13_at b1 0).toNatClampNeg) x5) b1 60 r9.1 r9.2 g8) (cwV 2 hts (lw_V q1453 q1455 qs74 q115 q1456) rfl rfl rfl (by decide +kernel) ⟨Nat.le_of_ble_eq_true rfl, Nat.le_of_ble_eq_true rfl⟩) ⟨xPc.blind, va_recv hK (xO_M hW) (ci := 13) (q0 := 0) rfl rfl, F.pre hW hS (.ref (xa E 186) :: [.int b1, .int 60])⟩ rfl rfl hl.1 rfl (lv_room (Nat.le_of_ble_eq_true rfl)) dX13_kindFor_55 ⟨Nat.le_refl _, Nat.le_refl _⟩) hS (fun H locs hW hS => ?_)
          refine x_backi (va_runS (As := [.int 60, .int r9.1]) (rest := []) F.1 (mJ3_min l E r9.2 60 r9.1) (va_cwS 2 hts (lw_S q1342 q597 q116 q598) rfl rfl rfl (by decide +kernel) ⟨Nat.le_of_ble_eq_true rfl, Nat.le_of_ble_eq_true rfl⟩) ⟨xPc.blind, F.pre hW hS [.int 60, .int r9.1]⟩ rfl rfl hl.1 rfl (lv_room (Nat.le_of_ble_eq_true rfl)) dX13_kindFor_58 ⟨Nat.le_refl _, Nat.le_refl _⟩) hS (fun H locs hW hS => ?_)
          refine lv_istore (lv' := [(6, .int (fJ3_min 60 r9.1)), (5, .int x5), (4, .int x4), (3, .int x3), (2, .int b2), (0, .ref (xa E 186)), (1, .int b1)]) hx hb dX13_kindFor_61 hl (by decide) rfl (fun ls hl => ?_)
          refine lv_iload hx hb dX13_kindFor_63 (lv_at hl 0 rfl) ?_
          refine lv_iload hx hb dX13_kindFor_65 (lv_at hl 2 rfl) ?_
          refine lv_icmp_le (tgt := 75) hx hb dX13_kindFor_67 (by decide) (fun c10 => ?_) (fun c10 => ?_)
          · rw [if_pos c10] at h
            refine lv_iload_n hx hb dX13_kindFor_75 rfl (lv_at hl 3 rfl) ?_
            refine lv_istore_n (lv' := [(3, .int x3), (6, .int (fJ3_min 60 r9.1)), (5, .int x5), (4, .int x4), (2, .int b2), (0, .ref (xa E 186)), (1, .int b1)]) hx hb dX13_kindFor_76 rfl hl (by decide) rfl (fun ls hl => ?_)
            refine lv_iload hx hb dX13_kindFor_77 (lv_at hl 3 rfl) ?_
            refine lv_iload hx hb dX13_kindFor_79 (lv_at hl 1 rfl) ?_
            refine x_backi (va_runS (As := [.int x4, .int (fJ3_min 60 r9.1)]) (rest := []) F.1 (mJ3_max l E r9.2 x4 (fJ3_min 60 r9.1)) (va_cwS 2 hts (lw_S q1357 q504 q116 q505) rfl rfl rfl (by decide +kernel) ⟨Nat.le_of_ble_eq_true rfl, Nat.le_of_ble_eq_true rfl⟩) ⟨xPc.blind, F.pre hW hS [.int x4, .int (fJ3_min 60 r9.1)]⟩ rfl rfl hl.1 rfl (lv_room (Nat.le_of_ble_eq_true rfl)) dX13_kindFor_81 ⟨Nat.le_refl _, Nat.le_refl _⟩) hS (fun H locs hW hS => ?_)
            refine lv_istore (lv' := [(4, .int (fJ3_max x4 (fJ3_min 60 r9.1))), (3, .int x3), (6, .int (fJ3_min 60 r9.1)), (5, .int x5), (2, .int b2), (0, .ref (xa E 186)), (1, .int b1)]) hx hb dX13_kindFor_84 hl (by decide) rfl (fun ls hl => ?_)
            refine lv_iinc (k := 3) (v := (x5 + 1)) (lv' := [(5, .int (x5 + 1)), (4, .int (fJ3_max x4 (fJ3_min 60 r9.1))), (3, .int x3), (6, .int (fJ3_min 60 r9.1)), (2, .int b2), (0, .ref (xa E 186)), (1, .int b1)]) hx hb dX13_kindFor_86 hl rfl rfl (by decide) rfl (fun ls hl => ?_)
            refine lv_goto (tgt := 30) hx hb dX13_kindFor_89 (by decide) ?_
            exact ih x3 (fJ3_max x4 (fJ3_min 60 r9.1)) (x5 + 1) r9.2 _ h _ _ _ hW hS (lv_sub hl [0, 1, 2, 4, 5, 6] rfl) kk
          · rw [if_neg c10] at h
            refine lv_iload hx hb dX13_kindFor_70 (lv_at hl 1 rfl) ?_
            refine lv_goto (tgt := 76) hx hb dX13_kindFor_72 (by decide) ?_
            refine lv_istore_n (lv' := [(3, .int x5), (6, .int (fJ3_min 60 r9.1)), (5, .int x5), (4, .int x4), (2, .int b2), (0, .ref (xa E 186)), (1, .int b1)]) hx hb dX13_kindFor_76 rfl hl (by decide) rfl (fun ls hl => ?_)
            refine lv_iload hx hb dX13_kindFor_77 (lv_at hl 3 rfl) ?_
            refine lv_iload hx hb dX13_kindFor_79 (lv_at hl 1 rfl) ?_
            refine x_backi (va_runS (As := [.int x4, .int (fJ3_min 60 r9.1)]) (rest := []) F.1 (mJ3_max l E r9.2 x4 (fJ3_min 60 r9.1)) (va_cwS 2 hts (lw_S q1357 q504 q116 q505) rfl rfl rfl (by decide +kernel) ⟨Nat.le_of_ble_eq_true rfl, Nat.le_of_ble_eq_true rfl⟩) ⟨xPc.blind, F.pre hW hS [.int x4, .int (fJ3_min 60 r9.1)]⟩ rfl rfl hl.1 rfl (lv_room (Nat.le_of_ble_eq_true rfl)) dX13_kindFor_81 ⟨Nat.le_refl _, Nat.le_refl _⟩) hS (fun H locs hW hS => ?_)
            refine lv_istore (lv' := [(4, .int (fJ3_max x4 (fJ3_min 60 r9.1))), (3, .int x5), (6, .int (fJ3_min 60 r9.1)), (5, .int x5), (2, .int b2), (0, .ref (xa E 186)), (1, .int b1)]) hx hb dX13_kindFor_84 hl (by decide) rfl (fun ls hl => ?_)
            refine lv_iinc (k := 3) (v := (x5 + 1)) (lv' := [(5, .int (x5 + 1)), (4, .int (fJ3_max x4 (fJ3_min 60 r9.1))), (3, .int x5), (6, .int (fJ3_min 60 r9.1)), (2, .int b2), (0, .ref (xa E 186)), (1, .int b1)]) hx hb dX13_kindFor_86 hl rfl rfl (by decide) rfl (fun ls hl => ?_)
            refine lv_goto (tgt := 30) hx hb dX13_kindFor_89 (by decide) ?_
            exact ih x5 (fJ3_max x4 (fJ3_min 60 r9.1)) (x5 + 1) r9.2 _ h _ _ _ hW hS (lv_sub hl [0, 1, 2, 4, 5, 6] rfl) kk
      · rw [if_neg hi7] at h; cases h
set_option maxHeartbeats 4000000 in
theorem mX13_kindFor (l : Launch) (E : xE) (σ : xM) (a1 : Int32) (r : Int32) (σ' : xM) (h : fX13_kindFor σ a1 = some (r, σ')) : Met l yX13_kindFor (ws_ yX13_kindFor cX13_kindFor 7 (some .int)) ({ frames := 8, cells := 0, slots := 0, locals := 190 } : Room) (xPc E σ [.ref (xa E 186), .int a1]) (xQc E (.returned (some (.int r))) σ') 0 0 (xA E) := by
  refine x_of (C := RX13) (n := "kindFor") (d := "(I)I") (r := (some .int)) (by decide) rfl (by first | decide | exact Nat.le_of_ble_eq_true rfl) ?_
  intro p e s m below meth c ls F hr hlk hW hS hl
  have hl : lv_has ls 7 [(0, .ref (xa E 186)), (1, .int a1)] := hl
  obtain ⟨hx, hb, hml, hown, hts⟩ := id F.1
  have hK := F.2.1.1
  unfold fX13_kindFor at h
  refine lv_aload_n hx hb dX13_kindFor_0 rfl (lv_at hl 0 rfl) ?_
  refine lv_iload_n hx hb dX13_kindFor_1 rfl (lv_at hl 1 rfl) ?_
  cases g1 : fX13_isBell σ a1 with
  | none => rw [g1] at h; cases h
  | some r2 =>
    rw [g1, Option.bind_some] at h
    refine x_backi (va_runV (C := RX13) (b := (xa E 186)) (As := [.int a1]) (rest := []) F.1 (mX13_isBell l E σ a1 r2 g1) (cwV 1 hts (lw_V q1322 q1324 qs55 q115 q1325) rfl rfl rfl (by decide +kernel) ⟨Nat.le_of_ble_eq_true rfl, Nat.le_of_ble_eq_true rfl⟩) ⟨xPc.blind, va_recv hK (xO_M hW) (ci := 13) (q0 := 0) rfl rfl, F.pre hW hS (.ref (xa E 186) :: [.int a1])⟩ rfl rfl hl.1 rfl (lv_room (Nat.le_of_ble_eq_true rfl)) dX13_kindFor_2 ⟨Nat.le_refl _, Nat.le_refl _⟩) hS (fun H locs hW hS => ?_)
    refine lv_if_ne (tgt := 15) hx hb dX13_kindFor_5 (by decide) (fun c3 => ?_) (fun c3 => ?_)
    · rw [if_neg c3] at h
      refine lv_aload_n hx hb dX13_kindFor_15 rfl (lv_at hl 0 rfl) ?_
      refine lv_iload_n hx hb dX13_kindFor_16 rfl (lv_at hl 1 rfl) ?_
      refine lv_iconst (v := 0) hx hb dX13_kindFor_17 (by decide) ?_
      cases g4 : fX13_bellIs σ a1 0 with
      | none => rw [g4] at h; cases h
      | some r5 =>
        rw [g4, Option.bind_some] at h
        refine x_backi (va_runV (C := RX13) (b := (xa E 186)) (As := [.int a1, .int 0]) (rest := []) F.1 (mX13_bellIs l E σ a1 0 r5 g4) (cwV 2 hts (lw_V q1326 q1328 qs56 q115 q1329) rfl rfl rfl (by decide +kernel) ⟨Nat.le_of_ble_eq_true rfl, Nat.le_of_ble_eq_true rfl⟩) ⟨xPc.blind, va_recv hK (xO_M hW) (ci := 13) (q0 := 0) rfl rfl, F.pre hW hS (.ref (xa E 186) :: [.int a1, .int 0])⟩ rfl rfl hl.1 rfl (lv_room (Nat.le_of_ble_eq_true rfl)) dX13_kindFor_18 ⟨Nat.le_refl _, Nat.le_refl _⟩) hS (fun H locs hW hS => ?_)
        refine lv_istore_n (lv' := [(2, .int r5), (0, .ref (xa E 186)), (1, .int a1)]) hx hb dX13_kindFor_21 rfl hl (by decide) rfl (fun ls hl => ?_)
        refine lv_iconst (v := (-1)) hx hb dX13_kindFor_22 (by decide) ?_
        refine lv_istore_n (lv' := [(3, .int (-1)), (2, .int r5), (0, .ref (xa E 186)), (1, .int a1)]) hx hb dX13_kindFor_23 rfl hl (by decide) rfl (fun ls hl => ?_)
        refine lv_iconst (v := (-1)) hx hb dX13_kindFor_24 (by decide) ?_
        refine lv_istore (lv' := [(4, .int (-1)), (3, .int (-1)), (2, .int r5), (0, .ref (xa E 186)), (1, .int a1)]) hx hb dX13_kindFor_25 hl (by decide) rfl (fun ls hl => ?_)
        refine lv_iconst (v := 0) hx hb dX13_kindFor_27 (by decide) ?_
        refine lv_istore (lv' := [(5, .int 0), (4, .int (-1)), (3, .int (-1)), (2, .int r5), (0, .ref (xa E 186)), (1, .int a1)]) hx hb dX13_kindFor_28 hl (by decide) rfl (fun ls hl => ?_)
        cases g11 : gX13_kindFor_30 a1 xfu (-1) (-1) 0 σ with
        | none => rw [g11] at h; cases h
        | some q12 =>
          rw [g11, Option.bind_some] at h
          refine lX13_kindFor_30 F xfu (-1) (-1) 0 σ q12 g11 _ _ _ hW hS (lv_sub hl [0, 1, 2, 3, 4, 5] rfl) (fun H locs ls hW hS hl => ?_)
          refine lv_aload_n hx hb dX13_kindFor_92 rfl (lv_at hl 4 rfl) ?_
          refine va_get (D := xD E) (ci := 13) (v := .ref (xa E 187)) (C := RX13) (T := TX13) (N := 24) hx hb hts in_X13 hown hK (xO_M hW) 0 rfl rfl 0 (by decide) (hts _ q1196) (fun _ h9 => h9) rfl dX13_kindFor_93 ?_
          refine lv_iload_n hx hb dX13_kindFor_96 rfl (lv_at hl 5 rfl) ?_
          refine lv_iconst (v := 0) hx hb dX13_kindFor_97 (by decide) ?_
          refine x_backi (va_runS (As := [.int a1, .int 0]) (rest := [.ref (xa E 187)]) F.1 (mX13_at l E q12.2.2.2 a1 0) (va_cwS 2 hts (lw_S q1315 q1316 q115 q1317) rfl rfl rfl (by decide +kernel) ⟨Nat.le_of_ble_eq_true rfl, Nat.le_of_ble_eq_true rfl⟩) ⟨xPc.blind, F.pre hW hS [.int a1, .int 0]⟩ rfl rfl hl.1 rfl (lv_room (Nat.le_of_ble_eq_true rfl)) dX13_kindFor_98 ⟨Nat.le_refl _, Nat.le_refl _⟩) hS (fun H locs hW hS => ?_)
          refine lv_iload_n hx hb dX13_kindFor_101 rfl (lv_at hl 3 rfl) ?_
          by_cases hi13 : xin (fX13_at a1 0) 186
          · rw [if_pos hi13] at h
            refine x_iast F hW hS 187 186 20 (fun j => j) xp_187.1 xp_187.2.1 xp_187.2.2.1 xp_187.2.2.2 hi13 dX13_kindFor_102 (fun H locs hW hS => ?_)
            refine lv_iload_n hx hb dX13_kindFor_103 rfl (lv_at hl 2 rfl) ?_
            obtain ⟨h1, h2⟩ := Prod.mk.inj (Option.some.inj h); subst h1; subst h2
            exact x_iret F hr hlk hW hS dX13_kindFor_104
          · rw [if_neg hi13] at h; cases h
    · rw [if_pos c3] at h
      refine lv_aload_n hx hb dX13_kindFor_8 rfl (lv_at hl 0 rfl) ?_
      refine lv_ldc (v := (-1000001)) hx hb hown (hts _ q1279) dX13_kindFor_9 ?_
      cases g14 : fX13_finding σ (-1000001) with
      | none => rw [g14] at h; cases h
      | some r15 =>
        rw [g14, Option.bind_some] at h
        refine x_backi (va_runV (C := RX13) (b := (xa E 186)) (As := [.int (-1000001)]) (rest := []) F.1 (mX13_finding l E σ (-1000001) r15.1 r15.2 g14) (cwV 1 hts (lw_V q1280 q1282 qs52 q115 q1283) rfl rfl rfl (by decide +kernel) ⟨Nat.le_of_ble_eq_true rfl, Nat.le_of_ble_eq_true rfl⟩) ⟨xPc.blind, va_recv hK (xO_M hW) (ci := 13) (q0 := 0) rfl rfl, F.pre hW hS (.ref (xa E 186) :: [.int (-1000001)])⟩ rfl rfl hl.1 rfl (lv_room (Nat.le_of_ble_eq_true rfl)) dX13_kindFor_11 ⟨Nat.le_refl _, Nat.le_refl _⟩) hS (fun H locs hW hS => ?_)
        obtain ⟨h1, h2⟩ := Prod.mk.inj (Option.some.inj h); subst h1; subst h2
        exact x_iret F hr hlk hW hS dX13_kindFor_14
/-! WildBellsModel.isSheet(I)Z -/
def fX13_isSheet (a0 : Int32) : Int32 :=
  (fX13_within a0 0 3)
theorem bX13_isSheet (a0 : Int32) : narrow .boolean (.int (fX13_isSheet a0)) = .int (fX13_isSheet a0) := by
  unfold fX13_isSheet
  first
    | (repeat' split) <;> rfl
    | exact bX0_in _ _ _
    | exact bX13_within _ _ _
    | ((repeat' split) <;> first | rfl | exact bX0_in _ _ _ | exact bX0_isKind _ | exact bX0_isCell _ | exact bX0_isWeight _)
    | ((repeat' split) <;> first | rfl | exact bX13_within _ _ _ | exact bX13_isKind _ | exact bX13_isCell _)
set_option maxHeartbeats 4000000 in
theorem mX13_isSheet (l : Launch) (E : xE) (σ : xM) (a0 : Int32) : Met l yX13_isSheet (ws_ yX13_isSheet cX13_isSheet 1 (some .boolean)) ({ frames := 1, cells := 0, slots := 0, locals := 22 } : Room) (xPc E σ [.int a0]) (xQc E (.returned (some (.int (fX13_isSheet a0)))) σ) 0 0 (xA E) := by
  refine x_of (C := RX13) (n := "isSheet") (d := "(I)Z") (r := (some .boolean)) (by decide) rfl (by first | decide | exact Nat.le_of_ble_eq_true rfl) ?_
  intro p e s m below meth c ls F hr hlk hW hS hl
  have hl : lv_has ls 1 [(0, .int a0)] := hl
  obtain ⟨hx, hb, hml, hown, hts⟩ := id F.1
  have hK := F.2.1.1
  obtain ⟨r, h⟩ : ∃ r, fX13_isSheet a0 = r := ⟨_, rfl⟩
  rw [h]
  unfold fX13_isSheet at h
  refine lv_iload_n hx hb dX13_isSheet_0 rfl (lv_at hl 0 rfl) ?_
  refine lv_iconst (v := 0) hx hb dX13_isSheet_1 (by decide) ?_
  refine lv_iconst (v := 3) hx hb dX13_isSheet_2 (by decide) ?_
  refine x_backi (va_runS (As := [.int a0, .int 0, .int 3]) (rest := []) F.1 (mX13_within l E σ a0 0 3) (va_cwS 3 hts (lw_S q1276 q1277 q115 q1278) rfl rfl rfl (by decide +kernel) ⟨Nat.le_of_ble_eq_true rfl, Nat.le_of_ble_eq_true rfl⟩) ⟨xPc.blind, F.pre hW hS [.int a0, .int 0, .int 3]⟩ rfl rfl hl.1 rfl (lv_room (Nat.le_of_ble_eq_true rfl)) dX13_isSheet_3 ⟨Nat.le_refl _, Nat.le_refl _⟩) hS (fun H locs hW hS => ?_)
  subst h
  exact x_zret F hr hlk hW hS (by first | exact bX13_within _ _ _ | rfl) dX13_isSheet_6
/-! WildBellsModel.lacks(I)I -/
def fX13_lacks (σ : xM) (a1 : Int32) : Option Int32 :=
  if (fX13_isSheet a1) = 0 then (some (-1000001)) else (if xin a1 4 then (if (σ 28 (a1.toNatClampNeg)) = 0 then (some (-1000006)) else (some 0)) else none)
set_option maxHeartbeats 4000000 in
theorem mX13_lacks (l : Launch) (E : xE) (σ : xM) (a1 : Int32) (r : Int32) (h : fX13_lacks σ a1 = some r) : Met l yX13_lacks (ws_ yX13_lacks cX13_lacks 2 (some .int)) ({ frames := 2, cells := 0, slots := 0, locals := 42 } : Room) (xPc E σ [.ref (xa E 186), .int a1]) (xQc E (.returned (some (.int r))) σ) 0 0 (xA E) := by
  refine x_of (C := RX13) (n := "lacks") (d := "(I)I") (r := (some .int)) (by decide) rfl (by first | decide | exact Nat.le_of_ble_eq_true rfl) ?_
  intro p e s m below meth c ls F hr hlk hW hS hl
  have hl : lv_has ls 2 [(0, .ref (xa E 186)), (1, .int a1)] := hl
  obtain ⟨hx, hb, hml, hown, hts⟩ := id F.1
  have hK := F.2.1.1
  unfold fX13_lacks at h
  refine lv_iload_n hx hb dX13_lacks_0 rfl (lv_at hl 1 rfl) ?_
  refine x_backi (va_runS (As := [.int a1]) (rest := []) F.1 (mX13_isSheet l E σ a1) (va_cwS 1 hts (lw_S q1507 q1508 q115 q1509) rfl rfl rfl (by decide +kernel) ⟨Nat.le_of_ble_eq_true rfl, Nat.le_of_ble_eq_true rfl⟩) ⟨xPc.blind, F.pre hW hS [.int a1]⟩ rfl rfl hl.1 rfl (lv_room (Nat.le_of_ble_eq_true rfl)) dX13_lacks_1 ⟨Nat.le_refl _, Nat.le_refl _⟩) hS (fun H locs hW hS => ?_)
  refine lv_if_ne (tgt := 12) hx hb dX13_lacks_4 (by decide) (fun c1 => ?_) (fun c1 => ?_)
  · rw [if_neg c1] at h
    refine lv_aload_n hx hb dX13_lacks_12 rfl (lv_at hl 0 rfl) ?_
    refine va_get (D := xD E) (ci := 13) (v := .ref (xa E 197)) (C := RX13) (T := TX13) (N := 24) hx hb hts in_X13 hown hK (xO_M hW) 0 rfl rfl 20 (by decide) (hts _ q1216) (fun _ h9 => h9) rfl dX13_lacks_13 ?_
    refine lv_iload_n hx hb dX13_lacks_16 rfl (lv_at hl 1 rfl) ?_
    by_cases hi2 : xin a1 4
    · rw [if_pos hi2] at h
      refine va_iald hx hb hK (xV_p hW xp_197) 0 0 rfl rfl hi2 dX13_lacks_17 ?_
      refine lv_if_ne (tgt := 26) hx hb dX13_lacks_18 (by decide) (fun c3 => ?_) (fun c3 => ?_)
      · rw [if_neg c3] at h
        refine lv_iconst (v := 0) hx hb dX13_lacks_26 (by decide) ?_
        have h := Option.some.inj h; subst h
        exact x_iret F hr hlk hW hS dX13_lacks_27
      · rw [if_pos c3] at h
        refine lv_ldc (v := (-1000006)) hx hb hown (hts _ q1510) dX13_lacks_21 ?_
        refine lv_goto (tgt := 27) hx hb dX13_lacks_23 (by decide) ?_
        have h := Option.some.inj h; subst h
        exact x_iret F hr hlk hW hS dX13_lacks_27
    · rw [if_neg hi2] at h; cases h
  · rw [if_pos c1] at h
    refine lv_ldc (v := (-1000001)) hx hb hown (hts _ q1279) dX13_lacks_7 ?_
    refine lv_goto (tgt := 27) hx hb dX13_lacks_9 (by decide) ?_
    have h := Option.some.inj h; subst h
    exact x_iret F hr hlk hW hS dX13_lacks_27
/-! WildBellsModel.earOf(II)I -/
def fX13_earOf (σ : xM) (a1 : Int32) (a2 : Int32) : Option Int32 :=
  if xin ((40 * a1) + (2 * a2)) 160 then (some (σ 30 (((40 * a1) + (2 * a2)).toNatClampNeg))) else none
set_option maxHeartbeats 4000000 in
theorem mX13_earOf (l : Launch) (E : xE) (σ : xM) (a1 : Int32) (a2 : Int32) (r : Int32) (h : fX13_earOf σ a1 a2 = some r) : Met l yX13_earOf (ws_ yX13_earOf cX13_earOf 3 (some .int)) ({ frames := 0, cells := 0, slots := 0, locals := 0 } : Room) (xPc E σ [.ref (xa E 186), .int a1, .int a2]) (xQc E (.returned (some (.int r))) σ) 0 0 (xA E) := by
  refine x_of (C := RX13) (n := "earOf") (d := "(II)I") (r := (some .int)) (by decide) rfl (by first | decide | exact Nat.le_of_ble_eq_true rfl) ?_
  intro p e s m below meth c ls F hr hlk hW hS hl
  have hl : lv_has ls 3 [(0, .ref (xa E 186)), (1, .int a1), (2, .int a2)] := hl
  obtain ⟨hx, hb, hml, hown, hts⟩ := id F.1
  have hK := F.2.1.1
  unfold fX13_earOf at h
  refine lv_aload_n hx hb dX13_earOf_0 rfl (lv_at hl 0 rfl) ?_
  refine va_get (D := xD E) (ci := 13) (v := .ref (xa E 199)) (C := RX13) (T := TX13) (N := 24) hx hb hts in_X13 hown hK (xO_M hW) 0 rfl rfl 22 (by decide) (hts _ q1218) (fun _ h9 => h9) rfl dX13_earOf_1 ?_
  refine lv_bipush (v := 40) hx hb dX13_earOf_4 (by decide) ?_
  refine lv_iload_n hx hb dX13_earOf_6 rfl (lv_at hl 1 rfl) ?_
  refine lv_imul hx hb dX13_earOf_7 ?_
  refine lv_iconst (v := 2) hx hb dX13_earOf_8 (by decide) ?_
  refine lv_iload_n hx hb dX13_earOf_9 rfl (lv_at hl 2 rfl) ?_
  refine lv_imul hx hb dX13_earOf_10 ?_
  refine lv_iadd hx hb dX13_earOf_11 ?_
  by_cases hi1 : xin ((40 * a1) + (2 * a2)) 160
  · rw [if_pos hi1] at h
    refine va_iald hx hb hK (xV_p hW xp_199) 0 0 rfl rfl hi1 dX13_earOf_12 ?_
    have h := Option.some.inj h; subst h
    exact x_iret F hr hlk hW hS dX13_earOf_13
  · rw [if_neg hi1] at h; cases h
/-! WildBellsModel.ears(I)I -/
def fX13_ears (σ : xM) (a1 : Int32) : Option Int32 :=
  if xin a1 4 then (some ((σ 29 (a1.toNatClampNeg)) / 2)) else none
set_option maxHeartbeats 4000000 in
theorem mX13_ears (l : Launch) (E : xE) (σ : xM) (a1 : Int32) (r : Int32) (h : fX13_ears σ a1 = some r) : Met l yX13_ears (ws_ yX13_ears cX13_ears 2 (some .int)) ({ frames := 0, cells := 0, slots := 0, locals := 0 } : Room) (xPc E σ [.ref (xa E 186), .int a1]) (xQc E (.returned (some (.int r))) σ) 0 0 (xA E) := by
  refine x_of (C := RX13) (n := "ears") (d := "(I)I") (r := (some .int)) (by decide) rfl (by first | decide | exact Nat.le_of_ble_eq_true rfl) ?_
  intro p e s m below meth c ls F hr hlk hW hS hl
  have hl : lv_has ls 2 [(0, .ref (xa E 186)), (1, .int a1)] := hl
  obtain ⟨hx, hb, hml, hown, hts⟩ := id F.1
  have hK := F.2.1.1
  unfold fX13_ears at h
  refine lv_aload_n hx hb dX13_ears_0 rfl (lv_at hl 0 rfl) ?_
  refine va_get (D := xD E) (ci := 13) (v := .ref (xa E 198)) (C := RX13) (T := TX13) (N := 24) hx hb hts in_X13 hown hK (xO_M hW) 0 rfl rfl 21 (by decide) (hts _ q1217) (fun _ h9 => h9) rfl dX13_ears_1 ?_
  refine lv_iload_n hx hb dX13_ears_4 rfl (lv_at hl 1 rfl) ?_
  by_cases hi1 : xin a1 4
  · rw [if_pos hi1] at h
    refine va_iald hx hb hK (xV_p hW xp_198) 0 0 rfl rfl hi1 dX13_ears_5 ?_
    refine lv_iconst (v := 2) hx hb dX13_ears_6 (by decide) ?_
    refine lv_idiv hx hb dX13_ears_7 (by decide) ?_
    have h := Option.some.inj h; subst h
    exact x_iret F hr hlk hW hS dX13_ears_8
  · rw [if_neg hi1] at h; cases h
/-! WildBellsModel.areEars(I)Z -/
def gX13_areEars_4 (σ : xM) (b1 : Int32) : Nat → Int32 → Int32 → Option (Int32 × Int32)
  | 0, _, _ => none
  | n + 1, x2, x3 => (fX13_ears σ b1).bind (fun r2 => if r2 ≤ x3 then (some (x2, x3)) else (if x2 = 0 then (gX13_areEars_4 σ b1 n 0 (x3 + 1)) else ((fX13_earOf σ b1 x3).bind (fun r6 => if (fX13_isCell r6) = 0 then (gX13_areEars_4 σ b1 n 0 (x3 + 1)) else (gX13_areEars_4 σ b1 n 1 (x3 + 1))))))
def fX13_areEars (σ : xM) (a1 : Int32) : Option Int32 :=
  (gX13_areEars_4 σ a1 xfu 1 0).bind (fun q9 => if q9.1 = 0 ∨ q9.1 = 1 then (some q9.1) else none)
set_option maxHeartbeats 4000000 in
theorem lX13_areEars_4 {p : Program} {l : Launch} {e : Env} {s : State} {m : MethodId} {av : Array Value} {below : List Frame} {meth : Method} {c : Code} {Q : State → Prop} {E : xE} {σ : xM} {b1 : Int32} (F : xFx p m c cX13_areEars 4 s av RX13 E) : ∀ (n : Nat) (x2 : Int32) (x3 : Int32) (q : (Int32 × Int32)), gX13_areEars_4 σ b1 n x2 x3 = some q → ∀ (H : Heap) (locs : List Loc) (ls : Array Slot), xW E σ H → va_S (xA E) s.heap H locs → lv_has ls 4 [(3, .int x3), (2, .int x2), (0, .ref (xa E 186)), (1, .int b1)] → (∀ (H : Heap) (locs : List Loc) (ls : Array Slot), xW E σ H → va_S (xA E) s.heap H locs → lv_has ls 4 [(3, .int q.2), (2, .int q.1), (0, .ref (xa E 186)), (1, .int b1)] → W p l e ({ frames := 2, cells := 0, slots := 0, locals := 42 } : Room) s m av below meth c H locs 0 0 Q (F0 m 41 ls [])) → W p l e ({ frames := 2, cells := 0, slots := 0, locals := 42 } : Room) s m av below meth c H locs 0 0 Q (F0 m 4 ls []) := by
  obtain ⟨hx, hb, hml, hown, hts⟩ := id F.1
  have hK := F.2.1.1
  intro n
  induction n with
  | zero =>
    intro x2 x3 q h
    cases h
  | succ n ih =>
    intro x2 x3 q h H locs ls hW hS hl kk
    rw [gX13_areEars_4] at h
    refine lv_iload_n hx hb dX13_areEars_4 rfl (lv_at hl 0 rfl) ?_
    refine lv_aload_n hx hb dX13_areEars_5 rfl (lv_at hl 2 rfl) ?_
    refine lv_iload_n hx hb dX13_areEars_6 rfl (lv_at hl 3 rfl) ?_
    cases g1 : fX13_ears σ b1 with
    | none => rw [g1] at h; cases h
    | some r2 =>
      rw [g1, Option.bind_some] at h
      refine x_backi (va_runV (C := RX13) (b := (xa E 186)) (As := [.int b1]) (rest := [.int x3]) F.1 (mX13_ears l E σ b1 r2 g1) (cwV 1 hts (lw_V q1515 q1517 qs81 q115 q1518) rfl rfl rfl (by decide +kernel) ⟨Nat.le_of_ble_eq_true rfl, Nat.le_of_ble_eq_true rfl⟩) ⟨xPc.blind, va_recv hK (xO_M hW) (ci := 13) (q0 := 0) rfl rfl, F.pre hW hS (.ref (xa E 186) :: [.int b1])⟩ rfl rfl hl.1 rfl (lv_room (Nat.le_of_ble_eq_true rfl)) dX13_areEars_7 ⟨Nat.le_refl _, Nat.le_refl _⟩) hS (fun H locs hW hS => ?_)
      refine lv_icmp_ge (tgt := 41) hx hb dX13_areEars_10 (by decide) (fun c3 => ?_) (fun c3 => ?_)
      · rw [if_pos c3] at h
        have h := Option.some.inj h; subst h
        exact kk _ _ _ hW hS (lv_sub hl [0, 1, 2, 3] rfl)
      · rw [if_neg c3] at h
        refine lv_iload_n hx hb dX13_areEars_13 rfl (lv_at hl 1 rfl) ?_
        refine lv_if_eq (tgt := 33) hx hb dX13_areEars_14 (by decide) (fun c4 => ?_) (fun c4 => ?_)
        · rw [if_pos c4] at h
          refine lv_iconst (v := 0) hx hb dX13_areEars_33 (by decide) ?_
          refine lv_istore_n (lv' := [(2, .int 0), (3, .int x3), (0, .ref (xa E 186)), (1, .int b1)]) hx hb dX13_areEars_34 rfl hl (by decide) rfl (fun ls hl => ?_)
          refine lv_iinc (k := 1) (v := (x3 + 1)) (lv' := [(3, .int (x3 + 1)), (2, .int 0), (0, .ref (xa E 186)), (1, .int b1)]) hx hb dX13_areEars_35 hl rfl rfl (by decide) rfl (fun ls hl => ?_)
          refine lv_goto (tgt := 4) hx hb dX13_areEars_38 (by decide) ?_
          exact ih 0 (x3 + 1) _ h _ _ _ hW hS (lv_sub hl [0, 1, 2, 3] rfl) kk
        · rw [if_neg c4] at h
          refine lv_aload_n hx hb dX13_areEars_17 rfl (lv_at hl 2 rfl) ?_
          refine lv_iload_n hx hb dX13_areEars_18 rfl (lv_at hl 3 rfl) ?_
          refine lv_iload_n hx hb dX13_areEars_19 rfl (lv_at hl 0 rfl) ?_
          cases g5 : fX13_earOf σ b1 x3 with
          | none => rw [g5] at h; cases h
          | some r6 =>
            rw [g5, Option.bind_some] at h
            refine x_backi (va_runV (C := RX13) (b := (xa E 186)) (As := [.int b1, .int x3]) (rest := []) F.1 (mX13_earOf l E σ b1 x3 r6 g5) (cwV 2 hts (lw_V q1519 q1521 qs82 q115 q1522) rfl rfl rfl (by decide +kernel) ⟨Nat.le_of_ble_eq_true rfl, Nat.le_of_ble_eq_true rfl⟩) ⟨xPc.blind, va_recv hK (xO_M hW) (ci := 13) (q0 := 0) rfl rfl, F.pre hW hS (.ref (xa E 186) :: [.int b1, .int x3])⟩ rfl rfl hl.1 rfl (lv_room (Nat.le_of_ble_eq_true rfl)) dX13_areEars_20 ⟨Nat.le_refl _, Nat.le_refl _⟩) hS (fun H locs hW hS => ?_)
            refine x_backi (va_runS (As := [.int r6]) (rest := []) F.1 (mX13_isCell l E σ r6) (va_cwS 1 hts (lw_S q1273 q1274 q115 q1275) rfl rfl rfl (by decide +kernel) ⟨Nat.le_of_ble_eq_true rfl, Nat.le_of_ble_eq_true rfl⟩) ⟨xPc.blind, F.pre hW hS [.int r6]⟩ rfl rfl hl.1 rfl (lv_room (Nat.le_of_ble_eq_true rfl)) dX13_areEars_23 ⟨Nat.le_refl _, Nat.le_refl _⟩) hS (fun H locs hW hS => ?_)
            refine lv_if_eq (tgt := 33) hx hb dX13_areEars_26 (by decide) (fun c7 => ?_) (fun c7 => ?_)
            · rw [if_pos c7] at h
              refine lv_iconst (v := 0) hx hb dX13_areEars_33 (by decide) ?_
              refine lv_istore_n (lv' := [(2, .int 0), (3, .int x3), (0, .ref (xa E 186)), (1, .int b1)]) hx hb dX13_areEars_34 rfl hl (by decide) rfl (fun ls hl => ?_)
              refine lv_iinc (k := 1) (v := (x3 + 1)) (lv' := [(3, .int (x3 + 1)), (2, .int 0), (0, .ref (xa E 186)), (1, .int b1)]) hx hb dX13_areEars_35 hl rfl rfl (by decide) rfl (fun ls hl => ?_)
              refine lv_goto (tgt := 4) hx hb dX13_areEars_38 (by decide) ?_
              exact ih 0 (x3 + 1) _ h _ _ _ hW hS (lv_sub hl [0, 1, 2, 3] rfl) kk
            · rw [if_neg c7] at h
              refine lv_iconst (v := 1) hx hb dX13_areEars_29 (by decide) ?_
              refine lv_goto (tgt := 34) hx hb dX13_areEars_30 (by decide) ?_
              refine lv_istore_n (lv' := [(2, .int 1), (3, .int x3), (0, .ref (xa E 186)), (1, .int b1)]) hx hb dX13_areEars_34 rfl hl (by decide) rfl (fun ls hl => ?_)
              refine lv_iinc (k := 1) (v := (x3 + 1)) (lv' := [(3, .int (x3 + 1)), (2, .int 1), (0, .ref (xa E 186)), (1, .int b1)]) hx hb dX13_areEars_35 hl rfl rfl (by decide) rfl (fun ls hl => ?_)
              refine lv_goto (tgt := 4) hx hb dX13_areEars_38 (by decide) ?_
              exact ih 1 (x3 + 1) _ h _ _ _ hW hS (lv_sub hl [0, 1, 2, 3] rfl) kk
set_option maxHeartbeats 4000000 in
theorem mX13_areEars (l : Launch) (E : xE) (σ : xM) (a1 : Int32) (r : Int32) (h : fX13_areEars σ a1 = some r) : Met l yX13_areEars (ws_ yX13_areEars cX13_areEars 4 (some .boolean)) ({ frames := 2, cells := 0, slots := 0, locals := 42 } : Room) (xPc E σ [.ref (xa E 186), .int a1]) (xQc E (.returned (some (.int r))) σ) 0 0 (xA E) := by
  refine x_of (C := RX13) (n := "areEars") (d := "(I)Z") (r := (some .boolean)) (by decide) rfl (by first | decide | exact Nat.le_of_ble_eq_true rfl) ?_
  intro p e s m below meth c ls F hr hlk hW hS hl
  have hl : lv_has ls 4 [(0, .ref (xa E 186)), (1, .int a1)] := hl
  obtain ⟨hx, hb, hml, hown, hts⟩ := id F.1
  have hK := F.2.1.1
  unfold fX13_areEars at h
  refine lv_iconst (v := 1) hx hb dX13_areEars_0 (by decide) ?_
  refine lv_istore_n (lv' := [(2, .int 1), (0, .ref (xa E 186)), (1, .int a1)]) hx hb dX13_areEars_1 rfl hl (by decide) rfl (fun ls hl => ?_)
  refine lv_iconst (v := 0) hx hb dX13_areEars_2 (by decide) ?_
  refine lv_istore_n (lv' := [(3, .int 0), (2, .int 1), (0, .ref (xa E 186)), (1, .int a1)]) hx hb dX13_areEars_3 rfl hl (by decide) rfl (fun ls hl => ?_)
  cases g8 : gX13_areEars_4 σ a1 xfu 1 0 with
  | none => rw [g8] at h; cases h
  | some q9 =>
    rw [g8, Option.bind_some] at h
    refine lX13_areEars_4 F xfu 1 0 q9 g8 _ _ _ hW hS (lv_sub hl [0, 1, 2, 3] rfl) (fun H locs ls hW hS hl => ?_)
    refine lv_iload_n hx hb dX13_areEars_41 rfl (lv_at hl 1 rfl) ?_
    by_cases hz10 : q9.1 = 0 ∨ q9.1 = 1
    · rw [if_pos hz10] at h
      have h := Option.some.inj h; subst h
      exact x_zret F hr hlk hW hS (x_b01 hz10) dX13_areEars_42
    · rw [if_neg hz10] at h; cases h
/-! WildBellsModel.isSo(III)Z -/
def gX13_isSo_6 (σ : xM) (b1 : Int32) (b2 : Int32) (b3 : Int32) : Nat → Int32 → Int32 → Option (Int32 × Int32)
  | 0, _, _ => none
  | n + 1, x4, x5 => (fX13_ears σ b1).bind (fun r2 => if r2 ≤ x5 then (some (x4, x5)) else (if x4 = 0 then (gX13_isSo_6 σ b1 b2 b3 n 0 (x5 + 1)) else ((fX13_earOf σ b1 x5).bind (fun r6 => if xin (((40 * b1) + (2 * x5)) + 1) 160 then (if (fX13_loudOf b2 b3 r6) = (σ 30 ((((40 * b1) + (2 * x5)) + 1).toNatClampNeg)) then (gX13_isSo_6 σ b1 b2 b3 n 1 (x5 + 1)) else (gX13_isSo_6 σ b1 b2 b3 n 0 (x5 + 1))) else none))))
def fX13_isSo (σ : xM) (a1 : Int32) (a2 : Int32) (a3 : Int32) : Option Int32 :=
  (gX13_isSo_6 σ a1 a2 a3 xfu 1 0).bind (fun q10 => if q10.1 = 0 ∨ q10.1 = 1 then (some q10.1) else none)
set_option maxHeartbeats 4000000 in
theorem lX13_isSo_6 {p : Program} {l : Launch} {e : Env} {s : State} {m : MethodId} {av : Array Value} {below : List Frame} {meth : Method} {c : Code} {Q : State → Prop} {E : xE} {σ : xM} {b1 : Int32} {b2 : Int32} {b3 : Int32} (F : xFx p m c cX13_isSo 6 s av RX13 E) : ∀ (n : Nat) (x4 : Int32) (x5 : Int32) (q : (Int32 × Int32)), gX13_isSo_6 σ b1 b2 b3 n x4 x5 = some q → ∀ (H : Heap) (locs : List Loc) (ls : Array Slot), xW E σ H → va_S (xA E) s.heap H locs → lv_has ls 6 [(5, .int x5), (4, .int x4), (0, .ref (xa E 186)), (1, .int b1), (2, .int b2), (3, .int b3)] → (∀ (H : Heap) (locs : List Loc) (ls : Array Slot), xW E σ H → va_S (xA E) s.heap H locs → lv_has ls 6 [(5, .int q.2), (4, .int q.1), (0, .ref (xa E 186)), (1, .int b1), (2, .int b2), (3, .int b3)] → W p l e ({ frames := 3, cells := 0, slots := 0, locals := 64 } : Room) s m av below meth c H locs 0 0 Q (F0 m 66 ls [])) → W p l e ({ frames := 3, cells := 0, slots := 0, locals := 64 } : Room) s m av below meth c H locs 0 0 Q (F0 m 6 ls []) := by
  obtain ⟨hx, hb, hml, hown, hts⟩ := id F.1
  have hK := F.2.1.1
  intro n
  induction n with
  | zero =>
    intro x4 x5 q h
    cases h
  | succ n ih =>
    intro x4 x5 q h H locs ls hW hS hl kk
    rw [gX13_isSo_6] at h
    refine lv_iload hx hb dX13_isSo_6 (lv_at hl 0 rfl) ?_
    refine lv_aload_n hx hb dX13_isSo_8 rfl (lv_at hl 2 rfl) ?_
    refine lv_iload_n hx hb dX13_isSo_9 rfl (lv_at hl 3 rfl) ?_
    cases g1 : fX13_ears σ b1 with
    | none => rw [g1] at h; cases h
    | some r2 =>
      rw [g1, Option.bind_some] at h
      refine x_backi (va_runV (C := RX13) (b := (xa E 186)) (As := [.int b1]) (rest := [.int x5]) F.1 (mX13_ears l E σ b1 r2 g1) (cwV 1 hts (lw_V q1515 q1517 qs81 q115 q1518) rfl rfl rfl (by decide +kernel) ⟨Nat.le_of_ble_eq_true rfl, Nat.le_of_ble_eq_true rfl⟩) ⟨xPc.blind, va_recv hK (xO_M hW) (ci := 13) (q0 := 0) rfl rfl, F.pre hW hS (.ref (xa E 186) :: [.int b1])⟩ rfl rfl hl.1 rfl (lv_room (Nat.le_of_ble_eq_true rfl)) dX13_isSo_10 ⟨Nat.le_refl _, Nat.le_refl _⟩) hS (fun H locs hW hS => ?_)
      refine lv_icmp_ge (tgt := 66) hx hb dX13_isSo_13 (by decide) (fun c3 => ?_) (fun c3 => ?_)
      · rw [if_pos c3] at h
        have h := Option.some.inj h; subst h
        exact kk _ _ _ hW hS (lv_sub hl [0, 1, 2, 3, 4, 5] rfl)
      · rw [if_neg c3] at h
        refine lv_iload hx hb dX13_isSo_16 (lv_at hl 1 rfl) ?_
        refine lv_if_eq (tgt := 57) hx hb dX13_isSo_18 (by decide) (fun c4 => ?_) (fun c4 => ?_)
        · rw [if_pos c4] at h
          refine lv_iconst (v := 0) hx hb dX13_isSo_57 (by decide) ?_
          refine lv_istore (lv' := [(4, .int 0), (5, .int x5), (0, .ref (xa E 186)), (1, .int b1), (2, .int b2), (3, .int b3)]) hx hb dX13_isSo_58 hl (by decide) rfl (fun ls hl => ?_)
          refine lv_iinc (k := 1) (v := (x5 + 1)) (lv' := [(5, .int (x5 + 1)), (4, .int 0), (0, .ref (xa E 186)), (1, .int b1), (2, .int b2), (3, .int b3)]) hx hb dX13_isSo_60 hl rfl rfl (by decide) rfl (fun ls hl => ?_)
          refine lv_goto (tgt := 6) hx hb dX13_isSo_63 (by decide) ?_
          exact ih 0 (x5 + 1) _ h _ _ _ hW hS (lv_sub hl [0, 1, 2, 3, 4, 5] rfl) kk
        · rw [if_neg c4] at h
          refine lv_aload_n hx hb dX13_isSo_21 rfl (lv_at hl 2 rfl) ?_
          refine lv_iload_n hx hb dX13_isSo_22 rfl (lv_at hl 4 rfl) ?_
          refine lv_iload_n hx hb dX13_isSo_23 rfl (lv_at hl 5 rfl) ?_
          refine lv_aload_n hx hb dX13_isSo_24 rfl (lv_at hl 2 rfl) ?_
          refine lv_iload_n hx hb dX13_isSo_25 rfl (lv_at hl 3 rfl) ?_
          refine lv_iload hx hb dX13_isSo_26 (lv_at hl 0 rfl) ?_
          cases g5 : fX13_earOf σ b1 x5 with
          | none => rw [g5] at h; cases h
          | some r6 =>
            rw [g5, Option.bind_some] at h
            refine x_backi (va_runV (C := RX13) (b := (xa E 186)) (As := [.int b1, .int x5]) (rest := [.int b3, .int b2, .ref (xa E 186)]) F.1 (mX13_earOf l E σ b1 x5 r6 g5) (cwV 2 hts (lw_V q1519 q1521 qs82 q115 q1522) rfl rfl rfl (by decide +kernel) ⟨Nat.le_of_ble_eq_true rfl, Nat.le_of_ble_eq_true rfl⟩) ⟨xPc.blind, va_recv hK (xO_M hW) (ci := 13) (q0 := 0) rfl rfl, F.pre hW hS (.ref (xa E 186) :: [.int b1, .int x5])⟩ rfl rfl hl.1 rfl (lv_room (Nat.le_of_ble_eq_true rfl)) dX13_isSo_28 ⟨Nat.le_refl _, Nat.le_refl _⟩) hS (fun H locs hW hS => ?_)
            refine x_backi (va_runV (C := RX13) (b := (xa E 186)) (As := [.int b2, .int b3, .int r6]) (rest := []) F.1 (mX13_loudOf l E σ b2 b3 r6) (cwV 3 hts (lw_V q1385 q1387 qs64 q115 q1388) rfl rfl rfl (by decide +kernel) ⟨Nat.le_of_ble_eq_true rfl, Nat.le_of_ble_eq_true rfl⟩) ⟨xPc.blind, va_recv hK (xO_M hW) (ci := 13) (q0 := 0) rfl rfl, F.pre hW hS (.ref (xa E 186) :: [.int b2, .int b3, .int r6])⟩ rfl rfl hl.1 rfl (lv_room (Nat.le_of_ble_eq_true rfl)) dX13_isSo_31 ⟨Nat.le_refl _, Nat.le_refl _⟩) hS (fun H locs hW hS => ?_)
            refine lv_aload_n hx hb dX13_isSo_34 rfl (lv_at hl 2 rfl) ?_
            refine va_get (D := xD E) (ci := 13) (v := .ref (xa E 199)) (C := RX13) (T := TX13) (N := 24) hx hb hts in_X13 hown hK (xO_M hW) 0 rfl rfl 22 (by decide) (hts _ q1218) (fun _ h9 => h9) rfl dX13_isSo_35 ?_
            refine lv_bipush (v := 40) hx hb dX13_isSo_38 (by decide) ?_
            refine lv_iload_n hx hb dX13_isSo_40 rfl (lv_at hl 3 rfl) ?_
            refine lv_imul hx hb dX13_isSo_41 ?_
            refine lv_iconst (v := 2) hx hb dX13_isSo_42 (by decide) ?_
            refine lv_iload hx hb dX13_isSo_43 (lv_at hl 0 rfl) ?_
            refine lv_imul hx hb dX13_isSo_45 ?_
            refine lv_iadd hx hb dX13_isSo_46 ?_
            refine lv_iconst (v := 1) hx hb dX13_isSo_47 (by decide) ?_
            refine lv_iadd hx hb dX13_isSo_48 ?_
            by_cases hi7 : xin (((40 * b1) + (2 * x5)) + 1) 160
            · rw [if_pos hi7] at h
              refine va_iald hx hb hK (xV_p hW xp_199) 0 0 rfl rfl hi7 dX13_isSo_49 ?_
              refine lv_icmp_ne (tgt := 57) hx hb dX13_isSo_50 (by decide) (fun c8 => ?_) (fun c8 => ?_)
              · rw [if_neg c8] at h
                refine lv_iconst (v := 0) hx hb dX13_isSo_57 (by decide) ?_
                refine lv_istore (lv' := [(4, .int 0), (5, .int x5), (0, .ref (xa E 186)), (1, .int b1), (2, .int b2), (3, .int b3)]) hx hb dX13_isSo_58 hl (by decide) rfl (fun ls hl => ?_)
                refine lv_iinc (k := 1) (v := (x5 + 1)) (lv' := [(5, .int (x5 + 1)), (4, .int 0), (0, .ref (xa E 186)), (1, .int b1), (2, .int b2), (3, .int b3)]) hx hb dX13_isSo_60 hl rfl rfl (by decide) rfl (fun ls hl => ?_)
                refine lv_goto (tgt := 6) hx hb dX13_isSo_63 (by decide) ?_
                exact ih 0 (x5 + 1) _ h _ _ _ hW hS (lv_sub hl [0, 1, 2, 3, 4, 5] rfl) kk
              · rw [if_pos c8] at h
                refine lv_iconst (v := 1) hx hb dX13_isSo_53 (by decide) ?_
                refine lv_goto (tgt := 58) hx hb dX13_isSo_54 (by decide) ?_
                refine lv_istore (lv' := [(4, .int 1), (5, .int x5), (0, .ref (xa E 186)), (1, .int b1), (2, .int b2), (3, .int b3)]) hx hb dX13_isSo_58 hl (by decide) rfl (fun ls hl => ?_)
                refine lv_iinc (k := 1) (v := (x5 + 1)) (lv' := [(5, .int (x5 + 1)), (4, .int 1), (0, .ref (xa E 186)), (1, .int b1), (2, .int b2), (3, .int b3)]) hx hb dX13_isSo_60 hl rfl rfl (by decide) rfl (fun ls hl => ?_)
                refine lv_goto (tgt := 6) hx hb dX13_isSo_63 (by decide) ?_
                exact ih 1 (x5 + 1) _ h _ _ _ hW hS (lv_sub hl [0, 1, 2, 3, 4, 5] rfl) kk
            · rw [if_neg hi7] at h; cases h
set_option maxHeartbeats 4000000 in
theorem mX13_isSo (l : Launch) (E : xE) (σ : xM) (a1 : Int32) (a2 : Int32) (a3 : Int32) (r : Int32) (h : fX13_isSo σ a1 a2 a3 = some r) : Met l yX13_isSo (ws_ yX13_isSo cX13_isSo 6 (some .boolean)) ({ frames := 3, cells := 0, slots := 0, locals := 64 } : Room) (xPc E σ [.ref (xa E 186), .int a1, .int a2, .int a3]) (xQc E (.returned (some (.int r))) σ) 0 0 (xA E) := by
  refine x_of (C := RX13) (n := "isSo") (d := "(III)Z") (r := (some .boolean)) (by decide) rfl (by first | decide | exact Nat.le_of_ble_eq_true rfl) ?_
  intro p e s m below meth c ls F hr hlk hW hS hl
  have hl : lv_has ls 6 [(0, .ref (xa E 186)), (1, .int a1), (2, .int a2), (3, .int a3)] := hl
  obtain ⟨hx, hb, hml, hown, hts⟩ := id F.1
  have hK := F.2.1.1
  unfold fX13_isSo at h
  refine lv_iconst (v := 1) hx hb dX13_isSo_0 (by decide) ?_
  refine lv_istore (lv' := [(4, .int 1), (0, .ref (xa E 186)), (1, .int a1), (2, .int a2), (3, .int a3)]) hx hb dX13_isSo_1 hl (by decide) rfl (fun ls hl => ?_)
  refine lv_iconst (v := 0) hx hb dX13_isSo_3 (by decide) ?_
  refine lv_istore (lv' := [(5, .int 0), (4, .int 1), (0, .ref (xa E 186)), (1, .int a1), (2, .int a2), (3, .int a3)]) hx hb dX13_isSo_4 hl (by decide) rfl (fun ls hl => ?_)
  cases g9 : gX13_isSo_6 σ a1 a2 a3 xfu 1 0 with
  | none => rw [g9] at h; cases h
  | some q10 =>
    rw [g9, Option.bind_some] at h
    refine lX13_isSo_6 F xfu 1 0 q10 g9 _ _ _ hW hS (lv_sub hl [0, 1, 2, 3, 4, 5] rfl) (fun H locs ls hW hS hl => ?_)
    refine lv_iload hx hb dX13_isSo_66 (lv_at hl 1 rfl) ?_
    by_cases hz11 : q10.1 = 0 ∨ q10.1 = 1
    · rw [if_pos hz11] at h
      have h := Option.some.inj h; subst h
      exact x_zret F hr hlk hW hS (x_b01 hz11) dX13_isSo_68
    · rw [if_neg hz11] at h; cases h
/-! WildBellsModel.lacksOf(II)I -/
def fX13_lacksOf (σ : xM) (a1 : Int32) (a2 : Int32) : Option Int32 :=
  (fX13_lacks σ a1).bind (fun r2 => if r2 = 0 then (if (fX13_within a2 1 99) = 0 then (some (-1000001)) else ((fX13_areEars σ a1).bind (fun r6 => if r6 = 0 then (some (-1000005)) else (some 0)))) else (some r2))
set_option maxHeartbeats 4000000 in
theorem mX13_lacksOf (l : Launch) (E : xE) (σ : xM) (a1 : Int32) (a2 : Int32) (r : Int32) (h : fX13_lacksOf σ a1 a2 = some r) : Met l yX13_lacksOf (ws_ yX13_lacksOf cX13_lacksOf 4 (some .int)) ({ frames := 3, cells := 0, slots := 0, locals := 65 } : Room) (xPc E σ [.ref (xa E 186), .int a1, .int a2]) (xQc E (.returned (some (.int r))) σ) 0 0 (xA E) := by
  refine x_of (C := RX13) (n := "lacksOf") (d := "(II)I") (r := (some .int)) (by decide) rfl (by first | decide | exact Nat.le_of_ble_eq_true rfl) ?_
  intro p e s m below meth c ls F hr hlk hW hS hl
  have hl : lv_has ls 4 [(0, .ref (xa E 186)), (1, .int a1), (2, .int a2)] := hl
  obtain ⟨hx, hb, hml, hown, hts⟩ := id F.1
  have hK := F.2.1.1
  unfold fX13_lacksOf at h
  refine lv_aload_n hx hb dX13_lacksOf_0 rfl (lv_at hl 0 rfl) ?_
  refine lv_iload_n hx hb dX13_lacksOf_1 rfl (lv_at hl 1 rfl) ?_
  cases g1 : fX13_lacks σ a1 with
  | none => rw [g1] at h; cases h
  | some r2 =>
    rw [g1, Option.bind_some] at h
    refine x_backi (va_runV (C := RX13) (b := (xa E 186)) (As := [.int a1]) (rest := []) F.1 (mX13_lacks l E σ a1 r2 g1) (cwV 1 hts (lw_V q1503 q1505 qs79 q115 q1506) rfl rfl rfl (by decide +kernel) ⟨Nat.le_of_ble_eq_true rfl, Nat.le_of_ble_eq_true rfl⟩) ⟨xPc.blind, va_recv hK (xO_M hW) (ci := 13) (q0 := 0) rfl rfl, F.pre hW hS (.ref (xa E 186) :: [.int a1])⟩ rfl rfl hl.1 rfl (lv_room (Nat.le_of_ble_eq_true rfl)) dX13_lacksOf_2 ⟨Nat.le_refl _, Nat.le_refl _⟩) hS (fun H locs hW hS => ?_)
    refine lv_istore_n (lv' := [(3, .int r2), (0, .ref (xa E 186)), (1, .int a1), (2, .int a2)]) hx hb dX13_lacksOf_5 rfl hl (by decide) rfl (fun ls hl => ?_)
    refine lv_iload_n hx hb dX13_lacksOf_6 rfl (lv_at hl 0 rfl) ?_
    refine lv_if_eq (tgt := 14) hx hb dX13_lacksOf_7 (by decide) (fun c3 => ?_) (fun c3 => ?_)
    · rw [if_pos c3] at h
      refine lv_iload_n hx hb dX13_lacksOf_14 rfl (lv_at hl 3 rfl) ?_
      refine lv_iconst (v := 1) hx hb dX13_lacksOf_15 (by decide) ?_
      refine lv_bipush (v := 99) hx hb dX13_lacksOf_16 (by decide) ?_
      refine x_backi (va_runS (As := [.int a2, .int 1, .int 99]) (rest := []) F.1 (mX13_within l E σ a2 1 99) (va_cwS 3 hts (lw_S q1276 q1277 q115 q1278) rfl rfl rfl (by decide +kernel) ⟨Nat.le_of_ble_eq_true rfl, Nat.le_of_ble_eq_true rfl⟩) ⟨xPc.blind, F.pre hW hS [.int a2, .int 1, .int 99]⟩ rfl rfl hl.1 rfl (lv_room (Nat.le_of_ble_eq_true rfl)) dX13_lacksOf_18 ⟨Nat.le_refl _, Nat.le_refl _⟩) hS (fun H locs hW hS => ?_)
      refine lv_if_ne (tgt := 29) hx hb dX13_lacksOf_21 (by decide) (fun c4 => ?_) (fun c4 => ?_)
      · rw [if_neg c4] at h
        refine lv_aload_n hx hb dX13_lacksOf_29 rfl (lv_at hl 1 rfl) ?_
        refine lv_iload_n hx hb dX13_lacksOf_30 rfl (lv_at hl 2 rfl) ?_
        cases g5 : fX13_areEars σ a1 with
        | none => rw [g5] at h; cases h
        | some r6 =>
          rw [g5, Option.bind_some] at h
          refine x_backi (va_runV (C := RX13) (b := (xa E 186)) (As := [.int a1]) (rest := []) F.1 (mX13_areEars l E σ a1 r6 g5) (cwV 1 hts (lw_V q1511 q1513 qs80 q115 q1514) rfl rfl rfl (by decide +kernel) ⟨Nat.le_of_ble_eq_true rfl, Nat.le_of_ble_eq_true rfl⟩) ⟨xPc.blind, va_recv hK (xO_M hW) (ci := 13) (q0 := 0) rfl rfl, F.pre hW hS (.ref (xa E 186) :: [.int a1])⟩ rfl rfl hl.1 rfl (lv_room (Nat.le_of_ble_eq_true rfl)) dX13_lacksOf_31 ⟨Nat.le_refl _, Nat.le_refl _⟩) hS (fun H locs hW hS => ?_)
          refine lv_if_eq (tgt := 41) hx hb dX13_lacksOf_34 (by decide) (fun c7 => ?_) (fun c7 => ?_)
          · rw [if_pos c7] at h
            refine lv_ldc (v := (-1000005)) hx hb hown (hts _ q1398) dX13_lacksOf_41 ?_
            have h := Option.some.inj h; subst h
            exact x_iret F hr hlk hW hS dX13_lacksOf_43
          · rw [if_neg c7] at h
            refine lv_iconst (v := 0) hx hb dX13_lacksOf_37 (by decide) ?_
            refine lv_goto (tgt := 43) hx hb dX13_lacksOf_38 (by decide) ?_
            have h := Option.some.inj h; subst h
            exact x_iret F hr hlk hW hS dX13_lacksOf_43
      · rw [if_pos c4] at h
        refine lv_ldc (v := (-1000001)) hx hb hown (hts _ q1279) dX13_lacksOf_24 ?_
        refine lv_goto (tgt := 43) hx hb dX13_lacksOf_26 (by decide) ?_
        have h := Option.some.inj h; subst h
        exact x_iret F hr hlk hW hS dX13_lacksOf_43
    · rw [if_neg c3] at h
      refine lv_iload_n hx hb dX13_lacksOf_10 rfl (lv_at hl 0 rfl) ?_
      refine lv_goto (tgt := 43) hx hb dX13_lacksOf_11 (by decide) ?_
      have h := Option.some.inj h; subst h
      exact x_iret F hr hlk hW hS dX13_lacksOf_43
/-! WildBellsModel.stands(II)I -/
def gX13_stands_25 (σ : xM) (b1 : Int32) (b2 : Int32) : Nat → Int32 → Int32 → Option (Int32 × Int32)
  | 0, _, _ => none
  | n + 1, x3, x4 => if 64 ≤ x4 then (some (x3, x4)) else ((fX13_isSo σ b1 b2 x4).bind (fun r6 => if r6 = 0 then (gX13_stands_25 σ b1 b2 n (x3 + 0) (x4 + 1)) else (gX13_stands_25 σ b1 b2 n (x3 + 1) (x4 + 1))))
def fX13_stands (σ : xM) (a1 : Int32) (a2 : Int32) : Option (Int32 × xM) :=
  (fX13_lacksOf σ a1 a2).bind (fun r2 => if r2 = 0 then ((gX13_stands_25 σ a1 a2 xfu 0 0).bind (fun q9 => some (q9.1, σ))) else ((fX13_finding σ r2).bind (fun r11 => some (r11.1, r11.2))))
set_option maxHeartbeats 4000000 in
theorem lX13_stands_25 {p : Program} {l : Launch} {e : Env} {s : State} {m : MethodId} {av : Array Value} {below : List Frame} {meth : Method} {c : Code} {Q : State → Prop} {E : xE} {σ : xM} {b1 : Int32} {b2 : Int32} (F : xFx p m c cX13_stands 5 s av RX13 E) : ∀ (n : Nat) (x3 : Int32) (x4 : Int32) (q : (Int32 × Int32)), gX13_stands_25 σ b1 b2 n x3 x4 = some q → ∀ (H : Heap) (locs : List Loc) (ls : Array Slot), xW E σ H → va_S (xA E) s.heap H locs → lv_has ls 5 [(4, .int x4), (3, .int x3), (0, .ref (xa E 186)), (1, .int b1), (2, .int b2)] → (∀ (H : Heap) (locs : List Loc) (ls : Array Slot), xW E σ H → va_S (xA E) s.heap H locs → lv_has ls 5 [(4, .int q.2), (3, .int q.1), (0, .ref (xa E 186)), (1, .int b1), (2, .int b2)] → W p l e ({ frames := 4, cells := 0, slots := 0, locals := 89 } : Room) s m av below meth c H locs 0 0 Q (F0 m 57 ls [])) → W p l e ({ frames := 4, cells := 0, slots := 0, locals := 89 } : Room) s m av below meth c H locs 0 0 Q (F0 m 25 ls []) := by
  obtain ⟨hx, hb, hml, hown, hts⟩ := id F.1
  have hK := F.2.1.1
  intro n
  induction n with
  | zero =>
    intro x3 x4 q h
    cases h
  | succ n ih =>
    intro x3 x4 q h H locs ls hW hS hl kk
    rw [gX13_stands_25] at h
    refine lv_iload hx hb dX13_stands_25 (lv_at hl 0 rfl) ?_
    refine lv_bipush (v := 64) hx hb dX13_stands_27 (by decide) ?_
    refine lv_icmp_ge (tgt := 57) hx hb dX13_stands_29 (by decide) (fun c4 => ?_) (fun c4 => ?_)
    · rw [if_pos c4] at h
      have h := Option.some.inj h; subst h
      exact kk _ _ _ hW hS (lv_sub hl [0, 1, 2, 3, 4] rfl)
    · rw [if_neg c4] at h
      refine lv_iload_n hx hb dX13_stands_32 rfl (lv_at hl 1 rfl) ?_
      refine lv_aload_n hx hb dX13_stands_33 rfl (lv_at hl 2 rfl) ?_
      refine lv_iload_n hx hb dX13_stands_34 rfl (lv_at hl 3 rfl) ?_
      refine lv_iload_n hx hb dX13_stands_35 rfl (lv_at hl 4 rfl) ?_
      refine lv_iload hx hb dX13_stands_36 (lv_at hl 0 rfl) ?_
      cases g5 : fX13_isSo σ b1 b2 x4 with
      | none => rw [g5] at h; cases h
      | some r6 =>
        rw [g5, Option.bind_some] at h
        refine x_backi (va_runV (C := RX13) (b := (xa E 186)) (As := [.int b1, .int b2, .int x4]) (rest := [.int x3]) F.1 (mX13_isSo l E σ b1 b2 x4 r6 g5) (cwV 3 hts (lw_V q1523 q1525 qs83 q115 q1526) rfl rfl rfl (by decide +kernel) ⟨Nat.le_of_ble_eq_true rfl, Nat.le_of_ble_eq_true rfl⟩) ⟨xPc.blind, va_recv hK (xO_M hW) (ci := 13) (q0 := 0) rfl rfl, F.pre hW hS (.ref (xa E 186) :: [.int b1, .int b2, .int x4])⟩ rfl rfl hl.1 rfl (lv_room (Nat.le_of_ble_eq_true rfl)) dX13_stands_38 ⟨Nat.le_refl _, Nat.le_refl _⟩) hS (fun H locs hW hS => ?_)
        refine lv_if_eq (tgt := 48) hx hb dX13_stands_41 (by decide) (fun c7 => ?_) (fun c7 => ?_)
        · rw [if_pos c7] at h
          refine lv_iconst (v := 0) hx hb dX13_stands_48 (by decide) ?_
          refine lv_iadd hx hb dX13_stands_49 ?_
          refine lv_istore_n (lv' := [(3, .int (x3 + 0)), (4, .int x4), (0, .ref (xa E 186)), (1, .int b1), (2, .int b2)]) hx hb dX13_stands_50 rfl hl (by decide) rfl (fun ls hl => ?_)
          refine lv_iinc (k := 1) (v := (x4 + 1)) (lv' := [(4, .int (x4 + 1)), (3, .int (x3 + 0)), (0, .ref (xa E 186)), (1, .int b1), (2, .int b2)]) hx hb dX13_stands_51 hl rfl rfl (by decide) rfl (fun ls hl => ?_)
          refine lv_goto (tgt := 25) hx hb dX13_stands_54 (by decide) ?_
          exact ih (x3 + 0) (x4 + 1) _ h _ _ _ hW hS (lv_sub hl [0, 1, 2, 3, 4] rfl) kk
        · rw [if_neg c7] at h
          refine lv_iconst (v := 1) hx hb dX13_stands_44 (by decide) ?_
          refine lv_goto (tgt := 49) hx hb dX13_stands_45 (by decide) ?_
          refine lv_iadd hx hb dX13_stands_49 ?_
          refine lv_istore_n (lv' := [(3, .int (x3 + 1)), (4, .int x4), (0, .ref (xa E 186)), (1, .int b1), (2, .int b2)]) hx hb dX13_stands_50 rfl hl (by decide) rfl (fun ls hl => ?_)
          refine lv_iinc (k := 1) (v := (x4 + 1)) (lv' := [(4, .int (x4 + 1)), (3, .int (x3 + 1)), (0, .ref (xa E 186)), (1, .int b1), (2, .int b2)]) hx hb dX13_stands_51 hl rfl rfl (by decide) rfl (fun ls hl => ?_)
          refine lv_goto (tgt := 25) hx hb dX13_stands_54 (by decide) ?_
          exact ih (x3 + 1) (x4 + 1) _ h _ _ _ hW hS (lv_sub hl [0, 1, 2, 3, 4] rfl) kk
set_option maxHeartbeats 4000000 in
theorem mX13_stands (l : Launch) (E : xE) (σ : xM) (a1 : Int32) (a2 : Int32) (r : Int32) (σ' : xM) (h : fX13_stands σ a1 a2 = some (r, σ')) : Met l yX13_stands (ws_ yX13_stands cX13_stands 5 (some .int)) ({ frames := 4, cells := 0, slots := 0, locals := 89 } : Room) (xPc E σ [.ref (xa E 186), .int a1, .int a2]) (xQc E (.returned (some (.int r))) σ') 0 0 (xA E) := by
  refine x_of (C := RX13) (n := "stands") (d := "(II)I") (r := (some .int)) (by decide) rfl (by first | decide | exact Nat.le_of_ble_eq_true rfl) ?_
  intro p e s m below meth c ls F hr hlk hW hS hl
  have hl : lv_has ls 5 [(0, .ref (xa E 186)), (1, .int a1), (2, .int a2)] := hl
  obtain ⟨hx, hb, hml, hown, hts⟩ := id F.1
  have hK := F.2.1.1
  unfold fX13_stands at h
  refine lv_aload_n hx hb dX13_stands_0 rfl (lv_at hl 0 rfl) ?_
  refine lv_iload_n hx hb dX13_stands_1 rfl (lv_at hl 1 rfl) ?_
  refine lv_iload_n hx hb dX13_stands_2 rfl (lv_at hl 2 rfl) ?_
  cases g1 : fX13_lacksOf σ a1 a2 with
  | none => rw [g1] at h; cases h
  | some r2 =>
    rw [g1, Option.bind_some] at h
    refine x_backi (va_runV (C := RX13) (b := (xa E 186)) (As := [.int a1, .int a2]) (rest := []) F.1 (mX13_lacksOf l E σ a1 a2 r2 g1) (cwV 2 hts (lw_V q1499 q1501 qs78 q115 q1502) rfl rfl rfl (by decide +kernel) ⟨Nat.le_of_ble_eq_true rfl, Nat.le_of_ble_eq_true rfl⟩) ⟨xPc.blind, va_recv hK (xO_M hW) (ci := 13) (q0 := 0) rfl rfl, F.pre hW hS (.ref (xa E 186) :: [.int a1, .int a2])⟩ rfl rfl hl.1 rfl (lv_room (Nat.le_of_ble_eq_true rfl)) dX13_stands_3 ⟨Nat.le_refl _, Nat.le_refl _⟩) hS (fun H locs hW hS => ?_)
    refine lv_if_eq (tgt := 20) hx hb dX13_stands_6 (by decide) (fun c3 => ?_) (fun c3 => ?_)
    · rw [if_pos c3] at h
      refine lv_iconst (v := 0) hx hb dX13_stands_20 (by decide) ?_
      refine lv_istore_n (lv' := [(3, .int 0), (0, .ref (xa E 186)), (1, .int a1), (2, .int a2)]) hx hb dX13_stands_21 rfl hl (by decide) rfl (fun ls hl => ?_)
      refine lv_iconst (v := 0) hx hb dX13_stands_22 (by decide) ?_
      refine lv_istore (lv' := [(4, .int 0), (3, .int 0), (0, .ref (xa E 186)), (1, .int a1), (2, .int a2)]) hx hb dX13_stands_23 hl (by decide) rfl (fun ls hl => ?_)
      cases g8 : gX13_stands_25 σ a1 a2 xfu 0 0 with
      | none => rw [g8] at h; cases h
      | some q9 =>
        rw [g8, Option.bind_some] at h
        refine lX13_stands_25 F xfu 0 0 q9 g8 _ _ _ hW hS (lv_sub hl [0, 1, 2, 3, 4] rfl) (fun H locs ls hW hS hl => ?_)
        refine lv_iload_n hx hb dX13_stands_57 rfl (lv_at hl 1 rfl) ?_
        obtain ⟨h1, h2⟩ := Prod.mk.inj (Option.some.inj h); subst h1; subst h2
        exact x_iret F hr hlk hW hS dX13_stands_58
    · rw [if_neg c3] at h
      refine lv_aload_n hx hb dX13_stands_9 rfl (lv_at hl 0 rfl) ?_
      refine lv_aload_n hx hb dX13_stands_10 rfl (lv_at hl 0 rfl) ?_
      refine lv_iload_n hx hb dX13_stands_11 rfl (lv_at hl 1 rfl) ?_
      refine lv_iload_n hx hb dX13_stands_12 rfl (lv_at hl 2 rfl) ?_
      refine x_backi (va_runV (C := RX13) (b := (xa E 186)) (As := [.int a1, .int a2]) (rest := [.ref (xa E 186)]) F.1 (mX13_lacksOf l E σ a1 a2 r2 g1) (cwV 2 hts (lw_V q1499 q1501 qs78 q115 q1502) rfl rfl rfl (by decide +kernel) ⟨Nat.le_of_ble_eq_true rfl, Nat.le_of_ble_eq_true rfl⟩) ⟨xPc.blind, va_recv hK (xO_M hW) (ci := 13) (q0 := 0) rfl rfl, F.pre hW hS (.ref (xa E 186) :: [.int a1, .int a2])⟩ rfl rfl hl.1 rfl (lv_room (Nat.le_of_ble_eq_true rfl)) dX13_stands_13 ⟨Nat.le_refl _, Nat.le_refl _⟩) hS (fun H locs hW hS => ?_)
      cases g10 : fX13_finding σ r2 with
      | none => rw [g10] at h; cases h
      | some r11 =>
        rw [g10, Option.bind_some] at h
        refine x_backi (va_runV (C := RX13) (b := (xa E 186)) (As := [.int r2]) (rest := []) F.1 (mX13_finding l E σ r2 r11.1 r11.2 g10) (cwV 1 hts (lw_V q1280 q1282 qs52 q115 q1283) rfl rfl rfl (by decide +kernel) ⟨Nat.le_of_ble_eq_true rfl, Nat.le_of_ble_eq_true rfl⟩) ⟨xPc.blind, va_recv hK (xO_M hW) (ci := 13) (q0 := 0) rfl rfl, F.pre hW hS (.ref (xa E 186) :: [.int r2])⟩ rfl rfl hl.1 rfl (lv_room (Nat.le_of_ble_eq_true rfl)) dX13_stands_16 ⟨Nat.le_refl _, Nat.le_refl _⟩) hS (fun H locs hW hS => ?_)
        obtain ⟨h1, h2⟩ := Prod.mk.inj (Option.some.inj h); subst h1; subst h2
        exact x_iret F hr hlk hW hS dX13_stands_19
/-! WildBellsModel.where(II)I -/
def gX13_where_22 (σ : xM) (b1 : Int32) (b2 : Int32) : Nat → Int32 → Option Int32
  | 0, _ => none
  | n + 1, x3 => if 64 ≤ x3 then (some x3) else ((fX13_isSo σ b1 b2 x3).bind (fun r6 => if r6 = 0 then (gX13_where_22 σ b1 b2 n (x3 + 1)) else (some x3)))
def fX13_where (σ : xM) (a1 : Int32) (a2 : Int32) : Option (Int32 × xM) :=
  (fX13_lacksOf σ a1 a2).bind (fun r2 => if r2 = 0 then ((gX13_where_22 σ a1 a2 xfu 0).bind (fun q9 => if q9 = 64 then ((fX13_finding σ (-1000004)).bind (fun r12 => some (r12.1, r12.2))) else (some (q9, σ)))) else ((fX13_finding σ r2).bind (fun r14 => some (r14.1, r14.2))))
set_option maxHeartbeats 4000000 in
theorem lX13_where_22 {p : Program} {l : Launch} {e : Env} {s : State} {m : MethodId} {av : Array Value} {below : List Frame} {meth : Method} {c : Code} {Q : State → Prop} {E : xE} {σ : xM} {b1 : Int32} {b2 : Int32} (F : xFx p m c cX13_where 4 s av RX13 E) : ∀ (n : Nat) (x3 : Int32) (q : Int32), gX13_where_22 σ b1 b2 n x3 = some q → ∀ (H : Heap) (locs : List Loc) (ls : Array Slot), xW E σ H → va_S (xA E) s.heap H locs → lv_has ls 4 [(3, .int x3), (0, .ref (xa E 186)), (1, .int b1), (2, .int b2)] → (∀ (H : Heap) (locs : List Loc) (ls : Array Slot), xW E σ H → va_S (xA E) s.heap H locs → lv_has ls 4 [(3, .int q), (0, .ref (xa E 186)), (1, .int b1), (2, .int b2)] → W p l e ({ frames := 4, cells := 0, slots := 0, locals := 89 } : Room) s m av below meth c H locs 0 0 Q (F0 m 44 ls [])) → W p l e ({ frames := 4, cells := 0, slots := 0, locals := 89 } : Room) s m av below meth c H locs 0 0 Q (F0 m 22 ls []) := by
  obtain ⟨hx, hb, hml, hown, hts⟩ := id F.1
  have hK := F.2.1.1
  intro n
  induction n with
  | zero =>
    intro x3 q h
    cases h
  | succ n ih =>
    intro x3 q h H locs ls hW hS hl kk
    rw [gX13_where_22] at h
    refine lv_iload_n hx hb dX13_where_22 rfl (lv_at hl 0 rfl) ?_
    refine lv_bipush (v := 64) hx hb dX13_where_23 (by decide) ?_
    refine lv_icmp_ge (tgt := 44) hx hb dX13_where_25 (by decide) (fun c4 => ?_) (fun c4 => ?_)
    · rw [if_pos c4] at h
      have h := Option.some.inj h; subst h
      exact kk _ _ _ hW hS (lv_sub hl [0, 1, 2, 3] rfl)
    · rw [if_neg c4] at h
      refine lv_aload_n hx hb dX13_where_28 rfl (lv_at hl 1 rfl) ?_
      refine lv_iload_n hx hb dX13_where_29 rfl (lv_at hl 2 rfl) ?_
      refine lv_iload_n hx hb dX13_where_30 rfl (lv_at hl 3 rfl) ?_
      refine lv_iload_n hx hb dX13_where_31 rfl (lv_at hl 0 rfl) ?_
      cases g5 : fX13_isSo σ b1 b2 x3 with
      | none => rw [g5] at h; cases h
      | some r6 =>
        rw [g5, Option.bind_some] at h
        refine x_backi (va_runV (C := RX13) (b := (xa E 186)) (As := [.int b1, .int b2, .int x3]) (rest := []) F.1 (mX13_isSo l E σ b1 b2 x3 r6 g5) (cwV 3 hts (lw_V q1523 q1525 qs83 q115 q1526) rfl rfl rfl (by decide +kernel) ⟨Nat.le_of_ble_eq_true rfl, Nat.le_of_ble_eq_true rfl⟩) ⟨xPc.blind, va_recv hK (xO_M hW) (ci := 13) (q0 := 0) rfl rfl, F.pre hW hS (.ref (xa E 186) :: [.int b1, .int b2, .int x3])⟩ rfl rfl hl.1 rfl (lv_room (Nat.le_of_ble_eq_true rfl)) dX13_where_32 ⟨Nat.le_refl _, Nat.le_refl _⟩) hS (fun H locs hW hS => ?_)
        refine lv_if_ne (tgt := 44) hx hb dX13_where_35 (by decide) (fun c7 => ?_) (fun c7 => ?_)
        · rw [if_neg c7] at h
          have h := Option.some.inj h; subst h
          exact kk _ _ _ hW hS (lv_sub hl [0, 1, 2, 3] rfl)
        · rw [if_pos c7] at h
          refine lv_iinc (k := 0) (v := (x3 + 1)) (lv' := [(3, .int (x3 + 1)), (0, .ref (xa E 186)), (1, .int b1), (2, .int b2)]) hx hb dX13_where_38 hl rfl rfl (by decide) rfl (fun ls hl => ?_)
          refine lv_goto (tgt := 22) hx hb dX13_where_41 (by decide) ?_
          exact ih (x3 + 1) _ h _ _ _ hW hS (lv_sub hl [0, 1, 2, 3] rfl) kk
set_option maxHeartbeats 4000000 in
theorem mX13_where (l : Launch) (E : xE) (σ : xM) (a1 : Int32) (a2 : Int32) (r : Int32) (σ' : xM) (h : fX13_where σ a1 a2 = some (r, σ')) : Met l yX13_where (ws_ yX13_where cX13_where 4 (some .int)) ({ frames := 4, cells := 0, slots := 0, locals := 89 } : Room) (xPc E σ [.ref (xa E 186), .int a1, .int a2]) (xQc E (.returned (some (.int r))) σ') 0 0 (xA E) := by
  refine x_of (C := RX13) (n := "where") (d := "(II)I") (r := (some .int)) (by decide) rfl (by first | decide | exact Nat.le_of_ble_eq_true rfl) ?_
  intro p e s m below meth c ls F hr hlk hW hS hl
  have hl : lv_has ls 4 [(0, .ref (xa E 186)), (1, .int a1), (2, .int a2)] := hl
  obtain ⟨hx, hb, hml, hown, hts⟩ := id F.1
  have hK := F.2.1.1
  unfold fX13_where at h
  refine lv_aload_n hx hb dX13_where_0 rfl (lv_at hl 0 rfl) ?_
  refine lv_iload_n hx hb dX13_where_1 rfl (lv_at hl 1 rfl) ?_
  refine lv_iload_n hx hb dX13_where_2 rfl (lv_at hl 2 rfl) ?_
  cases g1 : fX13_lacksOf σ a1 a2 with
  | none => rw [g1] at h; cases h
  | some r2 =>
    rw [g1, Option.bind_some] at h
    refine x_backi (va_runV (C := RX13) (b := (xa E 186)) (As := [.int a1, .int a2]) (rest := []) F.1 (mX13_lacksOf l E σ a1 a2 r2 g1) (cwV 2 hts (lw_V q1499 q1501 qs78 q115 q1502) rfl rfl rfl (by decide +kernel) ⟨Nat.le_of_ble_eq_true rfl, Nat.le_of_ble_eq_true rfl⟩) ⟨xPc.blind, va_recv hK (xO_M hW) (ci := 13) (q0 := 0) rfl rfl, F.pre hW hS (.ref (xa E 186) :: [.int a1, .int a2])⟩ rfl rfl hl.1 rfl (lv_room (Nat.le_of_ble_eq_true rfl)) dX13_where_3 ⟨Nat.le_refl _, Nat.le_refl _⟩) hS (fun H locs hW hS => ?_)
    refine lv_if_eq (tgt := 20) hx hb dX13_where_6 (by decide) (fun c3 => ?_) (fun c3 => ?_)
    · rw [if_pos c3] at h
      refine lv_iconst (v := 0) hx hb dX13_where_20 (by decide) ?_
      refine lv_istore_n (lv' := [(3, .int 0), (0, .ref (xa E 186)), (1, .int a1), (2, .int a2)]) hx hb dX13_where_21 rfl hl (by decide) rfl (fun ls hl => ?_)
      cases g8 : gX13_where_22 σ a1 a2 xfu 0 with
      | none => rw [g8] at h; cases h
      | some q9 =>
        rw [g8, Option.bind_some] at h
        refine lX13_where_22 F xfu 0 q9 g8 _ _ _ hW hS (lv_sub hl [0, 1, 2, 3] rfl) (fun H locs ls hW hS hl => ?_)
        refine lv_iload_n hx hb dX13_where_44 rfl (lv_at hl 0 rfl) ?_
        refine lv_bipush (v := 64) hx hb dX13_where_45 (by decide) ?_
        refine lv_icmp_ne (tgt := 59) hx hb dX13_where_47 (by decide) (fun c10 => ?_) (fun c10 => ?_)
        · rw [if_neg c10] at h
          refine lv_iload_n hx hb dX13_where_59 rfl (lv_at hl 0 rfl) ?_
          obtain ⟨h1, h2⟩ := Prod.mk.inj (Option.some.inj h); subst h1; subst h2
          exact x_iret F hr hlk hW hS dX13_where_60
        · rw [if_pos c10] at h
          refine lv_aload_n hx hb dX13_where_50 rfl (lv_at hl 1 rfl) ?_
          refine lv_ldc (v := (-1000004)) hx hb hown (hts _ q1462) dX13_where_51 ?_
          cases g11 : fX13_finding σ (-1000004) with
          | none => rw [g11] at h; cases h
          | some r12 =>
            rw [g11, Option.bind_some] at h
            refine x_backi (va_runV (C := RX13) (b := (xa E 186)) (As := [.int (-1000004)]) (rest := []) F.1 (mX13_finding l E σ (-1000004) r12.1 r12.2 g11) (cwV 1 hts (lw_V q1280 q1282 qs52 q115 q1283) rfl rfl rfl (by decide +kernel) ⟨Nat.le_of_ble_eq_true rfl, Nat.le_of_ble_eq_true rfl⟩) ⟨xPc.blind, va_recv hK (xO_M hW) (ci := 13) (q0 := 0) rfl rfl, F.pre hW hS (.ref (xa E 186) :: [.int (-1000004)])⟩ rfl rfl hl.1 rfl (lv_room (Nat.le_of_ble_eq_true rfl)) dX13_where_53 ⟨Nat.le_refl _, Nat.le_refl _⟩) hS (fun H locs hW hS => ?_)
            refine lv_goto (tgt := 60) hx hb dX13_where_56 (by decide) ?_
            obtain ⟨h1, h2⟩ := Prod.mk.inj (Option.some.inj h); subst h1; subst h2
            exact x_iret F hr hlk hW hS dX13_where_60
    · rw [if_neg c3] at h
      refine lv_aload_n hx hb dX13_where_9 rfl (lv_at hl 0 rfl) ?_
      refine lv_aload_n hx hb dX13_where_10 rfl (lv_at hl 0 rfl) ?_
      refine lv_iload_n hx hb dX13_where_11 rfl (lv_at hl 1 rfl) ?_
      refine lv_iload_n hx hb dX13_where_12 rfl (lv_at hl 2 rfl) ?_
      refine x_backi (va_runV (C := RX13) (b := (xa E 186)) (As := [.int a1, .int a2]) (rest := [.ref (xa E 186)]) F.1 (mX13_lacksOf l E σ a1 a2 r2 g1) (cwV 2 hts (lw_V q1499 q1501 qs78 q115 q1502) rfl rfl rfl (by decide +kernel) ⟨Nat.le_of_ble_eq_true rfl, Nat.le_of_ble_eq_true rfl⟩) ⟨xPc.blind, va_recv hK (xO_M hW) (ci := 13) (q0 := 0) rfl rfl, F.pre hW hS (.ref (xa E 186) :: [.int a1, .int a2])⟩ rfl rfl hl.1 rfl (lv_room (Nat.le_of_ble_eq_true rfl)) dX13_where_13 ⟨Nat.le_refl _, Nat.le_refl _⟩) hS (fun H locs hW hS => ?_)
      cases g13 : fX13_finding σ r2 with
      | none => rw [g13] at h; cases h
      | some r14 =>
        rw [g13, Option.bind_some] at h
        refine x_backi (va_runV (C := RX13) (b := (xa E 186)) (As := [.int r2]) (rest := []) F.1 (mX13_finding l E σ r2 r14.1 r14.2 g13) (cwV 1 hts (lw_V q1280 q1282 qs52 q115 q1283) rfl rfl rfl (by decide +kernel) ⟨Nat.le_of_ble_eq_true rfl, Nat.le_of_ble_eq_true rfl⟩) ⟨xPc.blind, va_recv hK (xO_M hW) (ci := 13) (q0 := 0) rfl rfl, F.pre hW hS (.ref (xa E 186) :: [.int r2])⟩ rfl rfl hl.1 rfl (lv_room (Nat.le_of_ble_eq_true rfl)) dX13_where_16 ⟨Nat.le_refl _, Nat.le_refl _⟩) hS (fun H locs hW hS => ?_)
        obtain ⟨h1, h2⟩ := Prod.mk.inj (Option.some.inj h); subst h1; subst h2
        exact x_iret F hr hlk hW hS dX13_where_19
/-! WildBellsModel.worst(III)I -/
def gX13_worst_3  : Nat → Int32 → xM → Option (Int32 × xM)
  | 0, _, _ => none
  | n + 1, x4, σ => if 99 < x4 then (some (x4, σ)) else (if xin x4 100 then (gX13_worst_3 n (x4 + 1) (xup σ 25 (x4.toNatClampNeg) 0)) else none)
def gX13_worst_30 (b1 : Int32) (b2 : Int32) (b3 : Int32) : Nat → Int32 → Int32 → xM → Option (Int32 × Int32 × xM)
  | 0, _, _, _ => none
  | n + 1, x4, x5, σ => if 64 ≤ x5 then (some (x4, x5, σ)) else (if xin (fX13_loudOf b2 x5 b3) 100 then ((fX13_isSo σ b1 b2 x5).bind (fun r8 => if r8 = 0 then (if xin (fX13_loudOf b2 x5 b3) 100 then (if xin (fX13_loudOf b2 x5 b3) 100 then (gX13_worst_30 b1 b2 b3 n (fJ3_max x4 ((xup σ 25 ((fX13_loudOf b2 x5 b3).toNatClampNeg) ((σ 25 ((fX13_loudOf b2 x5 b3).toNatClampNeg)) + 0)) 25 ((fX13_loudOf b2 x5 b3).toNatClampNeg))) (x5 + 1) (xup σ 25 ((fX13_loudOf b2 x5 b3).toNatClampNeg) ((σ 25 ((fX13_loudOf b2 x5 b3).toNatClampNeg)) + 0))) else none) else none) else (if xin (fX13_loudOf b2 x5 b3) 100 then (if xin (fX13_loudOf b2 x5 b3) 100 then (gX13_worst_30 b1 b2 b3 n (fJ3_max x4 ((xup σ 25 ((fX13_loudOf b2 x5 b3).toNatClampNeg) ((σ 25 ((fX13_loudOf b2 x5 b3).toNatClampNeg)) + 1)) 25 ((fX13_loudOf b2 x5 b3).toNatClampNeg))) (x5 + 1) (xup σ 25 ((fX13_loudOf b2 x5 b3).toNatClampNeg) ((σ 25 ((fX13_loudOf b2 x5 b3).toNatClampNeg)) + 1))) else none) else none))) else none)
def fX13_worst (σ : xM) (a1 : Int32) (a2 : Int32) (a3 : Int32) : Option (Int32 × xM) :=
  (gX13_worst_3 xfu 0 σ).bind (fun q4 => (gX13_worst_30 a1 a2 a3 xfu 0 0 q4.2).bind (fun q15 => some (q15.1, q15.2.2)))
set_option maxHeartbeats 4000000 in
theorem lX13_worst_3 {p : Program} {l : Launch} {e : Env} {s : State} {m : MethodId} {av : Array Value} {below : List Frame} {meth : Method} {c : Code} {Q : State → Prop} {E : xE} {b1 : Int32} {b2 : Int32} {b3 : Int32} (F : xFx p m c cX13_worst 7 s av RX13 E) : ∀ (n : Nat) (x4 : Int32) (σ : xM) (q : (Int32 × xM)), gX13_worst_3 n x4 σ = some q → ∀ (H : Heap) (locs : List Loc) (ls : Array Slot), xW E σ H → va_S (xA E) s.heap H locs → lv_has ls 7 [(4, .int x4), (0, .ref (xa E 186)), (1, .int b1), (2, .int b2), (3, .int b3)] → (∀ (H : Heap) (locs : List Loc) (ls : Array Slot), xW E q.2 H → va_S (xA E) s.heap H locs → lv_has ls 7 [(4, .int q.1), (0, .ref (xa E 186)), (1, .int b1), (2, .int b2), (3, .int b3)] → W p l e ({ frames := 4, cells := 0, slots := 0, locals := 89 } : Room) s m av below meth c H locs 0 0 Q (F0 m 24 ls [])) → W p l e ({ frames := 4, cells := 0, slots := 0, locals := 89 } : Room) s m av below meth c H locs 0 0 Q (F0 m 3 ls []) := by
  obtain ⟨hx, hb, hml, hown, hts⟩ := id F.1
  have hK := F.2.1.1
  intro n
  induction n with
  | zero =>
    intro x4 σ q h
    cases h
  | succ n ih =>
    intro x4 σ q h H locs ls hW hS hl kk
    rw [gX13_worst_3] at h
    refine lv_iload hx hb dX13_worst_3 (lv_at hl 0 rfl) ?_
    refine lv_bipush (v := 99) hx hb dX13_worst_5 (by decide) ?_
    refine lv_icmp_gt (tgt := 24) hx hb dX13_worst_7 (by decide) (fun c1 => ?_) (fun c1 => ?_)
    · rw [if_pos c1] at h
      have h := Option.some.inj h; subst h
      exact kk _ _ _ hW hS (lv_sub hl [0, 1, 2, 3, 4] rfl)
    · rw [if_neg c1] at h
      refine lv_aload_n hx hb dX13_worst_10 rfl (lv_at hl 1 rfl) ?_
      refine va_get (D := xD E) (ci := 13) (v := .ref (xa E 193)) (C := RX13) (T := TX13) (N := 24) hx hb hts in_X13 hown hK (xO_M hW) 0 rfl rfl 8 (by decide) (hts _ q1204) (fun _ h9 => h9) rfl dX13_worst_11 ?_
      refine lv_iload hx hb dX13_worst_14 (lv_at hl 0 rfl) ?_
      refine lv_iconst (v := 0) hx hb dX13_worst_16 (by decide) ?_
      by_cases hi2 : xin x4 100
      · rw [if_pos hi2] at h
        refine x_iast F hW hS 193 100 25 (fun j => j) xp_193.1 xp_193.2.1 xp_193.2.2.1 xp_193.2.2.2 hi2 dX13_worst_17 (fun H locs hW hS => ?_)
        refine lv_iinc (k := 0) (v := (x4 + 1)) (lv' := [(4, .int (x4 + 1)), (0, .ref (xa E 186)), (1, .int b1), (2, .int b2), (3, .int b3)]) hx hb dX13_worst_18 hl rfl rfl (by decide) rfl (fun ls hl => ?_)
        refine lv_goto (tgt := 3) hx hb dX13_worst_21 (by decide) ?_
        exact ih (x4 + 1) (xup σ 25 (x4.toNatClampNeg) 0) _ h _ _ _ hW hS (lv_sub hl [0, 1, 2, 3, 4] rfl) kk
      · rw [if_neg hi2] at h; cases h
set_option maxHeartbeats 4000000 in
theorem lX13_worst_30 {p : Program} {l : Launch} {e : Env} {s : State} {m : MethodId} {av : Array Value} {below : List Frame} {meth : Method} {c : Code} {Q : State → Prop} {E : xE} {b1 : Int32} {b2 : Int32} {b3 : Int32} (F : xFx p m c cX13_worst 7 s av RX13 E) : ∀ (n : Nat) (x4 : Int32) (x5 : Int32) (σ : xM) (q : (Int32 × Int32 × xM)), gX13_worst_30 b1 b2 b3 n x4 x5 σ = some q → ∀ (H : Heap) (locs : List Loc) (ls : Array Slot), xW E σ H → va_S (xA E) s.heap H locs → lv_has ls 7 [(5, .int x5), (4, .int x4), (0, .ref (xa E 186)), (1, .int b1), (2, .int b2), (3, .int b3)] → (∀ (H : Heap) (locs : List Loc) (ls : Array Slot), xW E q.2.2 H → va_S (xA E) s.heap H locs → lv_has ls 7 [(5, .int q.2.1), (4, .int q.1), (0, .ref (xa E 186)), (1, .int b1), (2, .int b2), (3, .int b3)] → W p l e ({ frames := 4, cells := 0, slots := 0, locals := 89 } : Room) s m av below meth c H locs 0 0 Q (F0 m 93 ls [])) → W p l e ({ frames := 4, cells := 0, slots := 0, locals := 89 } : Room) s m av below meth c H locs 0 0 Q (F0 m 30 ls []) := by
  obtain ⟨hx, hb, hml, hown, hts⟩ := id F.1
  have hK := F.2.1.1
  intro n
  induction n with
  | zero =>
    intro x4 x5 σ q h
    cases h
  | succ n ih =>
    intro x4 x5 σ q h H locs ls hW hS hl kk
    rw [gX13_worst_30] at h
    refine lv_iload hx hb dX13_worst_30 (lv_at hl 0 rfl) ?_
    refine lv_bipush (v := 64) hx hb dX13_worst_32 (by decide) ?_
    refine lv_icmp_ge (tgt := 93) hx hb dX13_worst_34 (by decide) (fun c5 => ?_) (fun c5 => ?_)
    · rw [if_pos c5] at h
      have h := Option.some.inj h; subst h
      exact kk _ _ _ hW hS (lv_sub hl [0, 1, 2, 3, 4, 5] rfl)
    · rw [if_neg c5] at h
      refine lv_aload_n hx hb dX13_worst_37 rfl (lv_at hl 2 rfl) ?_
      refine lv_iload_n hx hb dX13_worst_38 rfl (lv_at hl 4 rfl) ?_
      refine lv_iload hx hb dX13_worst_39 (lv_at hl 0 rfl) ?_
      refine lv_iload_n hx hb dX13_worst_41 rfl (lv_at hl 5 rfl) ?_
      refine x_backi (va_runV (C := RX13) (b := (xa E 186)) (As := [.int b2, .int x5, .int b3]) (rest := []) F.1 (mX13_loudOf l E σ b2 x5 b3) (cwV 3 hts (lw_V q1385 q1387 qs64 q115 q1388) rfl rfl rfl (by decide +kernel) ⟨Nat.le_of_ble_eq_true rfl, Nat.le_of_ble_eq_true rfl⟩) ⟨xPc.blind, va_recv hK (xO_M hW) (ci := 13) (q0 := 0) rfl rfl, F.pre hW hS (.ref (xa E 186) :: [.int b2, .int x5, .int b3])⟩ rfl rfl hl.1 rfl (lv_room (Nat.le_of_ble_eq_true rfl)) dX13_worst_42 ⟨Nat.le_refl _, Nat.le_refl _⟩) hS (fun H locs hW hS => ?_)
      refine lv_istore (lv' := [(6, .int (fX13_loudOf b2 x5 b3)), (5, .int x5), (4, .int x4), (0, .ref (xa E 186)), (1, .int b1), (2, .int b2), (3, .int b3)]) hx hb dX13_worst_45 hl (by decide) rfl (fun ls hl => ?_)
      refine lv_aload_n hx hb dX13_worst_47 rfl (lv_at hl 3 rfl) ?_
      refine va_get (D := xD E) (ci := 13) (v := .ref (xa E 193)) (C := RX13) (T := TX13) (N := 24) hx hb hts in_X13 hown hK (xO_M hW) 0 rfl rfl 8 (by decide) (hts _ q1204) (fun _ h9 => h9) rfl dX13_worst_48 ?_
      refine lv_iload hx hb dX13_worst_51 (lv_at hl 0 rfl) ?_
      refine lv_dup2_11 hx hb dX13_worst_53 rfl rfl ?_
      by_cases hi6 : xin (fX13_loudOf b2 x5 b3) 100
      · rw [if_pos hi6] at h
        refine va_iald hx hb hK (xV_p hW xp_193) 0 0 rfl rfl hi6 dX13_worst_54 ?_
        refine lv_aload_n hx hb dX13_worst_55 rfl (lv_at hl 3 rfl) ?_
        refine lv_iload_n hx hb dX13_worst_56 rfl (lv_at hl 4 rfl) ?_
        refine lv_iload_n hx hb dX13_worst_57 rfl (lv_at hl 5 rfl) ?_
        refine lv_iload hx hb dX13_worst_58 (lv_at hl 1 rfl) ?_
        cases g7 : fX13_isSo σ b1 b2 x5 with
        | none => rw [g7] at h; cases h
        | some r8 =>
          rw [g7, Option.bind_some] at h
          refine x_backi (va_runV (C := RX13) (b := (xa E 186)) (As := [.int b1, .int b2, .int x5]) (rest := [.int (σ 25 ((fX13_loudOf b2 x5 b3).toNatClampNeg)), .int (fX13_loudOf b2 x5 b3), .ref (xa E 193)]) F.1 (mX13_isSo l E σ b1 b2 x5 r8 g7) (cwV 3 hts (lw_V q1523 q1525 qs83 q115 q1526) rfl rfl rfl (by decide +kernel) ⟨Nat.le_of_ble_eq_true rfl, Nat.le_of_ble_eq_true rfl⟩) ⟨xPc.blind, va_recv hK (xO_M hW) (ci := 13) (q0 := 0) rfl rfl, F.pre hW hS (.ref (xa E 186) :: [.int b1, .int b2, .int x5])⟩ rfl rfl hl.1 rfl (lv_room (Nat.le_of_ble_eq_true rfl)) dX13_worst_60 ⟨Nat.le_refl _, Nat.le_refl _⟩) hS (fun H locs hW hS => ?_)
          refine lv_if_eq (tgt := 70) hx hb dX13_worst_63 (by decide) (fun c9 => ?_) (fun c9 => ?_)
          · rw [if_pos c9] at h
            refine lv_iconst (v := 0) hx hb dX13_worst_70 (by decide) ?_
            refine lv_iadd hx hb dX13_worst_71 ?_
            by_cases hi10 : xin (fX13_loudOf b2 x5 b3) 100
            · rw [if_pos hi10] at h
              refine x_iast F hW hS 193 100 25 (fun j => j) xp_193.1 xp_193.2.1 xp_193.2.2.1 xp_193.2.2.2 hi10 dX13_worst_72 (fun H locs hW hS => ?_)
              refine lv_iload hx hb dX13_worst_73 (lv_at hl 2 rfl) ?_
              refine lv_aload_n hx hb dX13_worst_75 rfl (lv_at hl 3 rfl) ?_
              refine va_get (D := xD E) (ci := 13) (v := .ref (xa E 193)) (C := RX13) (T := TX13) (N := 24) hx hb hts in_X13 hown hK (xO_M hW) 0 rfl rfl 8 (by decide) (hts _ q1204) (fun _ h9 => h9) rfl dX13_worst_76 ?_
              refine lv_iload hx hb dX13_worst_79 (lv_at hl 0 rfl) ?_
              by_cases hi11 : xin (fX13_loudOf b2 x5 b3) 100
              · rw [if_pos hi11] at h
                refine va_iald hx hb hK (xV_p hW xp_193) 0 0 rfl rfl hi11 dX13_worst_81 ?_
                refine x_backi (va_runS (As := [.int x4, .int ((xup σ 25 ((fX13_loudOf b2 x5 b3).toNatClampNeg) ((σ 25 ((fX13_loudOf b2 x5 b3).toNatClampNeg)) + 0)) 25 ((fX13_loudOf b2 x5 b3).toNatClampNeg))]) (rest := []) F.1 (mJ3_max l E (xup σ 25 ((fX13_loudOf b2 x5 b3).toNatClampNeg) ((σ 25 ((fX13_loudOf b2 x5 b3).toNatClampNeg)) + 0)) x4 ((xup σ 25 ((fX13_loudOf b2 x5 b3).toNatClampNeg) ((σ 25 ((fX13_loudOf b2 x5 b3).toNatClampNeg)) + 0)) 25 ((fX13_loudOf b2 x5 b3).toNatClampNeg))) (va_cwS 2 hts (lw_S q1357 q504 q116 q505) rfl rfl rfl (by decide +kernel) ⟨Nat.le_of_ble_eq_true rfl, Nat.le_of_ble_eq_true rfl⟩) ⟨xPc.blind, F.pre hW hS [.int x4, .int ((xup σ 25 ((fX13_loudOf b2 x5 b3).toNatClampNeg) ((σ 25 ((fX13_loudOf b2 x5 b3).toNatClampNeg)) + 0)) 25 ((fX13_loudOf b2 x5 b3).toNatClampNeg))]⟩ rfl rfl hl.1 rfl (lv_room (Nat.le_of_ble_eq_true rfl)) dX13_worst_82 ⟨Nat.le_refl _, Nat.le_refl _⟩) hS (fun H locs hW hS => ?_)
                refine lv_istore (lv' := [(4, .int (fJ3_max x4 ((xup σ 25 ((fX13_loudOf b2 x5 b3).toNatClampNeg) ((σ 25 ((fX13_loudOf b2 x5 b3).toNatClampNeg)) + 0)) 25 ((fX13_loudOf b2 x5 b3).toNatClampNeg)))), (6, .int (fX13_loudOf b2 x5 b3)), (5, .int x5), (0, .ref (xa E 186)), (1, .int b1), (2, .int b2), (3, .int b3)]) hx hb dX13_worst_85 hl (by decide) rfl (fun ls hl => ?_)
                refine lv_iinc (k := 2) (v := (x5 + 1)) (lv' := [(5, .int (x5 + 1)), (4, .int (fJ3_max x4 ((xup σ 25 ((fX13_loudOf b2 x5 b3).toNatClampNeg) ((σ 25 ((fX13_loudOf b2 x5 b3).toNatClampNeg)) + 0)) 25 ((fX13_loudOf b2 x5 b3).toNatClampNeg)))), (6, .int (fX13_loudOf b2 x5 b3)), (0, .ref (xa E 186)), (1, .int b1), (2, .int b2), (3, .int b3)]) hx hb dX13_worst_87 hl rfl rfl (by decide) rfl (fun ls hl => ?_)
                refine lv_goto (tgt := 30) hx hb dX13_worst_90 (by decide) ?_
                exact ih (fJ3_max x4 ((xup σ 25 ((fX13_loudOf b2 x5 b3).toNatClampNeg) ((σ 25 ((fX13_loudOf b2 x5 b3).toNatClampNeg)) + 0)) 25 ((fX13_loudOf b2 x5 b3).toNatClampNeg))) (x5 + 1) (xup σ 25 ((fX13_loudOf b2 x5 b3).toNatClampNeg) ((σ 25 ((fX13_loudOf b2 x5 b3).toNatClampNeg)) + 0)) _ h _ _ _ hW hS (lv_sub hl [0, 1, 3, 4, 5, 6] rfl) kk
              · rw [if_neg hi11] at h; cases h
            · rw [if_neg hi10] at h; cases h
          · rw [if_neg c9] at h
            refine lv_iconst (v := 1) hx hb dX13_worst_66 (by decide) ?_
            refine lv_goto (tgt := 71) hx hb dX13_worst_67 (by decide) ?_
            refine lv_iadd hx hb dX13_worst_71 ?_
            by_cases hi12 : xin (fX13_loudOf b2 x5 b3) 100
            · rw [if_pos hi12] at h
              refine x_iast F hW hS 193 100 25 (fun j => j) xp_193.1 xp_193.2.1 xp_193.2.2.1 xp_193.2.2.2 hi12 dX13_worst_72 (fun H locs hW hS => ?_)
              refine lv_iload hx hb dX13_worst_73 (lv_at hl 2 rfl) ?_
              refine lv_aload_n hx hb dX13_worst_75 rfl (lv_at hl 3 rfl) ?_
              refine va_get (D := xD E) (ci := 13) (v := .ref (xa E 193)) (C := RX13) (T := TX13) (N := 24) hx hb hts in_X13 hown hK (xO_M hW) 0 rfl rfl 8 (by decide) (hts _ q1204) (fun _ h9 => h9) rfl dX13_worst_76 ?_
              refine lv_iload hx hb dX13_worst_79 (lv_at hl 0 rfl) ?_
              by_cases hi13 : xin (fX13_loudOf b2 x5 b3) 100
              · rw [if_pos hi13] at h
                refine va_iald hx hb hK (xV_p hW xp_193) 0 0 rfl rfl hi13 dX13_worst_81 ?_
                refine x_backi (va_runS (As := [.int x4, .int ((xup σ 25 ((fX13_loudOf b2 x5 b3).toNatClampNeg) ((σ 25 ((fX13_loudOf b2 x5 b3).toNatClampNeg)) + 1)) 25 ((fX13_loudOf b2 x5 b3).toNatClampNeg))]) (rest := []) F.1 (mJ3_max l E (xup σ 25 ((fX13_loudOf b2 x5 b3).toNatClampNeg) ((σ 25 ((fX13_loudOf b2 x5 b3).toNatClampNeg)) + 1)) x4 ((xup σ 25 ((fX13_loudOf b2 x5 b3).toNatClampNeg) ((σ 25 ((fX13_loudOf b2 x5 b3).toNatClampNeg)) + 1)) 25 ((fX13_loudOf b2 x5 b3).toNatClampNeg))) (va_cwS 2 hts (lw_S q1357 q504 q116 q505) rfl rfl rfl (by decide +kernel) ⟨Nat.le_of_ble_eq_true rfl, Nat.le_of_ble_eq_true rfl⟩) ⟨xPc.blind, F.pre hW hS [.int x4, .int ((xup σ 25 ((fX13_loudOf b2 x5 b3).toNatClampNeg) ((σ 25 ((fX13_loudOf b2 x5 b3).toNatClampNeg)) + 1)) 25 ((fX13_loudOf b2 x5 b3).toNatClampNeg))]⟩ rfl rfl hl.1 rfl (lv_room (Nat.le_of_ble_eq_true rfl)) dX13_worst_82 ⟨Nat.le_refl _, Nat.le_refl _⟩) hS (fun H locs hW hS => ?_)
                refine lv_istore (lv' := [(4, .int (fJ3_max x4 ((xup σ 25 ((fX13_loudOf b2 x5 b3).toNatClampNeg) ((σ 25 ((fX13_loudOf b2 x5 b3).toNatClampNeg)) + 1)) 25 ((fX13_loudOf b2 x5 b3).toNatClampNeg)))), (6, .int (fX13_loudOf b2 x5 b3)), (5, .int x5), (0, .ref (xa E 186)), (1, .int b1), (2, .int b2), (3, .int b3)]) hx hb dX13_worst_85 hl (by decide) rfl (fun ls hl => ?_)
                refine lv_iinc (k := 2) (v := (x5 + 1)) (lv' := [(5, .int (x5 + 1)), (4, .int (fJ3_max x4 ((xup σ 25 ((fX13_loudOf b2 x5 b3).toNatClampNeg) ((σ 25 ((fX13_loudOf b2 x5 b3).toNatClampNeg)) + 1)) 25 ((fX13_loudOf b2 x5 b3).toNatClampNeg)))), (6, .int (fX13_loudOf b2 x5 b3)), (0, .ref (xa E 186)), (1, .int b1), (2, .int b2), (3, .int b3)]) hx hb dX13_worst_87 hl rfl rfl (by decide) rfl (fun ls hl => ?_)
                refine lv_goto (tgt := 30) hx hb dX13_worst_90 (by decide) ?_
                exact ih (fJ3_max x4 ((xup σ 25 ((fX13_loudOf b2 x5 b3).toNatClampNeg) ((σ 25 ((fX13_loudOf b2 x5 b3).toNatClampNeg)) + 1)) 25 ((fX13_loudOf b2 x5 b3).toNatClampNeg))) (x5 + 1) (xup σ 25 ((fX13_loudOf b2 x5 b3).toNatClampNeg) ((σ 25 ((fX13_loudOf b2 x5 b3).toNatClampNeg)) + 1)) _ h _ _ _ hW hS (lv_sub hl [0, 1, 3, 4, 5, 6] rfl) kk
              · rw [if_neg hi13] at h; cases h
            · rw [if_neg hi12] at h; cases h
      · rw [if_neg hi6] at h; cases h
set_option maxHeartbeats 4000000 in
theorem mX13_worst (l : Launch) (E : xE) (σ : xM) (a1 : Int32) (a2 : Int32) (a3 : Int32) (r : Int32) (σ' : xM) (h : fX13_worst σ a1 a2 a3 = some (r, σ')) : Met l yX13_worst (ws_ yX13_worst cX13_worst 7 (some .int)) ({ frames := 4, cells := 0, slots := 0, locals := 89 } : Room) (xPc E σ [.ref (xa E 186), .int a1, .int a2, .int a3]) (xQc E (.returned (some (.int r))) σ') 0 0 (xA E) := by
  refine x_of (C := RX13) (n := "worst") (d := "(III)I") (r := (some .int)) (by decide) rfl (by first | decide | exact Nat.le_of_ble_eq_true rfl) ?_
  intro p e s m below meth c ls F hr hlk hW hS hl
  have hl : lv_has ls 7 [(0, .ref (xa E 186)), (1, .int a1), (2, .int a2), (3, .int a3)] := hl
  obtain ⟨hx, hb, hml, hown, hts⟩ := id F.1
  have hK := F.2.1.1
  unfold fX13_worst at h
  refine lv_iconst (v := 0) hx hb dX13_worst_0 (by decide) ?_
  refine lv_istore (lv' := [(4, .int 0), (0, .ref (xa E 186)), (1, .int a1), (2, .int a2), (3, .int a3)]) hx hb dX13_worst_1 hl (by decide) rfl (fun ls hl => ?_)
  cases g3 : gX13_worst_3 xfu 0 σ with
  | none => rw [g3] at h; cases h
  | some q4 =>
    rw [g3, Option.bind_some] at h
    refine lX13_worst_3 F xfu 0 σ q4 g3 _ _ _ hW hS (lv_sub hl [0, 1, 2, 3, 4] rfl) (fun H locs ls hW hS hl => ?_)
    refine lv_iconst (v := 0) hx hb dX13_worst_24 (by decide) ?_
    refine lv_istore (lv' := [(4, .int 0), (0, .ref (xa E 186)), (1, .int a1), (2, .int a2), (3, .int a3)]) hx hb dX13_worst_25 hl (by decide) rfl (fun ls hl => ?_)
    refine lv_iconst (v := 0) hx hb dX13_worst_27 (by decide) ?_
    refine lv_istore (lv' := [(5, .int 0), (4, .int 0), (0, .ref (xa E 186)), (1, .int a1), (2, .int a2), (3, .int a3)]) hx hb dX13_worst_28 hl (by decide) rfl (fun ls hl => ?_)
    cases g14 : gX13_worst_30 a1 a2 a3 xfu 0 0 q4.2 with
    | none => rw [g14] at h; cases h
    | some q15 =>
      rw [g14, Option.bind_some] at h
      refine lX13_worst_30 F xfu 0 0 q4.2 q15 g14 _ _ _ hW hS (lv_sub hl [0, 1, 2, 3, 4, 5] rfl) (fun H locs ls hW hS hl => ?_)
      refine lv_iload hx hb dX13_worst_93 (lv_at hl 1 rfl) ?_
      obtain ⟨h1, h2⟩ := Prod.mk.inj (Option.some.inj h); subst h1; subst h2
      exact x_iret F hr hlk hW hS dX13_worst_95
/-! WildBellsModel.ear(II)I -/
def gX13_ear_29 (b1 : Int32) (b2 : Int32) : Nat → Int32 → Int32 → Int32 → xM → Option (Int32 × Int32 × Int32 × xM)
  | 0, _, _, _, _ => none
  | n + 1, x3, x4, x5, σ => if 64 ≤ x5 then (some (x3, x4, x5, σ)) else ((fX13_worst σ b1 b2 x5).bind (fun r6 => if x4 ≤ r6.1 then (gX13_ear_29 b1 b2 n x3 (fJ3_min x4 r6.1) (x5 + 1) r6.2) else (gX13_ear_29 b1 b2 n x5 (fJ3_min x4 r6.1) (x5 + 1) r6.2)))
def fX13_ear (σ : xM) (a1 : Int32) (a2 : Int32) : Option (Int32 × xM) :=
  (fX13_lacksOf σ a1 a2).bind (fun r2 => if r2 = 0 then ((gX13_ear_29 a1 a2 xfu 0 1000000 0 σ).bind (fun q9 => if q9.2.1 = 0 then ((fX13_finding q9.2.2.2 (-1000004)).bind (fun r12 => some (r12.1, r12.2))) else (some (q9.1, q9.2.2.2)))) else ((fX13_finding σ r2).bind (fun r14 => some (r14.1, r14.2))))
set_option maxHeartbeats 4000000 in
theorem lX13_ear_29 {p : Program} {l : Launch} {e : Env} {s : State} {m : MethodId} {av : Array Value} {below : List Frame} {meth : Method} {c : Code} {Q : State → Prop} {E : xE} {b1 : Int32} {b2 : Int32} (F : xFx p m c cX13_ear 7 s av RX13 E) : ∀ (n : Nat) (x3 : Int32) (x4 : Int32) (x5 : Int32) (σ : xM) (q : (Int32 × Int32 × Int32 × xM)), gX13_ear_29 b1 b2 n x3 x4 x5 σ = some q → ∀ (H : Heap) (locs : List Loc) (ls : Array Slot), xW E σ H → va_S (xA E) s.heap H locs → lv_has ls 7 [(5, .int x5), (4, .int x4), (3, .int x3), (0, .ref (xa E 186)), (1, .int b1), (2, .int b2)] → (∀ (H : Heap) (locs : List Loc) (ls : Array Slot), xW E q.2.2.2 H → va_S (xA E) s.heap H locs → lv_has ls 7 [(5, .int q.2.2.1), (4, .int q.2.1), (3, .int q.1), (0, .ref (xa E 186)), (1, .int b1), (2, .int b2)] → W p l e ({ frames := 5, cells := 0, slots := 0, locals := 115 } : Room) s m av below meth c H locs 0 0 Q (F0 m 75 ls [])) → W p l e ({ frames := 5, cells := 0, slots := 0, locals := 115 } : Room) s m av below meth c H locs 0 0 Q (F0 m 29 ls []) := by
  obtain ⟨hx, hb, hml, hown, hts⟩ := id F.1
  have hK := F.2.1.1
  intro n
  induction n with
  | zero =>
    intro x3 x4 x5 σ q h
    cases h
  | succ n ih =>
    intro x3 x4 x5 σ q h H locs ls hW hS hl kk
    rw [gX13_ear_29] at h
    refine lv_iload hx hb dX13_ear_29 (lv_at hl 0 rfl) ?_
    refine lv_bipush (v := 64) hx hb dX13_ear_31 (by decide) ?_
    refine lv_icmp_ge (tgt := 75) hx hb dX13_ear_33 (by decide) (fun c4 => ?_) (fun c4 => ?_)
    · rw [if_pos c4] at h
      have h := Option.some.inj h; subst h
      exact kk _ _ _ hW hS (lv_sub hl [0, 1, 2, 3, 4, 5] rfl)
    · rw [if_neg c4] at h
      refine lv_aload_n hx hb dX13_ear_36 rfl (lv_at hl 3 rfl) ?_
      refine lv_iload_n hx hb dX13_ear_37 rfl (lv_at hl 4 rfl) ?_
      refine lv_iload_n hx hb dX13_ear_38 rfl (lv_at hl 5 rfl) ?_
      refine lv_iload hx hb dX13_ear_39 (lv_at hl 0 rfl) ?_
      cases g5 : fX13_worst σ b1 b2 x5 with
      | none => rw [g5] at h; cases h
      | some r6 =>
        rw [g5, Option.bind_some] at h
        refine x_backi (va_runV (C := RX13) (b := (xa E 186)) (As := [.int b1, .int b2, .int x5]) (rest := []) F.1 (mX13_worst l E σ b1 b2 x5 r6.1 r6.2 g5) (cwV 3 hts (lw_V q1535 q1537 qs84 q115 q1538) rfl rfl rfl (by decide +kernel) ⟨Nat.le_of_ble_eq_true rfl, Nat.le_of_ble_eq_true rfl⟩) ⟨xPc.blind, va_recv hK (xO_M hW) (ci := 13) (q0 := 0) rfl rfl, F.pre hW hS (.ref (xa E 186) :: [.int b1, .int b2, .int x5])⟩ rfl rfl hl.1 rfl (lv_room (Nat.le_of_ble_eq_true rfl)) dX13_ear_41 ⟨Nat.le_refl _, Nat.le_refl _⟩) hS (fun H locs hW hS => ?_)
        refine lv_istore (lv' := [(6, .int r6.1), (5, .int x5), (4, .int x4), (3, .int x3), (0, .ref (xa E 186)), (1, .int b1), (2, .int b2)]) hx hb dX13_ear_44 hl (by decide) rfl (fun ls hl => ?_)
        refine lv_iload hx hb dX13_ear_46 (lv_at hl 0 rfl) ?_
        refine lv_iload hx hb dX13_ear_48 (lv_at hl 2 rfl) ?_
        refine lv_icmp_ge (tgt := 58) hx hb dX13_ear_50 (by decide) (fun c7 => ?_) (fun c7 => ?_)
        · rw [if_pos c7] at h
          refine lv_iload_n hx hb dX13_ear_58 rfl (lv_at hl 3 rfl) ?_
          refine lv_istore_n (lv' := [(3, .int x3), (6, .int r6.1), (5, .int x5), (4, .int x4), (0, .ref (xa E 186)), (1, .int b1), (2, .int b2)]) hx hb dX13_ear_59 rfl hl (by decide) rfl (fun ls hl => ?_)
          refine lv_iload hx hb dX13_ear_60 (lv_at hl 3 rfl) ?_
          refine lv_iload hx hb dX13_ear_62 (lv_at hl 1 rfl) ?_
          refine x_backi (va_runS (As := [.int x4, .int r6.1]) (rest := []) F.1 (mJ3_min l E r6.2 x4 r6.1) (va_cwS 2 hts (lw_S q1342 q597 q116 q598) rfl rfl rfl (by decide +kernel) ⟨Nat.le_of_ble_eq_true rfl, Nat.le_of_ble_eq_true rfl⟩) ⟨xPc.blind, F.pre hW hS [.int x4, .int r6.1]⟩ rfl rfl hl.1 rfl (lv_room (Nat.le_of_ble_eq_true rfl)) dX13_ear_64 ⟨Nat.le_refl _, Nat.le_refl _⟩) hS (fun H locs hW hS => ?_)
          refine lv_istore (lv' := [(4, .int (fJ3_min x4 r6.1)), (3, .int x3), (6, .int r6.1), (5, .int x5), (0, .ref (xa E 186)), (1, .int b1), (2, .int b2)]) hx hb dX13_ear_67 hl (by decide) rfl (fun ls hl => ?_)
          refine lv_iinc (k := 3) (v := (x5 + 1)) (lv' := [(5, .int (x5 + 1)), (4, .int (fJ3_min x4 r6.1)), (3, .int x3), (6, .int r6.1), (0, .ref (xa E 186)), (1, .int b1), (2, .int b2)]) hx hb dX13_ear_69 hl rfl rfl (by decide) rfl (fun ls hl => ?_)
          refine lv_goto (tgt := 29) hx hb dX13_ear_72 (by decide) ?_
          exact ih x3 (fJ3_min x4 r6.1) (x5 + 1) r6.2 _ h _ _ _ hW hS (lv_sub hl [0, 1, 2, 4, 5, 6] rfl) kk
        · rw [if_neg c7] at h
          refine lv_iload hx hb dX13_ear_53 (lv_at hl 1 rfl) ?_
          refine lv_goto (tgt := 59) hx hb dX13_ear_55 (by decide) ?_
          refine lv_istore_n (lv' := [(3, .int x5), (6, .int r6.1), (5, .int x5), (4, .int x4), (0, .ref (xa E 186)), (1, .int b1), (2, .int b2)]) hx hb dX13_ear_59 rfl hl (by decide) rfl (fun ls hl => ?_)
          refine lv_iload hx hb dX13_ear_60 (lv_at hl 3 rfl) ?_
          refine lv_iload hx hb dX13_ear_62 (lv_at hl 1 rfl) ?_
          refine x_backi (va_runS (As := [.int x4, .int r6.1]) (rest := []) F.1 (mJ3_min l E r6.2 x4 r6.1) (va_cwS 2 hts (lw_S q1342 q597 q116 q598) rfl rfl rfl (by decide +kernel) ⟨Nat.le_of_ble_eq_true rfl, Nat.le_of_ble_eq_true rfl⟩) ⟨xPc.blind, F.pre hW hS [.int x4, .int r6.1]⟩ rfl rfl hl.1 rfl (lv_room (Nat.le_of_ble_eq_true rfl)) dX13_ear_64 ⟨Nat.le_refl _, Nat.le_refl _⟩) hS (fun H locs hW hS => ?_)
          refine lv_istore (lv' := [(4, .int (fJ3_min x4 r6.1)), (3, .int x5), (6, .int r6.1), (5, .int x5), (0, .ref (xa E 186)), (1, .int b1), (2, .int b2)]) hx hb dX13_ear_67 hl (by decide) rfl (fun ls hl => ?_)
          refine lv_iinc (k := 3) (v := (x5 + 1)) (lv' := [(5, .int (x5 + 1)), (4, .int (fJ3_min x4 r6.1)), (3, .int x5), (6, .int r6.1), (0, .ref (xa E 186)), (1, .int b1), (2, .int b2)]) hx hb dX13_ear_69 hl rfl rfl (by decide) rfl (fun ls hl => ?_)
          refine lv_goto (tgt := 29) hx hb dX13_ear_72 (by decide) ?_
          exact ih x5 (fJ3_min x4 r6.1) (x5 + 1) r6.2 _ h _ _ _ hW hS (lv_sub hl [0, 1, 2, 4, 5, 6] rfl) kk
set_option maxHeartbeats 4000000 in
theorem mX13_ear (l : Launch) (E : xE) (σ : xM) (a1 : Int32) (a2 : Int32) (r : Int32) (σ' : xM) (h : fX13_ear σ a1 a2 = some (r, σ')) : Met l yX13_ear (ws_ yX13_ear cX13_ear 7 (some .int)) ({ frames := 5, cells := 0, slots := 0, locals := 115 } : Room) (xPc E σ [.ref (xa E 186), .int a1, .int a2]) (xQc E (.returned (some (.int r))) σ') 0 0 (xA E) := by
  refine x_of (C := RX13) (n := "ear") (d := "(II)I") (r := (some .int)) (by decide) rfl (by first | decide | exact Nat.le_of_ble_eq_true rfl) ?_
  intro p e s m below meth c ls F hr hlk hW hS hl
  have hl : lv_has ls 7 [(0, .ref (xa E 186)), (1, .int a1), (2, .int a2)] := hl
  obtain ⟨hx, hb, hml, hown, hts⟩ := id F.1
  have hK := F.2.1.1
  unfold fX13_ear at h
  refine lv_aload_n hx hb dX13_ear_0 rfl (lv_at hl 0 rfl) ?_
  refine lv_iload_n hx hb dX13_ear_1 rfl (lv_at hl 1 rfl) ?_
  refine lv_iload_n hx hb dX13_ear_2 rfl (lv_at hl 2 rfl) ?_
  cases g1 : fX13_lacksOf σ a1 a2 with
  | none => rw [g1] at h; cases h
  | some r2 =>
    rw [g1, Option.bind_some] at h
    refine x_backi (va_runV (C := RX13) (b := (xa E 186)) (As := [.int a1, .int a2]) (rest := []) F.1 (mX13_lacksOf l E σ a1 a2 r2 g1) (cwV 2 hts (lw_V q1499 q1501 qs78 q115 q1502) rfl rfl rfl (by decide +kernel) ⟨Nat.le_of_ble_eq_true rfl, Nat.le_of_ble_eq_true rfl⟩) ⟨xPc.blind, va_recv hK (xO_M hW) (ci := 13) (q0 := 0) rfl rfl, F.pre hW hS (.ref (xa E 186) :: [.int a1, .int a2])⟩ rfl rfl hl.1 rfl (lv_room (Nat.le_of_ble_eq_true rfl)) dX13_ear_3 ⟨Nat.le_refl _, Nat.le_refl _⟩) hS (fun H locs hW hS => ?_)
    refine lv_if_eq (tgt := 20) hx hb dX13_ear_6 (by decide) (fun c3 => ?_) (fun c3 => ?_)
    · rw [if_pos c3] at h
      refine lv_iconst (v := 0) hx hb dX13_ear_20 (by decide) ?_
      refine lv_istore_n (lv' := [(3, .int 0), (0, .ref (xa E 186)), (1, .int a1), (2, .int a2)]) hx hb dX13_ear_21 rfl hl (by decide) rfl (fun ls hl => ?_)
      refine lv_ldc (v := 1000000) hx hb hown (hts _ q1457) dX13_ear_22 ?_
      refine lv_istore (lv' := [(4, .int 1000000), (3, .int 0), (0, .ref (xa E 186)), (1, .int a1), (2, .int a2)]) hx hb dX13_ear_24 hl (by decide) rfl (fun ls hl => ?_)
      refine lv_iconst (v := 0) hx hb dX13_ear_26 (by decide) ?_
      refine lv_istore (lv' := [(5, .int 0), (4, .int 1000000), (3, .int 0), (0, .ref (xa E 186)), (1, .int a1), (2, .int a2)]) hx hb dX13_ear_27 hl (by decide) rfl (fun ls hl => ?_)
      cases g8 : gX13_ear_29 a1 a2 xfu 0 1000000 0 σ with
      | none => rw [g8] at h; cases h
      | some q9 =>
        rw [g8, Option.bind_some] at h
        refine lX13_ear_29 F xfu 0 1000000 0 σ q9 g8 _ _ _ hW hS (lv_sub hl [0, 1, 2, 3, 4, 5] rfl) (fun H locs ls hW hS hl => ?_)
        refine lv_iload hx hb dX13_ear_75 (lv_at hl 1 rfl) ?_
        refine lv_if_ne (tgt := 89) hx hb dX13_ear_77 (by decide) (fun c10 => ?_) (fun c10 => ?_)
        · rw [if_neg c10] at h
          refine lv_iload_n hx hb dX13_ear_89 rfl (lv_at hl 2 rfl) ?_
          obtain ⟨h1, h2⟩ := Prod.mk.inj (Option.some.inj h); subst h1; subst h2
          exact x_iret F hr hlk hW hS dX13_ear_90
        · rw [if_pos c10] at h
          refine lv_aload_n hx hb dX13_ear_80 rfl (lv_at hl 3 rfl) ?_
          refine lv_ldc (v := (-1000004)) hx hb hown (hts _ q1462) dX13_ear_81 ?_
          cases g11 : fX13_finding q9.2.2.2 (-1000004) with
          | none => rw [g11] at h; cases h
          | some r12 =>
            rw [g11, Option.bind_some] at h
            refine x_backi (va_runV (C := RX13) (b := (xa E 186)) (As := [.int (-1000004)]) (rest := []) F.1 (mX13_finding l E q9.2.2.2 (-1000004) r12.1 r12.2 g11) (cwV 1 hts (lw_V q1280 q1282 qs52 q115 q1283) rfl rfl rfl (by decide +kernel) ⟨Nat.le_of_ble_eq_true rfl, Nat.le_of_ble_eq_true rfl⟩) ⟨xPc.blind, va_recv hK (xO_M hW) (ci := 13) (q0 := 0) rfl rfl, F.pre hW hS (.ref (xa E 186) :: [.int (-1000004)])⟩ rfl rfl hl.1 rfl (lv_room (Nat.le_of_ble_eq_true rfl)) dX13_ear_83 ⟨Nat.le_refl _, Nat.le_refl _⟩) hS (fun H locs hW hS => ?_)
            refine lv_goto (tgt := 90) hx hb dX13_ear_86 (by decide) ?_
            obtain ⟨h1, h2⟩ := Prod.mk.inj (Option.some.inj h); subst h1; subst h2
            exact x_iret F hr hlk hW hS dX13_ear_90
    · rw [if_neg c3] at h
      refine lv_aload_n hx hb dX13_ear_9 rfl (lv_at hl 0 rfl) ?_
      refine lv_aload_n hx hb dX13_ear_10 rfl (lv_at hl 0 rfl) ?_
      refine lv_iload_n hx hb dX13_ear_11 rfl (lv_at hl 1 rfl) ?_
      refine lv_iload_n hx hb dX13_ear_12 rfl (lv_at hl 2 rfl) ?_
      refine x_backi (va_runV (C := RX13) (b := (xa E 186)) (As := [.int a1, .int a2]) (rest := [.ref (xa E 186)]) F.1 (mX13_lacksOf l E σ a1 a2 r2 g1) (cwV 2 hts (lw_V q1499 q1501 qs78 q115 q1502) rfl rfl rfl (by decide +kernel) ⟨Nat.le_of_ble_eq_true rfl, Nat.le_of_ble_eq_true rfl⟩) ⟨xPc.blind, va_recv hK (xO_M hW) (ci := 13) (q0 := 0) rfl rfl, F.pre hW hS (.ref (xa E 186) :: [.int a1, .int a2])⟩ rfl rfl hl.1 rfl (lv_room (Nat.le_of_ble_eq_true rfl)) dX13_ear_13 ⟨Nat.le_refl _, Nat.le_refl _⟩) hS (fun H locs hW hS => ?_)
      cases g13 : fX13_finding σ r2 with
      | none => rw [g13] at h; cases h
      | some r14 =>
        rw [g13, Option.bind_some] at h
        refine x_backi (va_runV (C := RX13) (b := (xa E 186)) (As := [.int r2]) (rest := []) F.1 (mX13_finding l E σ r2 r14.1 r14.2 g13) (cwV 1 hts (lw_V q1280 q1282 qs52 q115 q1283) rfl rfl rfl (by decide +kernel) ⟨Nat.le_of_ble_eq_true rfl, Nat.le_of_ble_eq_true rfl⟩) ⟨xPc.blind, va_recv hK (xO_M hW) (ci := 13) (q0 := 0) rfl rfl, F.pre hW hS (.ref (xa E 186) :: [.int r2])⟩ rfl rfl hl.1 rfl (lv_room (Nat.le_of_ble_eq_true rfl)) dX13_ear_16 ⟨Nat.le_refl _, Nat.le_refl _⟩) hS (fun H locs hW hS => ?_)
        obtain ⟨h1, h2⟩ := Prod.mk.inj (Option.some.inj h); subst h1; subst h2
        exact x_iret F hr hlk hW hS dX13_ear_19
/-! WildBellsModel.whose(I)I -/
def gX13_whose_24 (σ : xM) (b1 : Int32) : Nat → Int32 → Int32 → Option (Int32 × Int32)
  | 0, _, _ => none
  | n + 1, x2, x3 => if (σ 20 ((2 : Int32).toNatClampNeg)) ≤ x3 then (some (x2, x3)) else ((fX13_isCaught σ x3).bind (fun r6 => if r6 = 0 then ((fX13_bellIs σ x3 3).bind (fun r9 => (fX13_bellIs σ x3 1).bind (fun r11 => (fX13_isSo σ b1 r9 r11).bind (fun r13 => if r13 = 0 then (gX13_whose_24 σ b1 n (x2 ||| 0) (x3 + 1)) else (gX13_whose_24 σ b1 n (x2 ||| (1 <<< (x3 &&& 31))) (x3 + 1)))))) else (gX13_whose_24 σ b1 n (x2 ||| 0) (x3 + 1))))
def fX13_whose (σ : xM) (a1 : Int32) : Option (Int32 × xM) :=
  (fX13_lacksOf σ a1 1).bind (fun r2 => if r2 = 0 then ((gX13_whose_24 σ a1 xfu 0 0).bind (fun q16 => some (q16.1, σ))) else ((fX13_finding σ r2).bind (fun r18 => some (r18.1, r18.2))))
set_option maxHeartbeats 4000000 in
theorem lX13_whose_24 {p : Program} {l : Launch} {e : Env} {s : State} {m : MethodId} {av : Array Value} {below : List Frame} {meth : Method} {c : Code} {Q : State → Prop} {E : xE} {σ : xM} {b1 : Int32} (F : xFx p m c cX13_whose 4 s av RX13 E) : ∀ (n : Nat) (x2 : Int32) (x3 : Int32) (q : (Int32 × Int32)), gX13_whose_24 σ b1 n x2 x3 = some q → ∀ (H : Heap) (locs : List Loc) (ls : Array Slot), xW E σ H → va_S (xA E) s.heap H locs → lv_has ls 4 [(3, .int x3), (2, .int x2), (0, .ref (xa E 186)), (1, .int b1)] → (∀ (H : Heap) (locs : List Loc) (ls : Array Slot), xW E σ H → va_S (xA E) s.heap H locs → lv_has ls 4 [(3, .int q.2), (2, .int q.1), (0, .ref (xa E 186)), (1, .int b1)] → W p l e ({ frames := 4, cells := 0, slots := 0, locals := 89 } : Room) s m av below meth c H locs 0 0 Q (F0 m 78 ls [])) → W p l e ({ frames := 4, cells := 0, slots := 0, locals := 89 } : Room) s m av below meth c H locs 0 0 Q (F0 m 24 ls []) := by
  obtain ⟨hx, hb, hml, hown, hts⟩ := id F.1
  have hK := F.2.1.1
  intro n
  induction n with
  | zero =>
    intro x2 x3 q h
    cases h
  | succ n ih =>
    intro x2 x3 q h H locs ls hW hS hl kk
    rw [gX13_whose_24] at h
    refine lv_iload_n hx hb dX13_whose_24 rfl (lv_at hl 0 rfl) ?_
    refine lv_aload_n hx hb dX13_whose_25 rfl (lv_at hl 2 rfl) ?_
    refine va_get (D := xD E) (ci := 13) (v := .ref (xa E 187)) (C := RX13) (T := TX13) (N := 24) hx hb hts in_X13 hown hK (xO_M hW) 0 rfl rfl 0 (by decide) (hts _ q1196) (fun _ h9 => h9) rfl dX13_whose_26 ?_
    refine lv_iconst (v := 2) hx hb dX13_whose_29 (by decide) ?_
    refine va_iald hx hb hK (xV_p hW xp_187) 0 0 rfl rfl (x_lit (by decide)) dX13_whose_30 ?_
    refine lv_icmp_ge (tgt := 78) hx hb dX13_whose_31 (by decide) (fun c4 => ?_) (fun c4 => ?_)
    · rw [if_pos c4] at h
      have h := Option.some.inj h; subst h
      exact kk _ _ _ hW hS (lv_sub hl [0, 1, 2, 3] rfl)
    · rw [if_neg c4] at h
      refine lv_iload_n hx hb dX13_whose_34 rfl (lv_at hl 1 rfl) ?_
      refine lv_aload_n hx hb dX13_whose_35 rfl (lv_at hl 2 rfl) ?_
      refine lv_iload_n hx hb dX13_whose_36 rfl (lv_at hl 0 rfl) ?_
      cases g5 : fX13_isCaught σ x3 with
      | none => rw [g5] at h; cases h
      | some r6 =>
        rw [g5, Option.bind_some] at h
        refine x_backi (va_runV (C := RX13) (b := (xa E 186)) (As := [.int x3]) (rest := [.int x2]) F.1 (mX13_isCaught l E σ x3 r6 g5) (cwV 1 hts (lw_V q1353 q1355 qs60 q115 q1356) rfl rfl rfl (by decide +kernel) ⟨Nat.le_of_ble_eq_true rfl, Nat.le_of_ble_eq_true rfl⟩) ⟨xPc.blind, va_recv hK (xO_M hW) (ci := 13) (q0 := 0) rfl rfl, F.pre hW hS (.ref (xa E 186) :: [.int x3])⟩ rfl rfl hl.1 rfl (lv_room (Nat.le_of_ble_eq_true rfl)) dX13_whose_37 ⟨Nat.le_refl _, Nat.le_refl _⟩) hS (fun H locs hW hS => ?_)
        refine lv_if_ne (tgt := 69) hx hb dX13_whose_40 (by decide) (fun c7 => ?_) (fun c7 => ?_)
        · rw [if_neg c7] at h
          refine lv_iconst (v := 0) hx hb dX13_whose_69 (by decide) ?_
          refine lv_ior hx hb dX13_whose_70 ?_
          refine lv_istore_n (lv' := [(2, .int (x2 ||| 0)), (3, .int x3), (0, .ref (xa E 186)), (1, .int b1)]) hx hb dX13_whose_71 rfl hl (by decide) rfl (fun ls hl => ?_)
          refine lv_iinc (k := 1) (v := (x3 + 1)) (lv' := [(3, .int (x3 + 1)), (2, .int (x2 ||| 0)), (0, .ref (xa E 186)), (1, .int b1)]) hx hb dX13_whose_72 hl rfl rfl (by decide) rfl (fun ls hl => ?_)
          refine lv_goto (tgt := 24) hx hb dX13_whose_75 (by decide) ?_
          exact ih (x2 ||| 0) (x3 + 1) _ h _ _ _ hW hS (lv_sub hl [0, 1, 2, 3] rfl) kk
        · rw [if_pos c7] at h
          refine lv_aload_n hx hb dX13_whose_43 rfl (lv_at hl 2 rfl) ?_
          refine lv_iload_n hx hb dX13_whose_44 rfl (lv_at hl 3 rfl) ?_
          refine lv_aload_n hx hb dX13_whose_45 rfl (lv_at hl 2 rfl) ?_
          refine lv_iload_n hx hb dX13_whose_46 rfl (lv_at hl 0 rfl) ?_
          refine lv_iconst (v := 3) hx hb dX13_whose_47 (by decide) ?_
          cases g8 : fX13_bellIs σ x3 3 with
          | none => rw [g8] at h; cases h
          | some r9 =>
            rw [g8, Option.bind_some] at h
            refine x_backi (va_runV (C := RX13) (b := (xa E 186)) (As := [.int x3, .int 3]) (rest := [.int b1, .ref (xa E 186), .int x2]) F.1 (mX13_bellIs l E σ x3 3 r9 g8) (cwV 2 hts (lw_V q1326 q1328 qs56 q115 q1329) rfl rfl rfl (by decide +kernel) ⟨Nat.le_of_ble_eq_true rfl, Nat.le_of_ble_eq_true rfl⟩) ⟨xPc.blind, va_recv hK (xO_M hW) (ci := 13) (q0 := 0) rfl rfl, F.pre hW hS (.ref (xa E 186) :: [.int x3, .int 3])⟩ rfl rfl hl.1 rfl (lv_room (Nat.le_of_ble_eq_true rfl)) dX13_whose_48 ⟨Nat.le_refl _, Nat.le_refl _⟩) hS (fun H locs hW hS => ?_)
            refine lv_aload_n hx hb dX13_whose_51 rfl (lv_at hl 2 rfl) ?_
            refine lv_iload_n hx hb dX13_whose_52 rfl (lv_at hl 0 rfl) ?_
            refine lv_iconst (v := 1) hx hb dX13_whose_53 (by decide) ?_
            cases g10 : fX13_bellIs σ x3 1 with
            | none => rw [g10] at h; cases h
            | some r11 =>
              rw [g10, Option.bind_some] at h
              refine x_backi (va_runV (C := RX13) (b := (xa E 186)) (As := [.int x3, .int 1]) (rest := [.int r9, .int b1, .ref (xa E 186), .int x2]) F.1 (mX13_bellIs l E σ x3 1 r11 g10) (cwV 2 hts (lw_V q1326 q1328 qs56 q115 q1329) rfl rfl rfl (by decide +kernel) ⟨Nat.le_of_ble_eq_true rfl, Nat.le_of_ble_eq_true rfl⟩) ⟨xPc.blind, va_recv hK (xO_M hW) (ci := 13) (q0 := 0) rfl rfl, F.pre hW hS (.ref (xa E 186) :: [.int x3, .int 1])⟩ rfl rfl hl.1 rfl (lv_room (Nat.le_of_ble_eq_true rfl)) dX13_whose_54 ⟨Nat.le_refl _, Nat.le_refl _⟩) hS (fun H locs hW hS => ?_)
              cases g12 : fX13_isSo σ b1 r9 r11 with
              | none => rw [g12] at h; cases h
              | some r13 =>
                rw [g12, Option.bind_some] at h
                refine x_backi (va_runV (C := RX13) (b := (xa E 186)) (As := [.int b1, .int r9, .int r11]) (rest := [.int x2]) F.1 (mX13_isSo l E σ b1 r9 r11 r13 g12) (cwV 3 hts (lw_V q1523 q1525 qs83 q115 q1526) rfl rfl rfl (by decide +kernel) ⟨Nat.le_of_ble_eq_true rfl, Nat.le_of_ble_eq_true rfl⟩) ⟨xPc.blind, va_recv hK (xO_M hW) (ci := 13) (q0 := 0) rfl rfl, F.pre hW hS (.ref (xa E 186) :: [.int b1, .int r9, .int r11])⟩ rfl rfl hl.1 rfl (lv_room (Nat.le_of_ble_eq_true rfl)) dX13_whose_57 ⟨Nat.le_refl _, Nat.le_refl _⟩) hS (fun H locs hW hS => ?_)
                refine lv_if_eq (tgt := 69) hx hb dX13_whose_60 (by decide) (fun c14 => ?_) (fun c14 => ?_)
                · rw [if_pos c14] at h
                  refine lv_iconst (v := 0) hx hb dX13_whose_69 (by decide) ?_
                  refine lv_ior hx hb dX13_whose_70 ?_
                  refine lv_istore_n (lv' := [(2, .int (x2 ||| 0)), (3, .int x3), (0, .ref (xa E 186)), (1, .int b1)]) hx hb dX13_whose_71 rfl hl (by decide) rfl (fun ls hl => ?_)
                  refine lv_iinc (k := 1) (v := (x3 + 1)) (lv' := [(3, .int (x3 + 1)), (2, .int (x2 ||| 0)), (0, .ref (xa E 186)), (1, .int b1)]) hx hb dX13_whose_72 hl rfl rfl (by decide) rfl (fun ls hl => ?_)
                  refine lv_goto (tgt := 24) hx hb dX13_whose_75 (by decide) ?_
                  exact ih (x2 ||| 0) (x3 + 1) _ h _ _ _ hW hS (lv_sub hl [0, 1, 2, 3] rfl) kk
                · rw [if_neg c14] at h
                  refine lv_iconst (v := 1) hx hb dX13_whose_63 (by decide) ?_
                  refine lv_iload_n hx hb dX13_whose_64 rfl (lv_at hl 0 rfl) ?_
                  refine lv_ishl hx hb dX13_whose_65 ?_
                  refine lv_goto (tgt := 70) hx hb dX13_whose_66 (by decide) ?_
                  refine lv_ior hx hb dX13_whose_70 ?_
                  refine lv_istore_n (lv' := [(2, .int (x2 ||| (1 <<< (x3 &&& 31)))), (3, .int x3), (0, .ref (xa E 186)), (1, .int b1)]) hx hb dX13_whose_71 rfl hl (by decide) rfl (fun ls hl => ?_)
                  refine lv_iinc (k := 1) (v := (x3 + 1)) (lv' := [(3, .int (x3 + 1)), (2, .int (x2 ||| (1 <<< (x3 &&& 31)))), (0, .ref (xa E 186)), (1, .int b1)]) hx hb dX13_whose_72 hl rfl rfl (by decide) rfl (fun ls hl => ?_)
                  refine lv_goto (tgt := 24) hx hb dX13_whose_75 (by decide) ?_
                  exact ih (x2 ||| (1 <<< (x3 &&& 31))) (x3 + 1) _ h _ _ _ hW hS (lv_sub hl [0, 1, 2, 3] rfl) kk
set_option maxHeartbeats 4000000 in
theorem mX13_whose (l : Launch) (E : xE) (σ : xM) (a1 : Int32) (r : Int32) (σ' : xM) (h : fX13_whose σ a1 = some (r, σ')) : Met l yX13_whose (ws_ yX13_whose cX13_whose 4 (some .int)) ({ frames := 4, cells := 0, slots := 0, locals := 89 } : Room) (xPc E σ [.ref (xa E 186), .int a1]) (xQc E (.returned (some (.int r))) σ') 0 0 (xA E) := by
  refine x_of (C := RX13) (n := "whose") (d := "(I)I") (r := (some .int)) (by decide) rfl (by first | decide | exact Nat.le_of_ble_eq_true rfl) ?_
  intro p e s m below meth c ls F hr hlk hW hS hl
  have hl : lv_has ls 4 [(0, .ref (xa E 186)), (1, .int a1)] := hl
  obtain ⟨hx, hb, hml, hown, hts⟩ := id F.1
  have hK := F.2.1.1
  unfold fX13_whose at h
  refine lv_aload_n hx hb dX13_whose_0 rfl (lv_at hl 0 rfl) ?_
  refine lv_iload_n hx hb dX13_whose_1 rfl (lv_at hl 1 rfl) ?_
  refine lv_iconst (v := 1) hx hb dX13_whose_2 (by decide) ?_
  cases g1 : fX13_lacksOf σ a1 1 with
  | none => rw [g1] at h; cases h
  | some r2 =>
    rw [g1, Option.bind_some] at h
    refine x_backi (va_runV (C := RX13) (b := (xa E 186)) (As := [.int a1, .int 1]) (rest := []) F.1 (mX13_lacksOf l E σ a1 1 r2 g1) (cwV 2 hts (lw_V q1499 q1501 qs78 q115 q1502) rfl rfl rfl (by decide +kernel) ⟨Nat.le_of_ble_eq_true rfl, Nat.le_of_ble_eq_true rfl⟩) ⟨xPc.blind, va_recv hK (xO_M hW) (ci := 13) (q0 := 0) rfl rfl, F.pre hW hS (.ref (xa E 186) :: [.int a1, .int 1])⟩ rfl rfl hl.1 rfl (lv_room (Nat.le_of_ble_eq_true rfl)) dX13_whose_3 ⟨Nat.le_refl _, Nat.le_refl _⟩) hS (fun H locs hW hS => ?_)
    refine lv_if_eq (tgt := 20) hx hb dX13_whose_6 (by decide) (fun c3 => ?_) (fun c3 => ?_)
    · rw [if_pos c3] at h
      refine lv_iconst (v := 0) hx hb dX13_whose_20 (by decide) ?_
      refine lv_istore_n (lv' := [(2, .int 0), (0, .ref (xa E 186)), (1, .int a1)]) hx hb dX13_whose_21 rfl hl (by decide) rfl (fun ls hl => ?_)
      refine lv_iconst (v := 0) hx hb dX13_whose_22 (by decide) ?_
      refine lv_istore_n (lv' := [(3, .int 0), (2, .int 0), (0, .ref (xa E 186)), (1, .int a1)]) hx hb dX13_whose_23 rfl hl (by decide) rfl (fun ls hl => ?_)
      cases g15 : gX13_whose_24 σ a1 xfu 0 0 with
      | none => rw [g15] at h; cases h
      | some q16 =>
        rw [g15, Option.bind_some] at h
        refine lX13_whose_24 F xfu 0 0 q16 g15 _ _ _ hW hS (lv_sub hl [0, 1, 2, 3] rfl) (fun H locs ls hW hS hl => ?_)
        refine lv_iload_n hx hb dX13_whose_78 rfl (lv_at hl 1 rfl) ?_
        obtain ⟨h1, h2⟩ := Prod.mk.inj (Option.some.inj h); subst h1; subst h2
        exact x_iret F hr hlk hW hS dX13_whose_79
    · rw [if_neg c3] at h
      refine lv_aload_n hx hb dX13_whose_9 rfl (lv_at hl 0 rfl) ?_
      refine lv_aload_n hx hb dX13_whose_10 rfl (lv_at hl 0 rfl) ?_
      refine lv_iload_n hx hb dX13_whose_11 rfl (lv_at hl 1 rfl) ?_
      refine lv_iconst (v := 1) hx hb dX13_whose_12 (by decide) ?_
      refine x_backi (va_runV (C := RX13) (b := (xa E 186)) (As := [.int a1, .int 1]) (rest := [.ref (xa E 186)]) F.1 (mX13_lacksOf l E σ a1 1 r2 g1) (cwV 2 hts (lw_V q1499 q1501 qs78 q115 q1502) rfl rfl rfl (by decide +kernel) ⟨Nat.le_of_ble_eq_true rfl, Nat.le_of_ble_eq_true rfl⟩) ⟨xPc.blind, va_recv hK (xO_M hW) (ci := 13) (q0 := 0) rfl rfl, F.pre hW hS (.ref (xa E 186) :: [.int a1, .int 1])⟩ rfl rfl hl.1 rfl (lv_room (Nat.le_of_ble_eq_true rfl)) dX13_whose_13 ⟨Nat.le_refl _, Nat.le_refl _⟩) hS (fun H locs hW hS => ?_)
      cases g17 : fX13_finding σ r2 with
      | none => rw [g17] at h; cases h
      | some r18 =>
        rw [g17, Option.bind_some] at h
        refine x_backi (va_runV (C := RX13) (b := (xa E 186)) (As := [.int r2]) (rest := []) F.1 (mX13_finding l E σ r2 r18.1 r18.2 g17) (cwV 1 hts (lw_V q1280 q1282 qs52 q115 q1283) rfl rfl rfl (by decide +kernel) ⟨Nat.le_of_ble_eq_true rfl, Nat.le_of_ble_eq_true rfl⟩) ⟨xPc.blind, va_recv hK (xO_M hW) (ci := 13) (q0 := 0) rfl rfl, F.pre hW hS (.ref (xa E 186) :: [.int r2])⟩ rfl rfl hl.1 rfl (lv_room (Nat.le_of_ble_eq_true rfl)) dX13_whose_16 ⟨Nat.le_refl _, Nat.le_refl _⟩) hS (fun H locs hW hS => ?_)
        obtain ⟨h1, h2⟩ := Prod.mk.inj (Option.some.inj h); subst h1; subst h2
        exact x_iret F hr hlk hW hS dX13_whose_19
/-! WildBellsModel.stockBehind(III)I -/
def gX13_stockBehind_5 (b1 : Int32) (b2 : Int32) : Nat → Int32 → Int32 → Option (Int32 × Int32)
  | 0, _, _ => none
  | n + 1, x3, x4 => if b2 ≤ x4 then (some (x3, x4)) else (gX13_stockBehind_5 b1 b2 n (fJ3_min 9999 ((x3 - (fJ3_min b1 x3)) + ((x3 - (fJ3_min b1 x3)) / 10))) (x4 + 1))
def fX13_stockBehind (a0 : Int32) (a1 : Int32) (a2 : Int32) : Option Int32 :=
  (gX13_stockBehind_5 a1 a2 xfu a0 0).bind (fun q3 => some q3.1)
set_option maxHeartbeats 4000000 in
theorem lX13_stockBehind_5 {p : Program} {l : Launch} {e : Env} {s : State} {m : MethodId} {av : Array Value} {below : List Frame} {meth : Method} {c : Code} {Q : State → Prop} {E : xE} {σ : xM} {b0 : Int32} {b1 : Int32} {b2 : Int32} (F : xFx p m c cX13_stockBehind 5 s av RX13 E) : ∀ (n : Nat) (x3 : Int32) (x4 : Int32) (q : (Int32 × Int32)), gX13_stockBehind_5 b1 b2 n x3 x4 = some q → ∀ (H : Heap) (locs : List Loc) (ls : Array Slot), xW E σ H → va_S (xA E) s.heap H locs → lv_has ls 5 [(4, .int x4), (3, .int x3), (0, .int b0), (1, .int b1), (2, .int b2)] → (∀ (H : Heap) (locs : List Loc) (ls : Array Slot), xW E σ H → va_S (xA E) s.heap H locs → lv_has ls 5 [(4, .int q.2), (3, .int q.1), (0, .int b0), (1, .int b1), (2, .int b2)] → W p l e ({ frames := 1, cells := 0, slots := 0, locals := 21 } : Room) s m av below meth c H locs 0 0 Q (F0 m 38 ls [])) → W p l e ({ frames := 1, cells := 0, slots := 0, locals := 21 } : Room) s m av below meth c H locs 0 0 Q (F0 m 5 ls []) := by
  obtain ⟨hx, hb, hml, hown, hts⟩ := id F.1
  have hK := F.2.1.1
  intro n
  induction n with
  | zero =>
    intro x3 x4 q h
    cases h
  | succ n ih =>
    intro x3 x4 q h H locs ls hW hS hl kk
    rw [gX13_stockBehind_5] at h
    refine lv_iload hx hb dX13_stockBehind_5 (lv_at hl 0 rfl) ?_
    refine lv_iload_n hx hb dX13_stockBehind_7 rfl (lv_at hl 4 rfl) ?_
    refine lv_icmp_ge (tgt := 38) hx hb dX13_stockBehind_8 (by decide) (fun c1 => ?_) (fun c1 => ?_)
    · rw [if_pos c1] at h
      have h := Option.some.inj h; subst h
      exact kk _ _ _ hW hS (lv_sub hl [0, 1, 2, 3, 4] rfl)
    · rw [if_neg c1] at h
      refine lv_iload_n hx hb dX13_stockBehind_11 rfl (lv_at hl 1 rfl) ?_
      refine lv_iload_n hx hb dX13_stockBehind_12 rfl (lv_at hl 3 rfl) ?_
      refine lv_iload_n hx hb dX13_stockBehind_13 rfl (lv_at hl 1 rfl) ?_
      refine x_backi (va_runS (As := [.int b1, .int x3]) (rest := [.int x3]) F.1 (mJ3_min l E σ b1 x3) (va_cwS 2 hts (lw_S q1342 q597 q116 q598) rfl rfl rfl (by decide +kernel) ⟨Nat.le_of_ble_eq_true rfl, Nat.le_of_ble_eq_true rfl⟩) ⟨xPc.blind, F.pre hW hS [.int b1, .int x3]⟩ rfl rfl hl.1 rfl (lv_room (Nat.le_of_ble_eq_true rfl)) dX13_stockBehind_14 ⟨Nat.le_refl _, Nat.le_refl _⟩) hS (fun H locs hW hS => ?_)
      refine lv_isub hx hb dX13_stockBehind_17 ?_
      refine lv_istore_n (lv' := [(3, .int (x3 - (fJ3_min b1 x3))), (4, .int x4), (0, .int b0), (1, .int b1), (2, .int b2)]) hx hb dX13_stockBehind_18 rfl hl (by decide) rfl (fun ls hl => ?_)
      refine lv_sipush (v := 9999) hx hb dX13_stockBehind_19 (by decide) ?_
      refine lv_iload_n hx hb dX13_stockBehind_22 rfl (lv_at hl 0 rfl) ?_
      refine lv_iload_n hx hb dX13_stockBehind_23 rfl (lv_at hl 0 rfl) ?_
      refine lv_bipush (v := 10) hx hb dX13_stockBehind_24 (by decide) ?_
      refine lv_idiv hx hb dX13_stockBehind_26 (by decide) ?_
      refine lv_iadd hx hb dX13_stockBehind_27 ?_
      refine x_backi (va_runS (As := [.int 9999, .int ((x3 - (fJ3_min b1 x3)) + ((x3 - (fJ3_min b1 x3)) / 10))]) (rest := []) F.1 (mJ3_min l E σ 9999 ((x3 - (fJ3_min b1 x3)) + ((x3 - (fJ3_min b1 x3)) / 10))) (va_cwS 2 hts (lw_S q1342 q597 q116 q598) rfl rfl rfl (by decide +kernel) ⟨Nat.le_of_ble_eq_true rfl, Nat.le_of_ble_eq_true rfl⟩) ⟨xPc.blind, F.pre hW hS [.int 9999, .int ((x3 - (fJ3_min b1 x3)) + ((x3 - (fJ3_min b1 x3)) / 10))]⟩ rfl rfl hl.1 rfl (lv_room (Nat.le_of_ble_eq_true rfl)) dX13_stockBehind_28 ⟨Nat.le_refl _, Nat.le_refl _⟩) hS (fun H locs hW hS => ?_)
      refine lv_istore_n (lv' := [(3, .int (fJ3_min 9999 ((x3 - (fJ3_min b1 x3)) + ((x3 - (fJ3_min b1 x3)) / 10)))), (4, .int x4), (0, .int b0), (1, .int b1), (2, .int b2)]) hx hb dX13_stockBehind_31 rfl hl (by decide) rfl (fun ls hl => ?_)
      refine lv_iinc (k := 1) (v := (x4 + 1)) (lv' := [(4, .int (x4 + 1)), (3, .int (fJ3_min 9999 ((x3 - (fJ3_min b1 x3)) + ((x3 - (fJ3_min b1 x3)) / 10)))), (0, .int b0), (1, .int b1), (2, .int b2)]) hx hb dX13_stockBehind_32 hl rfl rfl (by decide) rfl (fun ls hl => ?_)
      refine lv_goto (tgt := 5) hx hb dX13_stockBehind_35 (by decide) ?_
      exact ih (fJ3_min 9999 ((x3 - (fJ3_min b1 x3)) + ((x3 - (fJ3_min b1 x3)) / 10))) (x4 + 1) _ h _ _ _ hW hS (lv_sub hl [0, 1, 2, 3, 4] rfl) kk
set_option maxHeartbeats 4000000 in
theorem mX13_stockBehind (l : Launch) (E : xE) (σ : xM) (a0 : Int32) (a1 : Int32) (a2 : Int32) (r : Int32) (h : fX13_stockBehind a0 a1 a2 = some r) : Met l yX13_stockBehind (ws_ yX13_stockBehind cX13_stockBehind 5 (some .int)) ({ frames := 1, cells := 0, slots := 0, locals := 21 } : Room) (xPc E σ [.int a0, .int a1, .int a2]) (xQc E (.returned (some (.int r))) σ) 0 0 (xA E) := by
  refine x_of (C := RX13) (n := "stockBehind") (d := "(III)I") (r := (some .int)) (by decide) rfl (by first | decide | exact Nat.le_of_ble_eq_true rfl) ?_
  intro p e s m below meth c ls F hr hlk hW hS hl
  have hl : lv_has ls 5 [(0, .int a0), (1, .int a1), (2, .int a2)] := hl
  obtain ⟨hx, hb, hml, hown, hts⟩ := id F.1
  have hK := F.2.1.1
  unfold fX13_stockBehind at h
  refine lv_iload_n hx hb dX13_stockBehind_0 rfl (lv_at hl 0 rfl) ?_
  refine lv_istore_n (lv' := [(3, .int a0), (0, .int a0), (1, .int a1), (2, .int a2)]) hx hb dX13_stockBehind_1 rfl hl (by decide) rfl (fun ls hl => ?_)
  refine lv_iconst (v := 0) hx hb dX13_stockBehind_2 (by decide) ?_
  refine lv_istore (lv' := [(4, .int 0), (3, .int a0), (0, .int a0), (1, .int a1), (2, .int a2)]) hx hb dX13_stockBehind_3 hl (by decide) rfl (fun ls hl => ?_)
  cases g2 : gX13_stockBehind_5 a1 a2 xfu a0 0 with
  | none => rw [g2] at h; cases h
  | some q3 =>
    rw [g2, Option.bind_some] at h
    refine lX13_stockBehind_5 F xfu a0 0 q3 g2 _ _ _ hW hS (lv_sub hl [0, 1, 2, 3, 4] rfl) (fun H locs ls hW hS hl => ?_)
    refine lv_iload_n hx hb dX13_stockBehind_38 rfl (lv_at hl 1 rfl) ?_
    have h := Option.some.inj h; subst h
    exact x_iret F hr hlk hW hS dX13_stockBehind_39
/-! WildBellsModel.stock(III)I -/
def fX13_stock (σ : xM) (a1 : Int32) (a2 : Int32) (a3 : Int32) : Option (Int32 × xM) :=
  if (fX13_within a1 0 9999) = 0 then ((fX13_finding σ (-1000001)).bind (fun r3 => some (r3.1, r3.2))) else (if (fX13_within a2 0 999) = 0 then ((fX13_finding σ (-1000001)).bind (fun r6 => some (r6.1, r6.2))) else (if (fX13_within a3 0 99) = 0 then ((fX13_finding σ (-1000001)).bind (fun r9 => some (r9.1, r9.2))) else ((fX13_stockBehind a1 a2 a3).bind (fun r11 => some (r11, σ)))))
set_option maxHeartbeats 4000000 in
theorem mX13_stock (l : Launch) (E : xE) (σ : xM) (a1 : Int32) (a2 : Int32) (a3 : Int32) (r : Int32) (σ' : xM) (h : fX13_stock σ a1 a2 a3 = some (r, σ')) : Met l yX13_stock (ws_ yX13_stock cX13_stock 4 (some .int)) ({ frames := 2, cells := 0, slots := 0, locals := 45 } : Room) (xPc E σ [.ref (xa E 186), .int a1, .int a2, .int a3]) (xQc E (.returned (some (.int r))) σ') 0 0 (xA E) := by
  refine x_of (C := RX13) (n := "stock") (d := "(III)I") (r := (some .int)) (by decide) rfl (by first | decide | exact Nat.le_of_ble_eq_true rfl) ?_
  intro p e s m below meth c ls F hr hlk hW hS hl
  have hl : lv_has ls 4 [(0, .ref (xa E 186)), (1, .int a1), (2, .int a2), (3, .int a3)] := hl
  obtain ⟨hx, hb, hml, hown, hts⟩ := id F.1
  have hK := F.2.1.1
  unfold fX13_stock at h
  refine lv_iload_n hx hb dX13_stock_0 rfl (lv_at hl 1 rfl) ?_
  refine lv_iconst (v := 0) hx hb dX13_stock_1 (by decide) ?_
  refine lv_sipush (v := 9999) hx hb dX13_stock_2 (by decide) ?_
  refine x_backi (va_runS (As := [.int a1, .int 0, .int 9999]) (rest := []) F.1 (mX13_within l E σ a1 0 9999) (va_cwS 3 hts (lw_S q1276 q1277 q115 q1278) rfl rfl rfl (by decide +kernel) ⟨Nat.le_of_ble_eq_true rfl, Nat.le_of_ble_eq_true rfl⟩) ⟨xPc.blind, F.pre hW hS [.int a1, .int 0, .int 9999]⟩ rfl rfl hl.1 rfl (lv_room (Nat.le_of_ble_eq_true rfl)) dX13_stock_5 ⟨Nat.le_refl _, Nat.le_refl _⟩) hS (fun H locs hW hS => ?_)
  refine lv_if_eq (tgt := 41) hx hb dX13_stock_8 (by decide) (fun c1 => ?_) (fun c1 => ?_)
  · rw [if_pos c1] at h
    refine lv_aload_n hx hb dX13_stock_41 rfl (lv_at hl 0 rfl) ?_
    refine lv_ldc (v := (-1000001)) hx hb hown (hts _ q1279) dX13_stock_42 ?_
    cases g2 : fX13_finding σ (-1000001) with
    | none => rw [g2] at h; cases h
    | some r3 =>
      rw [g2, Option.bind_some] at h
      refine x_backi (va_runV (C := RX13) (b := (xa E 186)) (As := [.int (-1000001)]) (rest := []) F.1 (mX13_finding l E σ (-1000001) r3.1 r3.2 g2) (cwV 1 hts (lw_V q1280 q1282 qs52 q115 q1283) rfl rfl rfl (by decide +kernel) ⟨Nat.le_of_ble_eq_true rfl, Nat.le_of_ble_eq_true rfl⟩) ⟨xPc.blind, va_recv hK (xO_M hW) (ci := 13) (q0 := 0) rfl rfl, F.pre hW hS (.ref (xa E 186) :: [.int (-1000001)])⟩ rfl rfl hl.1 rfl (lv_room (Nat.le_of_ble_eq_true rfl)) dX13_stock_44 ⟨Nat.le_refl _, Nat.le_refl _⟩) hS (fun H locs hW hS => ?_)
      obtain ⟨h1, h2⟩ := Prod.mk.inj (Option.some.inj h); subst h1; subst h2
      exact x_iret F hr hlk hW hS dX13_stock_47
  · rw [if_neg c1] at h
    refine lv_iload_n hx hb dX13_stock_11 rfl (lv_at hl 2 rfl) ?_
    refine lv_iconst (v := 0) hx hb dX13_stock_12 (by decide) ?_
    refine lv_sipush (v := 999) hx hb dX13_stock_13 (by decide) ?_
    refine x_backi (va_runS (As := [.int a2, .int 0, .int 999]) (rest := []) F.1 (mX13_within l E σ a2 0 999) (va_cwS 3 hts (lw_S q1276 q1277 q115 q1278) rfl rfl rfl (by decide +kernel) ⟨Nat.le_of_ble_eq_true rfl, Nat.le_of_ble_eq_true rfl⟩) ⟨xPc.blind, F.pre hW hS [.int a2, .int 0, .int 999]⟩ rfl rfl hl.1 rfl (lv_room (Nat.le_of_ble_eq_true rfl)) dX13_stock_16 ⟨Nat.le_refl _, Nat.le_refl _⟩) hS (fun H locs hW hS => ?_)
    refine lv_if_eq (tgt := 41) hx hb dX13_stock_19 (by decide) (fun c4 => ?_) (fun c4 => ?_)
    · rw [if_pos c4] at h
      refine lv_aload_n hx hb dX13_stock_41 rfl (lv_at hl 0 rfl) ?_
      refine lv_ldc (v := (-1000001)) hx hb hown (hts _ q1279) dX13_stock_42 ?_
      cases g5 : fX13_finding σ (-1000001) with
      | none => rw [g5] at h; cases h
      | some r6 =>
        rw [g5, Option.bind_some] at h
        refine x_backi (va_runV (C := RX13) (b := (xa E 186)) (As := [.int (-1000001)]) (rest := []) F.1 (mX13_finding l E σ (-1000001) r6.1 r6.2 g5) (cwV 1 hts (lw_V q1280 q1282 qs52 q115 q1283) rfl rfl rfl (by decide +kernel) ⟨Nat.le_of_ble_eq_true rfl, Nat.le_of_ble_eq_true rfl⟩) ⟨xPc.blind, va_recv hK (xO_M hW) (ci := 13) (q0 := 0) rfl rfl, F.pre hW hS (.ref (xa E 186) :: [.int (-1000001)])⟩ rfl rfl hl.1 rfl (lv_room (Nat.le_of_ble_eq_true rfl)) dX13_stock_44 ⟨Nat.le_refl _, Nat.le_refl _⟩) hS (fun H locs hW hS => ?_)
        obtain ⟨h1, h2⟩ := Prod.mk.inj (Option.some.inj h); subst h1; subst h2
        exact x_iret F hr hlk hW hS dX13_stock_47
    · rw [if_neg c4] at h
      refine lv_iload_n hx hb dX13_stock_22 rfl (lv_at hl 3 rfl) ?_
      refine lv_iconst (v := 0) hx hb dX13_stock_23 (by decide) ?_
      refine lv_bipush (v := 99) hx hb dX13_stock_24 (by decide) ?_
      refine x_backi (va_runS (As := [.int a3, .int 0, .int 99]) (rest := []) F.1 (mX13_within l E σ a3 0 99) (va_cwS 3 hts (lw_S q1276 q1277 q115 q1278) rfl rfl rfl (by decide +kernel) ⟨Nat.le_of_ble_eq_true rfl, Nat.le_of_ble_eq_true rfl⟩) ⟨xPc.blind, F.pre hW hS [.int a3, .int 0, .int 99]⟩ rfl rfl hl.1 rfl (lv_room (Nat.le_of_ble_eq_true rfl)) dX13_stock_26 ⟨Nat.le_refl _, Nat.le_refl _⟩) hS (fun H locs hW hS => ?_)
      refine lv_if_eq (tgt := 41) hx hb dX13_stock_29 (by decide) (fun c7 => ?_) (fun c7 => ?_)
      · rw [if_pos c7] at h
        refine lv_aload_n hx hb dX13_stock_41 rfl (lv_at hl 0 rfl) ?_
        refine lv_ldc (v := (-1000001)) hx hb hown (hts _ q1279) dX13_stock_42 ?_
        cases g8 : fX13_finding σ (-1000001) with
        | none => rw [g8] at h; cases h
        | some r9 =>
          rw [g8, Option.bind_some] at h
          refine x_backi (va_runV (C := RX13) (b := (xa E 186)) (As := [.int (-1000001)]) (rest := []) F.1 (mX13_finding l E σ (-1000001) r9.1 r9.2 g8) (cwV 1 hts (lw_V q1280 q1282 qs52 q115 q1283) rfl rfl rfl (by decide +kernel) ⟨Nat.le_of_ble_eq_true rfl, Nat.le_of_ble_eq_true rfl⟩) ⟨xPc.blind, va_recv hK (xO_M hW) (ci := 13) (q0 := 0) rfl rfl, F.pre hW hS (.ref (xa E 186) :: [.int (-1000001)])⟩ rfl rfl hl.1 rfl (lv_room (Nat.le_of_ble_eq_true rfl)) dX13_stock_44 ⟨Nat.le_refl _, Nat.le_refl _⟩) hS (fun H locs hW hS => ?_)
          obtain ⟨h1, h2⟩ := Prod.mk.inj (Option.some.inj h); subst h1; subst h2
          exact x_iret F hr hlk hW hS dX13_stock_47
      · rw [if_neg c7] at h
        refine lv_iload_n hx hb dX13_stock_32 rfl (lv_at hl 1 rfl) ?_
        refine lv_iload_n hx hb dX13_stock_33 rfl (lv_at hl 2 rfl) ?_
        refine lv_iload_n hx hb dX13_stock_34 rfl (lv_at hl 3 rfl) ?_
        cases g10 : fX13_stockBehind a1 a2 a3 with
        | none => rw [g10] at h; cases h
        | some r11 =>
          rw [g10, Option.bind_some] at h
          refine x_backi (va_runS (As := [.int a1, .int a2, .int a3]) (rest := []) F.1 (mX13_stockBehind l E σ a1 a2 a3 r11 g10) (va_cwS 3 hts (lw_S q1547 q1548 q115 q1549) rfl rfl rfl (by decide +kernel) ⟨Nat.le_of_ble_eq_true rfl, Nat.le_of_ble_eq_true rfl⟩) ⟨xPc.blind, F.pre hW hS [.int a1, .int a2, .int a3]⟩ rfl rfl hl.1 rfl (lv_room (Nat.le_of_ble_eq_true rfl)) dX13_stock_35 ⟨Nat.le_refl _, Nat.le_refl _⟩) hS (fun H locs hW hS => ?_)
          refine lv_goto (tgt := 47) hx hb dX13_stock_38 (by decide) ?_
          obtain ⟨h1, h2⟩ := Prod.mk.inj (Option.some.inj h); subst h1; subst h2
          exact x_iret F hr hlk hW hS dX13_stock_47
/-! WildBellsModel.lasts(II)I -/
def gX13_lasts_32 (b1 : Int32) (b2 : Int32) : Nat → Int32 → Option Int32
  | 0, _ => none
  | n + 1, x3 => if x3 ≤ 0 then (some x3) else ((fX13_stockBehind b1 x3 b2).bind (fun r7 => if b1 ≤ r7 then (some x3) else (gX13_lasts_32 b1 b2 n (x3 + (-1)))))
def fX13_lasts (σ : xM) (a1 : Int32) (a2 : Int32) : Option (Int32 × xM) :=
  if (fX13_within a1 0 9999) = 0 then ((fX13_finding σ (-1000001)).bind (fun r3 => some (r3.1, r3.2))) else (if (fX13_within a2 1 99) = 0 then ((fX13_finding σ (-1000001)).bind (fun r12 => some (r12.1, r12.2))) else ((gX13_lasts_32 a1 a2 xfu 999).bind (fun q10 => some (q10, σ))))
set_option maxHeartbeats 4000000 in
theorem lX13_lasts_32 {p : Program} {l : Launch} {e : Env} {s : State} {m : MethodId} {av : Array Value} {below : List Frame} {meth : Method} {c : Code} {Q : State → Prop} {E : xE} {σ : xM} {b1 : Int32} {b2 : Int32} (F : xFx p m c cX13_lasts 4 s av RX13 E) : ∀ (n : Nat) (x3 : Int32) (q : Int32), gX13_lasts_32 b1 b2 n x3 = some q → ∀ (H : Heap) (locs : List Loc) (ls : Array Slot), xW E σ H → va_S (xA E) s.heap H locs → lv_has ls 4 [(3, .int x3), (0, .ref (xa E 186)), (1, .int b1), (2, .int b2)] → (∀ (H : Heap) (locs : List Loc) (ls : Array Slot), xW E σ H → va_S (xA E) s.heap H locs → lv_has ls 4 [(3, .int q), (0, .ref (xa E 186)), (1, .int b1), (2, .int b2)] → W p l e ({ frames := 2, cells := 0, slots := 0, locals := 45 } : Room) s m av below meth c H locs 0 0 Q (F0 m 52 ls [])) → W p l e ({ frames := 2, cells := 0, slots := 0, locals := 45 } : Room) s m av below meth c H locs 0 0 Q (F0 m 32 ls []) := by
  obtain ⟨hx, hb, hml, hown, hts⟩ := id F.1
  have hK := F.2.1.1
  intro n
  induction n with
  | zero =>
    intro x3 q h
    cases h
  | succ n ih =>
    intro x3 q h H locs ls hW hS hl kk
    rw [gX13_lasts_32] at h
    refine lv_iload_n hx hb dX13_lasts_32 rfl (lv_at hl 0 rfl) ?_
    refine lv_if_le (tgt := 52) hx hb dX13_lasts_33 (by decide) (fun c5 => ?_) (fun c5 => ?_)
    · rw [if_pos c5] at h
      have h := Option.some.inj h; subst h
      exact kk _ _ _ hW hS (lv_sub hl [0, 1, 2, 3] rfl)
    · rw [if_neg c5] at h
      refine lv_iload_n hx hb dX13_lasts_36 rfl (lv_at hl 2 rfl) ?_
      refine lv_iload_n hx hb dX13_lasts_37 rfl (lv_at hl 0 rfl) ?_
      refine lv_iload_n hx hb dX13_lasts_38 rfl (lv_at hl 3 rfl) ?_
      cases g6 : fX13_stockBehind b1 x3 b2 with
      | none => rw [g6] at h; cases h
      | some r7 =>
        rw [g6, Option.bind_some] at h
        refine x_backi (va_runS (As := [.int b1, .int x3, .int b2]) (rest := []) F.1 (mX13_stockBehind l E σ b1 x3 b2 r7 g6) (va_cwS 3 hts (lw_S q1547 q1548 q115 q1549) rfl rfl rfl (by decide +kernel) ⟨Nat.le_of_ble_eq_true rfl, Nat.le_of_ble_eq_true rfl⟩) ⟨xPc.blind, F.pre hW hS [.int b1, .int x3, .int b2]⟩ rfl rfl hl.1 rfl (lv_room (Nat.le_of_ble_eq_true rfl)) dX13_lasts_39 ⟨Nat.le_refl _, Nat.le_refl _⟩) hS (fun H locs hW hS => ?_)
        refine lv_iload_n hx hb dX13_lasts_42 rfl (lv_at hl 2 rfl) ?_
        refine lv_icmp_ge (tgt := 52) hx hb dX13_lasts_43 (by decide) (fun c8 => ?_) (fun c8 => ?_)
        · rw [if_pos c8] at h
          have h := Option.some.inj h; subst h
          exact kk _ _ _ hW hS (lv_sub hl [0, 1, 2, 3] rfl)
        · rw [if_neg c8] at h
          refine lv_iinc (k := 0) (v := (x3 + (-1))) (lv' := [(3, .int (x3 + (-1))), (0, .ref (xa E 186)), (1, .int b1), (2, .int b2)]) hx hb dX13_lasts_46 hl rfl rfl (by decide) rfl (fun ls hl => ?_)
          refine lv_goto (tgt := 32) hx hb dX13_lasts_49 (by decide) ?_
          exact ih (x3 + (-1)) _ h _ _ _ hW hS (lv_sub hl [0, 1, 2, 3] rfl) kk
set_option maxHeartbeats 4000000 in
theorem mX13_lasts (l : Launch) (E : xE) (σ : xM) (a1 : Int32) (a2 : Int32) (r : Int32) (σ' : xM) (h : fX13_lasts σ a1 a2 = some (r, σ')) : Met l yX13_lasts (ws_ yX13_lasts cX13_lasts 4 (some .int)) ({ frames := 2, cells := 0, slots := 0, locals := 45 } : Room) (xPc E σ [.ref (xa E 186), .int a1, .int a2]) (xQc E (.returned (some (.int r))) σ') 0 0 (xA E) := by
  refine x_of (C := RX13) (n := "lasts") (d := "(II)I") (r := (some .int)) (by decide) rfl (by first | decide | exact Nat.le_of_ble_eq_true rfl) ?_
  intro p e s m below meth c ls F hr hlk hW hS hl
  have hl : lv_has ls 4 [(0, .ref (xa E 186)), (1, .int a1), (2, .int a2)] := hl
  obtain ⟨hx, hb, hml, hown, hts⟩ := id F.1
  have hK := F.2.1.1
  unfold fX13_lasts at h
  refine lv_iload_n hx hb dX13_lasts_0 rfl (lv_at hl 1 rfl) ?_
  refine lv_iconst (v := 0) hx hb dX13_lasts_1 (by decide) ?_
  refine lv_sipush (v := 9999) hx hb dX13_lasts_2 (by decide) ?_
  refine x_backi (va_runS (As := [.int a1, .int 0, .int 9999]) (rest := []) F.1 (mX13_within l E σ a1 0 9999) (va_cwS 3 hts (lw_S q1276 q1277 q115 q1278) rfl rfl rfl (by decide +kernel) ⟨Nat.le_of_ble_eq_true rfl, Nat.le_of_ble_eq_true rfl⟩) ⟨xPc.blind, F.pre hW hS [.int a1, .int 0, .int 9999]⟩ rfl rfl hl.1 rfl (lv_room (Nat.le_of_ble_eq_true rfl)) dX13_lasts_5 ⟨Nat.le_refl _, Nat.le_refl _⟩) hS (fun H locs hW hS => ?_)
  refine lv_if_eq (tgt := 21) hx hb dX13_lasts_8 (by decide) (fun c1 => ?_) (fun c1 => ?_)
  · rw [if_pos c1] at h
    refine lv_aload_n hx hb dX13_lasts_21 rfl (lv_at hl 0 rfl) ?_
    refine lv_ldc (v := (-1000001)) hx hb hown (hts _ q1279) dX13_lasts_22 ?_
    cases g2 : fX13_finding σ (-1000001) with
    | none => rw [g2] at h; cases h
    | some r3 =>
      rw [g2, Option.bind_some] at h
      refine x_backi (va_runV (C := RX13) (b := (xa E 186)) (As := [.int (-1000001)]) (rest := []) F.1 (mX13_finding l E σ (-1000001) r3.1 r3.2 g2) (cwV 1 hts (lw_V q1280 q1282 qs52 q115 q1283) rfl rfl rfl (by decide +kernel) ⟨Nat.le_of_ble_eq_true rfl, Nat.le_of_ble_eq_true rfl⟩) ⟨xPc.blind, va_recv hK (xO_M hW) (ci := 13) (q0 := 0) rfl rfl, F.pre hW hS (.ref (xa E 186) :: [.int (-1000001)])⟩ rfl rfl hl.1 rfl (lv_room (Nat.le_of_ble_eq_true rfl)) dX13_lasts_24 ⟨Nat.le_refl _, Nat.le_refl _⟩) hS (fun H locs hW hS => ?_)
      obtain ⟨h1, h2⟩ := Prod.mk.inj (Option.some.inj h); subst h1; subst h2
      exact x_iret F hr hlk hW hS dX13_lasts_27
  · rw [if_neg c1] at h
    refine lv_iload_n hx hb dX13_lasts_11 rfl (lv_at hl 2 rfl) ?_
    refine lv_iconst (v := 1) hx hb dX13_lasts_12 (by decide) ?_
    refine lv_bipush (v := 99) hx hb dX13_lasts_13 (by decide) ?_
    refine x_backi (va_runS (As := [.int a2, .int 1, .int 99]) (rest := []) F.1 (mX13_within l E σ a2 1 99) (va_cwS 3 hts (lw_S q1276 q1277 q115 q1278) rfl rfl rfl (by decide +kernel) ⟨Nat.le_of_ble_eq_true rfl, Nat.le_of_ble_eq_true rfl⟩) ⟨xPc.blind, F.pre hW hS [.int a2, .int 1, .int 99]⟩ rfl rfl hl.1 rfl (lv_room (Nat.le_of_ble_eq_true rfl)) dX13_lasts_15 ⟨Nat.le_refl _, Nat.le_refl _⟩) hS (fun H locs hW hS => ?_)
    refine lv_if_ne (tgt := 28) hx hb dX13_lasts_18 (by decide) (fun c4 => ?_) (fun c4 => ?_)
    · rw [if_neg c4] at h
      refine lv_sipush (v := 999) hx hb dX13_lasts_28 (by decide) ?_
      refine lv_istore_n (lv' := [(3, .int 999), (0, .ref (xa E 186)), (1, .int a1), (2, .int a2)]) hx hb dX13_lasts_31 rfl hl (by decide) rfl (fun ls hl => ?_)
      cases g9 : gX13_lasts_32 a1 a2 xfu 999 with
      | none => rw [g9] at h; cases h
      | some q10 =>
        rw [g9, Option.bind_some] at h
        refine lX13_lasts_32 F xfu 999 q10 g9 _ _ _ hW hS (lv_sub hl [0, 1, 2, 3] rfl) (fun H locs ls hW hS hl => ?_)
        refine lv_iload_n hx hb dX13_lasts_52 rfl (lv_at hl 0 rfl) ?_
        obtain ⟨h1, h2⟩ := Prod.mk.inj (Option.some.inj h); subst h1; subst h2
        exact x_iret F hr hlk hW hS dX13_lasts_53
    · rw [if_pos c4] at h
      refine lv_aload_n hx hb dX13_lasts_21 rfl (lv_at hl 0 rfl) ?_
      refine lv_ldc (v := (-1000001)) hx hb hown (hts _ q1279) dX13_lasts_22 ?_
      cases g11 : fX13_finding σ (-1000001) with
      | none => rw [g11] at h; cases h
      | some r12 =>
        rw [g11, Option.bind_some] at h
        refine x_backi (va_runV (C := RX13) (b := (xa E 186)) (As := [.int (-1000001)]) (rest := []) F.1 (mX13_finding l E σ (-1000001) r12.1 r12.2 g11) (cwV 1 hts (lw_V q1280 q1282 qs52 q115 q1283) rfl rfl rfl (by decide +kernel) ⟨Nat.le_of_ble_eq_true rfl, Nat.le_of_ble_eq_true rfl⟩) ⟨xPc.blind, va_recv hK (xO_M hW) (ci := 13) (q0 := 0) rfl rfl, F.pre hW hS (.ref (xa E 186) :: [.int (-1000001)])⟩ rfl rfl hl.1 rfl (lv_room (Nat.le_of_ble_eq_true rfl)) dX13_lasts_24 ⟨Nat.le_refl _, Nat.le_refl _⟩) hS (fun H locs hW hS => ?_)
        obtain ⟨h1, h2⟩ := Prod.mk.inj (Option.some.inj h); subst h1; subst h2
        exact x_iret F hr hlk hW hS dX13_lasts_27
/-! WildBellsModel.stepBySteps(I)Z -/
def gX13_stepBySteps_6 (b0 : Int32) : Nat → Int32 → Int32 → Int32 → Option (Int32 × Int32 × Int32)
  | 0, _, _, _ => none
  | n + 1, x1, x2, x3 => if 12 ≤ x3 then (some (x1, x2, x3)) else (if (fX13_has b0 x3) = 0 then (gX13_stepBySteps_6 b0 n x1 x2 (x3 + 1)) else (if x2 = 0 then (gX13_stepBySteps_6 b0 n x3 0 (x3 + 1)) else (if x1 < 0 then (gX13_stepBySteps_6 b0 n x3 1 (x3 + 1)) else (if 3 ≤ (x3 - x1) then (gX13_stepBySteps_6 b0 n x3 0 (x3 + 1)) else (gX13_stepBySteps_6 b0 n x3 1 (x3 + 1))))))
def fX13_stepBySteps (a0 : Int32) : Option Int32 :=
  (gX13_stepBySteps_6 a0 xfu (-1) 1 0).bind (fun q7 => if q7.2.1 = 0 ∨ q7.2.1 = 1 then (some q7.2.1) else none)
set_option maxHeartbeats 4000000 in
theorem lX13_stepBySteps_6 {p : Program} {l : Launch} {e : Env} {s : State} {m : MethodId} {av : Array Value} {below : List Frame} {meth : Method} {c : Code} {Q : State → Prop} {E : xE} {σ : xM} {b0 : Int32} (F : xFx p m c cX13_stepBySteps 4 s av RX13 E) : ∀ (n : Nat) (x1 : Int32) (x2 : Int32) (x3 : Int32) (q : (Int32 × Int32 × Int32)), gX13_stepBySteps_6 b0 n x1 x2 x3 = some q → ∀ (H : Heap) (locs : List Loc) (ls : Array Slot), xW E σ H → va_S (xA E) s.heap H locs → lv_has ls 4 [(3, .int x3), (2, .int x2), (1, .int x1), (0, .int b0)] → (∀ (H : Heap) (locs : List Loc) (ls : Array Slot), xW E σ H → va_S (xA E) s.heap H locs → lv_has ls 4 [(3, .int q.2.2), (2, .int q.2.1), (1, .int q.1), (0, .int b0)] → W p l e ({ frames := 1, cells := 0, slots := 0, locals := 21 } : Room) s m av below meth c H locs 0 0 Q (F0 m 49 ls [])) → W p l e ({ frames := 1, cells := 0, slots := 0, locals := 21 } : Room) s m av below meth c H locs 0 0 Q (F0 m 6 ls []) := by
  obtain ⟨hx, hb, hml, hown, hts⟩ := id F.1
  have hK := F.2.1.1
  intro n
  induction n with
  | zero =>
    intro x1 x2 x3 q h
    cases h
  | succ n ih =>
    intro x1 x2 x3 q h H locs ls hW hS hl kk
    rw [gX13_stepBySteps_6] at h
    refine lv_iload_n hx hb dX13_stepBySteps_6 rfl (lv_at hl 0 rfl) ?_
    refine lv_bipush (v := 12) hx hb dX13_stepBySteps_7 (by decide) ?_
    refine lv_icmp_ge (tgt := 49) hx hb dX13_stepBySteps_9 (by decide) (fun c1 => ?_) (fun c1 => ?_)
    · rw [if_pos c1] at h
      have h := Option.some.inj h; subst h
      exact kk _ _ _ hW hS (lv_sub hl [0, 1, 2, 3] rfl)
    · rw [if_neg c1] at h
      refine lv_iload_n hx hb dX13_stepBySteps_12 rfl (lv_at hl 3 rfl) ?_
      refine lv_iload_n hx hb dX13_stepBySteps_13 rfl (lv_at hl 0 rfl) ?_
      refine x_backi (va_runS (As := [.int b0, .int x3]) (rest := []) F.1 (mX13_has l E σ b0 x3) (va_cwS 2 hts (lw_S q1566 q1567 q115 q1568) rfl rfl rfl (by decide +kernel) ⟨Nat.le_of_ble_eq_true rfl, Nat.le_of_ble_eq_true rfl⟩) ⟨xPc.blind, F.pre hW hS [.int b0, .int x3]⟩ rfl rfl hl.1 rfl (lv_room (Nat.le_of_ble_eq_true rfl)) dX13_stepBySteps_14 ⟨Nat.le_refl _, Nat.le_refl _⟩) hS (fun H locs hW hS => ?_)
      refine lv_if_eq (tgt := 43) hx hb dX13_stepBySteps_17 (by decide) (fun c2 => ?_) (fun c2 => ?_)
      · rw [if_pos c2] at h
        refine lv_iinc (k := 0) (v := (x3 + 1)) (lv' := [(3, .int (x3 + 1)), (2, .int x2), (1, .int x1), (0, .int b0)]) hx hb dX13_stepBySteps_43 hl rfl rfl (by decide) rfl (fun ls hl => ?_)
        refine lv_goto (tgt := 6) hx hb dX13_stepBySteps_46 (by decide) ?_
        exact ih x1 x2 (x3 + 1) _ h _ _ _ hW hS (lv_sub hl [0, 1, 2, 3] rfl) kk
      · rw [if_neg c2] at h
        refine lv_iload_n hx hb dX13_stepBySteps_20 rfl (lv_at hl 1 rfl) ?_
        refine lv_if_eq (tgt := 39) hx hb dX13_stepBySteps_21 (by decide) (fun c3 => ?_) (fun c3 => ?_)
        · rw [if_pos c3] at h
          refine lv_iconst (v := 0) hx hb dX13_stepBySteps_39 (by decide) ?_
          refine lv_istore_n (lv' := [(2, .int 0), (3, .int x3), (1, .int x1), (0, .int b0)]) hx hb dX13_stepBySteps_40 rfl hl (by decide) rfl (fun ls hl => ?_)
          refine lv_iload_n hx hb dX13_stepBySteps_41 rfl (lv_at hl 1 rfl) ?_
          refine lv_istore_n (lv' := [(1, .int x3), (2, .int 0), (3, .int x3), (0, .int b0)]) hx hb dX13_stepBySteps_42 rfl hl (by decide) rfl (fun ls hl => ?_)
          refine lv_iinc (k := 2) (v := (x3 + 1)) (lv' := [(3, .int (x3 + 1)), (1, .int x3), (2, .int 0), (0, .int b0)]) hx hb dX13_stepBySteps_43 hl rfl rfl (by decide) rfl (fun ls hl => ?_)
          refine lv_goto (tgt := 6) hx hb dX13_stepBySteps_46 (by decide) ?_
          exact ih x3 0 (x3 + 1) _ h _ _ _ hW hS (lv_sub hl [0, 2, 1, 3] rfl) kk
        · rw [if_neg c3] at h
          refine lv_iload_n hx hb dX13_stepBySteps_24 rfl (lv_at hl 2 rfl) ?_
          refine lv_if_lt (tgt := 35) hx hb dX13_stepBySteps_25 (by decide) (fun c4 => ?_) (fun c4 => ?_)
          · rw [if_pos c4] at h
            refine lv_iconst (v := 1) hx hb dX13_stepBySteps_35 (by decide) ?_
            refine lv_goto (tgt := 40) hx hb dX13_stepBySteps_36 (by decide) ?_
            refine lv_istore_n (lv' := [(2, .int 1), (3, .int x3), (1, .int x1), (0, .int b0)]) hx hb dX13_stepBySteps_40 rfl hl (by decide) rfl (fun ls hl => ?_)
            refine lv_iload_n hx hb dX13_stepBySteps_41 rfl (lv_at hl 1 rfl) ?_
            refine lv_istore_n (lv' := [(1, .int x3), (2, .int 1), (3, .int x3), (0, .int b0)]) hx hb dX13_stepBySteps_42 rfl hl (by decide) rfl (fun ls hl => ?_)
            refine lv_iinc (k := 2) (v := (x3 + 1)) (lv' := [(3, .int (x3 + 1)), (1, .int x3), (2, .int 1), (0, .int b0)]) hx hb dX13_stepBySteps_43 hl rfl rfl (by decide) rfl (fun ls hl => ?_)
            refine lv_goto (tgt := 6) hx hb dX13_stepBySteps_46 (by decide) ?_
            exact ih x3 1 (x3 + 1) _ h _ _ _ hW hS (lv_sub hl [0, 2, 1, 3] rfl) kk
          · rw [if_neg c4] at h
            refine lv_iload_n hx hb dX13_stepBySteps_28 rfl (lv_at hl 0 rfl) ?_
            refine lv_iload_n hx hb dX13_stepBySteps_29 rfl (lv_at hl 2 rfl) ?_
            refine lv_isub hx hb dX13_stepBySteps_30 ?_
            refine lv_iconst (v := 3) hx hb dX13_stepBySteps_31 (by decide) ?_
            refine lv_icmp_ge (tgt := 39) hx hb dX13_stepBySteps_32 (by decide) (fun c5 => ?_) (fun c5 => ?_)
            · rw [if_pos c5] at h
              refine lv_iconst (v := 0) hx hb dX13_stepBySteps_39 (by decide) ?_
              refine lv_istore_n (lv' := [(2, .int 0), (3, .int x3), (1, .int x1), (0, .int b0)]) hx hb dX13_stepBySteps_40 rfl hl (by decide) rfl (fun ls hl => ?_)
              refine lv_iload_n hx hb dX13_stepBySteps_41 rfl (lv_at hl 1 rfl) ?_
              refine lv_istore_n (lv' := [(1, .int x3), (2, .int 0), (3, .int x3), (0, .int b0)]) hx hb dX13_stepBySteps_42 rfl hl (by decide) rfl (fun ls hl => ?_)
              refine lv_iinc (k := 2) (v := (x3 + 1)) (lv' := [(3, .int (x3 + 1)), (1, .int x3), (2, .int 0), (0, .int b0)]) hx hb dX13_stepBySteps_43 hl rfl rfl (by decide) rfl (fun ls hl => ?_)
              refine lv_goto (tgt := 6) hx hb dX13_stepBySteps_46 (by decide) ?_
              exact ih x3 0 (x3 + 1) _ h _ _ _ hW hS (lv_sub hl [0, 2, 1, 3] rfl) kk
            · rw [if_neg c5] at h
              refine lv_iconst (v := 1) hx hb dX13_stepBySteps_35 (by decide) ?_
              refine lv_goto (tgt := 40) hx hb dX13_stepBySteps_36 (by decide) ?_
              refine lv_istore_n (lv' := [(2, .int 1), (3, .int x3), (1, .int x1), (0, .int b0)]) hx hb dX13_stepBySteps_40 rfl hl (by decide) rfl (fun ls hl => ?_)
              refine lv_iload_n hx hb dX13_stepBySteps_41 rfl (lv_at hl 1 rfl) ?_
              refine lv_istore_n (lv' := [(1, .int x3), (2, .int 1), (3, .int x3), (0, .int b0)]) hx hb dX13_stepBySteps_42 rfl hl (by decide) rfl (fun ls hl => ?_)
              refine lv_iinc (k := 2) (v := (x3 + 1)) (lv' := [(3, .int (x3 + 1)), (1, .int x3), (2, .int 1), (0, .int b0)]) hx hb dX13_stepBySteps_43 hl rfl rfl (by decide) rfl (fun ls hl => ?_)
              refine lv_goto (tgt := 6) hx hb dX13_stepBySteps_46 (by decide) ?_
              exact ih x3 1 (x3 + 1) _ h _ _ _ hW hS (lv_sub hl [0, 2, 1, 3] rfl) kk
set_option maxHeartbeats 4000000 in
theorem mX13_stepBySteps (l : Launch) (E : xE) (σ : xM) (a0 : Int32) (r : Int32) (h : fX13_stepBySteps a0 = some r) : Met l yX13_stepBySteps (ws_ yX13_stepBySteps cX13_stepBySteps 4 (some .boolean)) ({ frames := 1, cells := 0, slots := 0, locals := 21 } : Room) (xPc E σ [.int a0]) (xQc E (.returned (some (.int r))) σ) 0 0 (xA E) := by
  refine x_of (C := RX13) (n := "stepBySteps") (d := "(I)Z") (r := (some .boolean)) (by decide) rfl (by first | decide | exact Nat.le_of_ble_eq_true rfl) ?_
  intro p e s m below meth c ls F hr hlk hW hS hl
  have hl : lv_has ls 4 [(0, .int a0)] := hl
  obtain ⟨hx, hb, hml, hown, hts⟩ := id F.1
  have hK := F.2.1.1
  unfold fX13_stepBySteps at h
  refine lv_iconst (v := (-1)) hx hb dX13_stepBySteps_0 (by decide) ?_
  refine lv_istore_n (lv' := [(1, .int (-1)), (0, .int a0)]) hx hb dX13_stepBySteps_1 rfl hl (by decide) rfl (fun ls hl => ?_)
  refine lv_iconst (v := 1) hx hb dX13_stepBySteps_2 (by decide) ?_
  refine lv_istore_n (lv' := [(2, .int 1), (1, .int (-1)), (0, .int a0)]) hx hb dX13_stepBySteps_3 rfl hl (by decide) rfl (fun ls hl => ?_)
  refine lv_iconst (v := 0) hx hb dX13_stepBySteps_4 (by decide) ?_
  refine lv_istore_n (lv' := [(3, .int 0), (2, .int 1), (1, .int (-1)), (0, .int a0)]) hx hb dX13_stepBySteps_5 rfl hl (by decide) rfl (fun ls hl => ?_)
  cases g6 : gX13_stepBySteps_6 a0 xfu (-1) 1 0 with
  | none => rw [g6] at h; cases h
  | some q7 =>
    rw [g6, Option.bind_some] at h
    refine lX13_stepBySteps_6 F xfu (-1) 1 0 q7 g6 _ _ _ hW hS (lv_sub hl [0, 1, 2, 3] rfl) (fun H locs ls hW hS hl => ?_)
    refine lv_iload_n hx hb dX13_stepBySteps_49 rfl (lv_at hl 1 rfl) ?_
    by_cases hz8 : q7.2.1 = 0 ∨ q7.2.1 = 1
    · rw [if_pos hz8] at h
      have h := Option.some.inj h; subst h
      exact x_zret F hr hlk hW hS (x_b01 hz8) dX13_stepBySteps_50
    · rw [if_neg hz8] at h; cases h
/-! WildBellsModel.areRing(I)Z -/
def gX13_areRing_7 (σ : xM) (b1 : Int32) : Nat → Int32 → Int32 → Int32 → Option (Int32 × Int32 × Int32)
  | 0, _, _, _ => none
  | n + 1, x2, x3, x4 => if (σ 20 ((2 : Int32).toNatClampNeg)) ≤ x4 then (some (x2, x3, x4)) else (if (fX13_has b1 x4) = 0 then (if x3 = 0 then (gX13_areRing_7 σ b1 n (x2 ||| 0) 0 (x4 + 1)) else (if (x2 &&& 0) = 0 then (gX13_areRing_7 σ b1 n (x2 ||| 0) 1 (x4 + 1)) else (gX13_areRing_7 σ b1 n (x2 ||| 0) 0 (x4 + 1)))) else ((fX13_bellIs σ x4 2).bind (fun r6 => if x3 = 0 then (gX13_areRing_7 σ b1 n (x2 ||| (1 <<< (r6 &&& 31))) 0 (x4 + 1)) else (if (x2 &&& (1 <<< (r6 &&& 31))) = 0 then (gX13_areRing_7 σ b1 n (x2 ||| (1 <<< (r6 &&& 31))) 1 (x4 + 1)) else (gX13_areRing_7 σ b1 n (x2 ||| (1 <<< (r6 &&& 31))) 0 (x4 + 1))))))
def fX13_areRing (σ : xM) (a1 : Int32) : Option Int32 :=
  (gX13_areRing_7 σ a1 xfu 0 1 0).bind (fun q10 => if q10.2.1 = 0 then (some 0) else ((fX13_stepBySteps q10.1).bind (fun r13 => if r13 = 0 then (some 0) else (some 1))))
set_option maxHeartbeats 4000000 in
theorem lX13_areRing_7 {p : Program} {l : Launch} {e : Env} {s : State} {m : MethodId} {av : Array Value} {below : List Frame} {meth : Method} {c : Code} {Q : State → Prop} {E : xE} {σ : xM} {b1 : Int32} (F : xFx p m c cX13_areRing 6 s av RX13 E) : ∀ (n : Nat) (x2 : Int32) (x3 : Int32) (x4 : Int32) (q : (Int32 × Int32 × Int32)), gX13_areRing_7 σ b1 n x2 x3 x4 = some q → ∀ (H : Heap) (locs : List Loc) (ls : Array Slot), xW E σ H → va_S (xA E) s.heap H locs → lv_has ls 6 [(4, .int x4), (3, .int x3), (2, .int x2), (0, .ref (xa E 186)), (1, .int b1)] → (∀ (H : Heap) (locs : List Loc) (ls : Array Slot), xW E σ H → va_S (xA E) s.heap H locs → lv_has ls 6 [(4, .int q.2.2), (3, .int q.2.1), (2, .int q.1), (0, .ref (xa E 186)), (1, .int b1)] → W p l e ({ frames := 2, cells := 0, slots := 0, locals := 44 } : Room) s m av below meth c H locs 0 0 Q (F0 m 70 ls [])) → W p l e ({ frames := 2, cells := 0, slots := 0, locals := 44 } : Room) s m av below meth c H locs 0 0 Q (F0 m 7 ls []) := by
  obtain ⟨hx, hb, hml, hown, hts⟩ := id F.1
  have hK := F.2.1.1
  intro n
  induction n with
  | zero =>
    intro x2 x3 x4 q h
    cases h
  | succ n ih =>
    intro x2 x3 x4 q h H locs ls hW hS hl kk
    rw [gX13_areRing_7] at h
    refine lv_iload hx hb dX13_areRing_7 (lv_at hl 0 rfl) ?_
    refine lv_aload_n hx hb dX13_areRing_9 rfl (lv_at hl 3 rfl) ?_
    refine va_get (D := xD E) (ci := 13) (v := .ref (xa E 187)) (C := RX13) (T := TX13) (N := 24) hx hb hts in_X13 hown hK (xO_M hW) 0 rfl rfl 0 (by decide) (hts _ q1196) (fun _ h9 => h9) rfl dX13_areRing_10 ?_
    refine lv_iconst (v := 2) hx hb dX13_areRing_13 (by decide) ?_
    refine va_iald hx hb hK (xV_p hW xp_187) 0 0 rfl rfl (x_lit (by decide)) dX13_areRing_14 ?_
    refine lv_icmp_ge (tgt := 70) hx hb dX13_areRing_15 (by decide) (fun c1 => ?_) (fun c1 => ?_)
    · rw [if_pos c1] at h
      have h := Option.some.inj h; subst h
      exact kk _ _ _ hW hS (lv_sub hl [0, 1, 2, 3, 4] rfl)
    · rw [if_neg c1] at h
      refine lv_iload_n hx hb dX13_areRing_18 rfl (lv_at hl 4 rfl) ?_
      refine lv_iload hx hb dX13_areRing_19 (lv_at hl 0 rfl) ?_
      refine x_backi (va_runS (As := [.int b1, .int x4]) (rest := []) F.1 (mX13_has l E σ b1 x4) (va_cwS 2 hts (lw_S q1566 q1567 q115 q1568) rfl rfl rfl (by decide +kernel) ⟨Nat.le_of_ble_eq_true rfl, Nat.le_of_ble_eq_true rfl⟩) ⟨xPc.blind, F.pre hW hS [.int b1, .int x4]⟩ rfl rfl hl.1 rfl (lv_room (Nat.le_of_ble_eq_true rfl)) dX13_areRing_21 ⟨Nat.le_refl _, Nat.le_refl _⟩) hS (fun H locs hW hS => ?_)
      refine lv_if_eq (tgt := 39) hx hb dX13_areRing_24 (by decide) (fun c2 => ?_) (fun c2 => ?_)
      · rw [if_pos c2] at h
        refine lv_iconst (v := 0) hx hb dX13_areRing_39 (by decide) ?_
        refine lv_istore (lv' := [(5, .int 0), (4, .int x4), (3, .int x3), (2, .int x2), (0, .ref (xa E 186)), (1, .int b1)]) hx hb dX13_areRing_40 hl (by decide) rfl (fun ls hl => ?_)
        refine lv_iload_n hx hb dX13_areRing_42 rfl (lv_at hl 2 rfl) ?_
        refine lv_if_eq (tgt := 57) hx hb dX13_areRing_43 (by decide) (fun c3 => ?_) (fun c3 => ?_)
        · rw [if_pos c3] at h
          refine lv_iconst (v := 0) hx hb dX13_areRing_57 (by decide) ?_
          refine lv_istore_n (lv' := [(3, .int 0), (5, .int 0), (4, .int x4), (2, .int x2), (0, .ref (xa E 186)), (1, .int b1)]) hx hb dX13_areRing_58 rfl hl (by decide) rfl (fun ls hl => ?_)
          refine lv_iload_n hx hb dX13_areRing_59 rfl (lv_at hl 3 rfl) ?_
          refine lv_iload hx hb dX13_areRing_60 (lv_at hl 1 rfl) ?_
          refine lv_ior hx hb dX13_areRing_62 ?_
          refine lv_istore_n (lv' := [(2, .int (x2 ||| 0)), (3, .int 0), (5, .int 0), (4, .int x4), (0, .ref (xa E 186)), (1, .int b1)]) hx hb dX13_areRing_63 rfl hl (by decide) rfl (fun ls hl => ?_)
          refine lv_iinc (k := 3) (v := (x4 + 1)) (lv' := [(4, .int (x4 + 1)), (2, .int (x2 ||| 0)), (3, .int 0), (5, .int 0), (0, .ref (xa E 186)), (1, .int b1)]) hx hb dX13_areRing_64 hl rfl rfl (by decide) rfl (fun ls hl => ?_)
          refine lv_goto (tgt := 7) hx hb dX13_areRing_67 (by decide) ?_
          exact ih (x2 ||| 0) 0 (x4 + 1) _ h _ _ _ hW hS (lv_sub hl [0, 2, 1, 4, 5] rfl) kk
        · rw [if_neg c3] at h
          refine lv_iload_n hx hb dX13_areRing_46 rfl (lv_at hl 3 rfl) ?_
          refine lv_iload hx hb dX13_areRing_47 (lv_at hl 0 rfl) ?_
          refine lv_iand hx hb dX13_areRing_49 ?_
          refine lv_if_ne (tgt := 57) hx hb dX13_areRing_50 (by decide) (fun c4 => ?_) (fun c4 => ?_)
          · rw [if_neg c4] at h
            refine lv_iconst (v := 0) hx hb dX13_areRing_57 (by decide) ?_
            refine lv_istore_n (lv' := [(3, .int 0), (5, .int 0), (4, .int x4), (2, .int x2), (0, .ref (xa E 186)), (1, .int b1)]) hx hb dX13_areRing_58 rfl hl (by decide) rfl (fun ls hl => ?_)
            refine lv_iload_n hx hb dX13_areRing_59 rfl (lv_at hl 3 rfl) ?_
            refine lv_iload hx hb dX13_areRing_60 (lv_at hl 1 rfl) ?_
            refine lv_ior hx hb dX13_areRing_62 ?_
            refine lv_istore_n (lv' := [(2, .int (x2 ||| 0)), (3, .int 0), (5, .int 0), (4, .int x4), (0, .ref (xa E 186)), (1, .int b1)]) hx hb dX13_areRing_63 rfl hl (by decide) rfl (fun ls hl => ?_)
            refine lv_iinc (k := 3) (v := (x4 + 1)) (lv' := [(4, .int (x4 + 1)), (2, .int (x2 ||| 0)), (3, .int 0), (5, .int 0), (0, .ref (xa E 186)), (1, .int b1)]) hx hb dX13_areRing_64 hl rfl rfl (by decide) rfl (fun ls hl => ?_)
            refine lv_goto (tgt := 7) hx hb dX13_areRing_67 (by decide) ?_
            exact ih (x2 ||| 0) 0 (x4 + 1) _ h _ _ _ hW hS (lv_sub hl [0, 2, 1, 4, 5] rfl) kk
          · rw [if_pos c4] at h
            refine lv_iconst (v := 1) hx hb dX13_areRing_53 (by decide) ?_
            refine lv_goto (tgt := 58) hx hb dX13_areRing_54 (by decide) ?_
            refine lv_istore_n (lv' := [(3, .int 1), (5, .int 0), (4, .int x4), (2, .int x2), (0, .ref (xa E 186)), (1, .int b1)]) hx hb dX13_areRing_58 rfl hl (by decide) rfl (fun ls hl => ?_)
            refine lv_iload_n hx hb dX13_areRing_59 rfl (lv_at hl 3 rfl) ?_
            refine lv_iload hx hb dX13_areRing_60 (lv_at hl 1 rfl) ?_
            refine lv_ior hx hb dX13_areRing_62 ?_
            refine lv_istore_n (lv' := [(2, .int (x2 ||| 0)), (3, .int 1), (5, .int 0), (4, .int x4), (0, .ref (xa E 186)), (1, .int b1)]) hx hb dX13_areRing_63 rfl hl (by decide) rfl (fun ls hl => ?_)
            refine lv_iinc (k := 3) (v := (x4 + 1)) (lv' := [(4, .int (x4 + 1)), (2, .int (x2 ||| 0)), (3, .int 1), (5, .int 0), (0, .ref (xa E 186)), (1, .int b1)]) hx hb dX13_areRing_64 hl rfl rfl (by decide) rfl (fun ls hl => ?_)
            refine lv_goto (tgt := 7) hx hb dX13_areRing_67 (by decide) ?_
            exact ih (x2 ||| 0) 1 (x4 + 1) _ h _ _ _ hW hS (lv_sub hl [0, 2, 1, 4, 5] rfl) kk
      · rw [if_neg c2] at h
        refine lv_iconst (v := 1) hx hb dX13_areRing_27 (by decide) ?_
        refine lv_aload_n hx hb dX13_areRing_28 rfl (lv_at hl 3 rfl) ?_
        refine lv_iload hx hb dX13_areRing_29 (lv_at hl 0 rfl) ?_
        refine lv_iconst (v := 2) hx hb dX13_areRing_31 (by decide) ?_
        cases g5 : fX13_bellIs σ x4 2 with
        | none => rw [g5] at h; cases h
        | some r6 =>
          rw [g5, Option.bind_some] at h
          refine x_backi (va_runV (C := RX13) (b := (xa E 186)) (As := [.int x4, .int 2]) (rest := [.int 1]) F.1 (mX13_bellIs l E σ x4 2 r6 g5) (cwV 2 hts (lw_V q1326 q1328 qs56 q115 q1329) rfl rfl rfl (by decide +kernel) ⟨Nat.le_of_ble_eq_true rfl, Nat.le_of_ble_eq_true rfl⟩) ⟨xPc.blind, va_recv hK (xO_M hW) (ci := 13) (q0 := 0) rfl rfl, F.pre hW hS (.ref (xa E 186) :: [.int x4, .int 2])⟩ rfl rfl hl.1 rfl (lv_room (Nat.le_of_ble_eq_true rfl)) dX13_areRing_32 ⟨Nat.le_refl _, Nat.le_refl _⟩) hS (fun H locs hW hS => ?_)
          refine lv_ishl hx hb dX13_areRing_35 ?_
          refine lv_goto (tgt := 40) hx hb dX13_areRing_36 (by decide) ?_
          refine lv_istore (lv' := [(5, .int (1 <<< (r6 &&& 31))), (4, .int x4), (3, .int x3), (2, .int x2), (0, .ref (xa E 186)), (1, .int b1)]) hx hb dX13_areRing_40 hl (by decide) rfl (fun ls hl => ?_)
          refine lv_iload_n hx hb dX13_areRing_42 rfl (lv_at hl 2 rfl) ?_
          refine lv_if_eq (tgt := 57) hx hb dX13_areRing_43 (by decide) (fun c7 => ?_) (fun c7 => ?_)
          · rw [if_pos c7] at h
            refine lv_iconst (v := 0) hx hb dX13_areRing_57 (by decide) ?_
            refine lv_istore_n (lv' := [(3, .int 0), (5, .int (1 <<< (r6 &&& 31))), (4, .int x4), (2, .int x2), (0, .ref (xa E 186)), (1, .int b1)]) hx hb dX13_areRing_58 rfl hl (by decide) rfl (fun ls hl => ?_)
            refine lv_iload_n hx hb dX13_areRing_59 rfl (lv_at hl 3 rfl) ?_
            refine lv_iload hx hb dX13_areRing_60 (lv_at hl 1 rfl) ?_
            refine lv_ior hx hb dX13_areRing_62 ?_
            refine lv_istore_n (lv' := [(2, .int (x2 ||| (1 <<< (r6 &&& 31)))), (3, .int 0), (5, .int (1 <<< (r6 &&& 31))), (4, .int x4), (0, .ref (xa E 186)), (1, .int b1)]) hx hb dX13_areRing_63 rfl hl (by decide) rfl (fun ls hl => ?_)
            refine lv_iinc (k := 3) (v := (x4 + 1)) (lv' := [(4, .int (x4 + 1)), (2, .int (x2 ||| (1 <<< (r6 &&& 31)))), (3, .int 0), (5, .int (1 <<< (r6 &&& 31))), (0, .ref (xa E 186)), (1, .int b1)]) hx hb dX13_areRing_64 hl rfl rfl (by decide) rfl (fun ls hl => ?_)
            refine lv_goto (tgt := 7) hx hb dX13_areRing_67 (by decide) ?_
            exact ih (x2 ||| (1 <<< (r6 &&& 31))) 0 (x4 + 1) _ h _ _ _ hW hS (lv_sub hl [0, 2, 1, 4, 5] rfl) kk
          · rw [if_neg c7] at h
            refine lv_iload_n hx hb dX13_areRing_46 rfl (lv_at hl 3 rfl) ?_
            refine lv_iload hx hb dX13_areRing_47 (lv_at hl 0 rfl) ?_
            refine lv_iand hx hb dX13_areRing_49 ?_
            refine lv_if_ne (tgt := 57) hx hb dX13_areRing_50 (by decide) (fun c8 => ?_) (fun c8 => ?_)
            · rw [if_neg c8] at h
              refine lv_iconst (v := 0) hx hb dX13_areRing_57 (by decide) ?_
              refine lv_istore_n (lv' := [(3, .int 0), (5, .int (1 <<< (r6 &&& 31))), (4, .int x4), (2, .int x2), (0, .ref (xa E 186)), (1, .int b1)]) hx hb dX13_areRing_58 rfl hl (by decide) rfl (fun ls hl => ?_)
              refine lv_iload_n hx hb dX13_areRing_59 rfl (lv_at hl 3 rfl) ?_
              refine lv_iload hx hb dX13_areRing_60 (lv_at hl 1 rfl) ?_
              refine lv_ior hx hb dX13_areRing_62 ?_
              refine lv_istore_n (lv' := [(2, .int (x2 ||| (1 <<< (r6 &&& 31)))), (3, .int 0), (5, .int (1 <<< (r6 &&& 31))), (4, .int x4), (0, .ref (xa E 186)), (1, .int b1)]) hx hb dX13_areRing_63 rfl hl (by decide) rfl (fun ls hl => ?_)
              refine lv_iinc (k := 3) (v := (x4 + 1)) (lv' := [(4, .int (x4 + 1)), (2, .int (x2 ||| (1 <<< (r6 &&& 31)))), (3, .int 0), (5, .int (1 <<< (r6 &&& 31))), (0, .ref (xa E 186)), (1, .int b1)]) hx hb dX13_areRing_64 hl rfl rfl (by decide) rfl (fun ls hl => ?_)
              refine lv_goto (tgt := 7) hx hb dX13_areRing_67 (by decide) ?_
              exact ih (x2 ||| (1 <<< (r6 &&& 31))) 0 (x4 + 1) _ h _ _ _ hW hS (lv_sub hl [0, 2, 1, 4, 5] rfl) kk
            · rw [if_pos c8] at h
              refine lv_iconst (v := 1) hx hb dX13_areRing_53 (by decide) ?_
              refine lv_goto (tgt := 58) hx hb dX13_areRing_54 (by decide) ?_
              refine lv_istore_n (lv' := [(3, .int 1), (5, .int (1 <<< (r6 &&& 31))), (4, .int x4), (2, .int x2), (0, .ref (xa E 186)), (1, .int b1)]) hx hb dX13_areRing_58 rfl hl (by decide) rfl (fun ls hl => ?_)
              refine lv_iload_n hx hb dX13_areRing_59 rfl (lv_at hl 3 rfl) ?_
              refine lv_iload hx hb dX13_areRing_60 (lv_at hl 1 rfl) ?_
              refine lv_ior hx hb dX13_areRing_62 ?_
              refine lv_istore_n (lv' := [(2, .int (x2 ||| (1 <<< (r6 &&& 31)))), (3, .int 1), (5, .int (1 <<< (r6 &&& 31))), (4, .int x4), (0, .ref (xa E 186)), (1, .int b1)]) hx hb dX13_areRing_63 rfl hl (by decide) rfl (fun ls hl => ?_)
              refine lv_iinc (k := 3) (v := (x4 + 1)) (lv' := [(4, .int (x4 + 1)), (2, .int (x2 ||| (1 <<< (r6 &&& 31)))), (3, .int 1), (5, .int (1 <<< (r6 &&& 31))), (0, .ref (xa E 186)), (1, .int b1)]) hx hb dX13_areRing_64 hl rfl rfl (by decide) rfl (fun ls hl => ?_)
              refine lv_goto (tgt := 7) hx hb dX13_areRing_67 (by decide) ?_
              exact ih (x2 ||| (1 <<< (r6 &&& 31))) 1 (x4 + 1) _ h _ _ _ hW hS (lv_sub hl [0, 2, 1, 4, 5] rfl) kk
set_option maxHeartbeats 4000000 in
theorem mX13_areRing (l : Launch) (E : xE) (σ : xM) (a1 : Int32) (r : Int32) (h : fX13_areRing σ a1 = some r) : Met l yX13_areRing (ws_ yX13_areRing cX13_areRing 6 (some .boolean)) ({ frames := 2, cells := 0, slots := 0, locals := 44 } : Room) (xPc E σ [.ref (xa E 186), .int a1]) (xQc E (.returned (some (.int r))) σ) 0 0 (xA E) := by
  refine x_of (C := RX13) (n := "areRing") (d := "(I)Z") (r := (some .boolean)) (by decide) rfl (by first | decide | exact Nat.le_of_ble_eq_true rfl) ?_
  intro p e s m below meth c ls F hr hlk hW hS hl
  have hl : lv_has ls 6 [(0, .ref (xa E 186)), (1, .int a1)] := hl
  obtain ⟨hx, hb, hml, hown, hts⟩ := id F.1
  have hK := F.2.1.1
  unfold fX13_areRing at h
  refine lv_iconst (v := 0) hx hb dX13_areRing_0 (by decide) ?_
  refine lv_istore_n (lv' := [(2, .int 0), (0, .ref (xa E 186)), (1, .int a1)]) hx hb dX13_areRing_1 rfl hl (by decide) rfl (fun ls hl => ?_)
  refine lv_iconst (v := 1) hx hb dX13_areRing_2 (by decide) ?_
  refine lv_istore_n (lv' := [(3, .int 1), (2, .int 0), (0, .ref (xa E 186)), (1, .int a1)]) hx hb dX13_areRing_3 rfl hl (by decide) rfl (fun ls hl => ?_)
  refine lv_iconst (v := 0) hx hb dX13_areRing_4 (by decide) ?_
  refine lv_istore (lv' := [(4, .int 0), (3, .int 1), (2, .int 0), (0, .ref (xa E 186)), (1, .int a1)]) hx hb dX13_areRing_5 hl (by decide) rfl (fun ls hl => ?_)
  cases g9 : gX13_areRing_7 σ a1 xfu 0 1 0 with
  | none => rw [g9] at h; cases h
  | some q10 =>
    rw [g9, Option.bind_some] at h
    refine lX13_areRing_7 F xfu 0 1 0 q10 g9 _ _ _ hW hS (lv_sub hl [0, 1, 2, 3, 4] rfl) (fun H locs ls hW hS hl => ?_)
    refine lv_iload_n hx hb dX13_areRing_70 rfl (lv_at hl 1 rfl) ?_
    refine lv_if_eq (tgt := 85) hx hb dX13_areRing_71 (by decide) (fun c11 => ?_) (fun c11 => ?_)
    · rw [if_pos c11] at h
      refine lv_iconst (v := 0) hx hb dX13_areRing_85 (by decide) ?_
      have h := Option.some.inj h; subst h
      exact x_zret F hr hlk hW hS rfl dX13_areRing_86
    · rw [if_neg c11] at h
      refine lv_iload_n hx hb dX13_areRing_74 rfl (lv_at hl 2 rfl) ?_
      cases g12 : fX13_stepBySteps q10.1 with
      | none => rw [g12] at h; cases h
      | some r13 =>
        rw [g12, Option.bind_some] at h
        refine x_backi (va_runS (As := [.int q10.1]) (rest := []) F.1 (mX13_stepBySteps l E σ q10.1 r13 g12) (va_cwS 1 hts (lw_S q1569 q1570 q115 q1571) rfl rfl rfl (by decide +kernel) ⟨Nat.le_of_ble_eq_true rfl, Nat.le_of_ble_eq_true rfl⟩) ⟨xPc.blind, F.pre hW hS [.int q10.1]⟩ rfl rfl hl.1 rfl (lv_room (Nat.le_of_ble_eq_true rfl)) dX13_areRing_75 ⟨Nat.le_refl _, Nat.le_refl _⟩) hS (fun H locs hW hS => ?_)
        refine lv_if_eq (tgt := 85) hx hb dX13_areRing_78 (by decide) (fun c14 => ?_) (fun c14 => ?_)
        · rw [if_pos c14] at h
          refine lv_iconst (v := 0) hx hb dX13_areRing_85 (by decide) ?_
          have h := Option.some.inj h; subst h
          exact x_zret F hr hlk hW hS rfl dX13_areRing_86
        · rw [if_neg c14] at h
          refine lv_iconst (v := 1) hx hb dX13_areRing_81 (by decide) ?_
          refine lv_goto (tgt := 86) hx hb dX13_areRing_82 (by decide) ?_
          have h := Option.some.inj h; subst h
          exact x_zret F hr hlk hW hS rfl dX13_areRing_86
