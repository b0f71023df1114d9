set_option maxRecDepth 100000
/-! WildBells.bestEar(I)I -/
def gX0_bestEar_4 (b1 : Int32) : Nat → Int32 → Int32 → xM → Option (Int32 × Int32 × xM)
  | 0, _, _, _ => none
  | n + 1, x2, x3, σ => if 64 ≤ x3 then (some (x2, x3, σ)) else ((fX0_leftBy σ x3 b1).bind (fun r3 => (fX0_leftBy r3.2 x2 b1).bind (fun r5 => if r5.1 ≤ r3.1 then (gX0_bestEar_4 b1 n x2 (x3 + 1) r5.2) else (gX0_bestEar_4 b1 n x3 (x3 + 1) r5.2))))
def fX0_bestEar (σ : xM) (a1 : Int32) : Option (Int32 × xM) :=
  (gX0_bestEar_4 a1 xfu 0 1 σ).bind (fun q8 => some (q8.1, q8.2.2))
set_option maxHeartbeats 4000000 in
theorem lX0_bestEar_4 {p : Program} {l : Launch} {e : Env} {s : State} {m : MethodId} {av : Array Value} {below : List Frame} {meth : Method} {c : Code} {Q : State → Prop} {E : xE} {b1 : Int32} (F : xFx p m c cX0_bestEar 4 s av RX0 E) : ∀ (n : Nat) (x2 : Int32) (x3 : Int32) (σ : xM) (q : (Int32 × Int32 × xM)), gX0_bestEar_4 b1 n x2 x3 σ = some q → ∀ (H : Heap) (locs : List Loc) (ls : Array Slot), xW E σ H → va_S (xA E) s.heap H locs → lv_has ls 4 [(3, .int x3), (2, .int x2), (0, .ref (xa E 0)), (1, .int b1)] → (∀ (H : Heap) (locs : List Loc) (ls : Array Slot), xW E q.2.2 H → va_S (xA E) s.heap H locs → lv_has ls 4 [(3, .int q.2.1), (2, .int q.1), (0, .ref (xa E 0)), (1, .int b1)] → W p l e ({ frames := 3, cells := 0, slots := 0, locals := 67 } : Room) s m av below meth c H locs 0 0 Q (F0 m 37 ls [])) → W p l e ({ frames := 3, cells := 0, slots := 0, locals := 67 } : Room) s m av below meth c H locs 0 0 Q (F0 m 4 ls []) := by
  obtain ⟨hx, hb, hml, hown, hts⟩ := id F.1
  have hK := F.2.1.1
  intro n
  induction n with
  | zero =>
    intro x2 x3 σ q h
    cases h
  | succ n ih =>
    intro x2 x3 σ q h H locs ls hW hS hl kk
    rw [gX0_bestEar_4] at h
    refine lv_iload_n hx hb dX0_bestEar_4 rfl (lv_at hl 0 rfl) ?_
    refine lv_bipush (v := 64) hx hb dX0_bestEar_5 (by decide) ?_
    refine lv_icmp_ge (tgt := 37) hx hb dX0_bestEar_7 (by decide) (fun c1 => ?_) (fun c1 => ?_)
    · rw [if_pos c1] at h
      have h := Option.some.inj h; subst h
      exact kk _ _ _ hW hS (lv_sub hl [0, 1, 2, 3] rfl)
    · rw [if_neg c1] at h
      refine lv_aload_n hx hb dX0_bestEar_10 rfl (lv_at hl 2 rfl) ?_
      refine lv_iload_n hx hb dX0_bestEar_11 rfl (lv_at hl 0 rfl) ?_
      refine lv_iload_n hx hb dX0_bestEar_12 rfl (lv_at hl 3 rfl) ?_
      cases g2 : fX0_leftBy σ x3 b1 with
      | none => rw [g2] at h; cases h
      | some r3 =>
        rw [g2, Option.bind_some] at h
        refine x_backi (va_runV (C := RX0) (b := (xa E 0)) (As := [.int x3, .int b1]) (rest := []) F.1 (mX0_leftBy l E σ x3 b1 r3.1 r3.2 g2) (cwV 2 hts (lw_V q896 q898 qs29 q99 q899) rfl rfl rfl (by decide +kernel) ⟨Nat.le_of_ble_eq_true rfl, Nat.le_of_ble_eq_true rfl⟩) ⟨xPc.blind, va_recv hK (xO_X hW) (ci := 0) (q0 := 0) rfl rfl, F.pre hW hS (.ref (xa E 0) :: [.int x3, .int b1])⟩ rfl rfl hl.1 rfl (lv_room (Nat.le_of_ble_eq_true rfl)) dX0_bestEar_13 ⟨Nat.le_refl _, Nat.le_refl _⟩) hS (fun H locs hW hS => ?_)
        refine lv_aload_n hx hb dX0_bestEar_16 rfl (lv_at hl 2 rfl) ?_
        refine lv_iload_n hx hb dX0_bestEar_17 rfl (lv_at hl 1 rfl) ?_
        refine lv_iload_n hx hb dX0_bestEar_18 rfl (lv_at hl 3 rfl) ?_
        cases g4 : fX0_leftBy r3.2 x2 b1 with
        | none => rw [g4] at h; cases h
        | some r5 =>
          rw [g4, Option.bind_some] at h
          refine x_backi (va_runV (C := RX0) (b := (xa E 0)) (As := [.int x2, .int b1]) (rest := [.int r3.1]) F.1 (mX0_leftBy l E r3.2 x2 b1 r5.1 r5.2 g4) (cwV 2 hts (lw_V q896 q898 qs29 q99 q899) rfl rfl rfl (by decide +kernel) ⟨Nat.le_of_ble_eq_true rfl, Nat.le_of_ble_eq_true rfl⟩) ⟨xPc.blind, va_recv hK (xO_X hW) (ci := 0) (q0 := 0) rfl rfl, F.pre hW hS (.ref (xa E 0) :: [.int x2, .int b1])⟩ rfl rfl hl.1 rfl (lv_room (Nat.le_of_ble_eq_true rfl)) dX0_bestEar_19 ⟨Nat.le_refl _, Nat.le_refl _⟩) hS (fun H locs hW hS => ?_)
          refine lv_icmp_ge (tgt := 29) hx hb dX0_bestEar_22 (by decide) (fun c6 => ?_) (fun c6 => ?_)
          · rw [if_pos c6] at h
            refine lv_iload_n hx hb dX0_bestEar_29 rfl (lv_at hl 1 rfl) ?_
            refine lv_istore_n (lv' := [(2, .int x2), (3, .int x3), (0, .ref (xa E 0)), (1, .int b1)]) hx hb dX0_bestEar_30 rfl hl (by decide) rfl (fun ls hl => ?_)
            refine lv_iinc (k := 1) (v := (x3 + 1)) (lv' := [(3, .int (x3 + 1)), (2, .int x2), (0, .ref (xa E 0)), (1, .int b1)]) hx hb dX0_bestEar_31 hl rfl rfl (by decide) rfl (fun ls hl => ?_)
            refine lv_goto (tgt := 4) hx hb dX0_bestEar_34 (by decide) ?_
            exact ih x2 (x3 + 1) r5.2 _ h _ _ _ hW hS (lv_sub hl [0, 1, 2, 3] rfl) kk
          · rw [if_neg c6] at h
            refine lv_iload_n hx hb dX0_bestEar_25 rfl (lv_at hl 0 rfl) ?_
            refine lv_goto (tgt := 30) hx hb dX0_bestEar_26 (by decide) ?_
            refine lv_istore_n (lv' := [(2, .int x3), (3, .int x3), (0, .ref (xa E 0)), (1, .int b1)]) hx hb dX0_bestEar_30 rfl hl (by decide) rfl (fun ls hl => ?_)
            refine lv_iinc (k := 1) (v := (x3 + 1)) (lv' := [(3, .int (x3 + 1)), (2, .int x3), (0, .ref (xa E 0)), (1, .int b1)]) hx hb dX0_bestEar_31 hl rfl rfl (by decide) rfl (fun ls hl => ?_)
            refine lv_goto (tgt := 4) hx hb dX0_bestEar_34 (by decide) ?_
            exact ih x3 (x3 + 1) r5.2 _ h _ _ _ hW hS (lv_sub hl [0, 1, 2, 3] rfl) kk
set_option maxHeartbeats 4000000 in
theorem mX0_bestEar (l : Launch) (E : xE) (σ : xM) (a1 : Int32) (r : Int32) (σ' : xM) (h : fX0_bestEar σ a1 = some (r, σ')) : Met l yX0_bestEar (ws_ yX0_bestEar cX0_bestEar 4 (some .int)) ({ frames := 3, cells := 0, slots := 0, locals := 67 } : Room) (xPc E σ [.ref (xa E 0), .int a1]) (xQc E (.returned (some (.int r))) σ') 0 0 (xA E) := by
  refine x_of (C := RX0) (n := "bestEar") (d := "(I)I") (r := (some .int)) (by decide) rfl (by first | decide | exact Nat.le_of_ble_eq_true rfl) ?_
  intro p e s m below meth c ls F hr hlk hW hS hl
  have hl : lv_has ls 4 [(0, .ref (xa E 0)), (1, .int a1)] := hl
  obtain ⟨hx, hb, hml, hown, hts⟩ := id F.1
  have hK := F.2.1.1
  unfold fX0_bestEar at h
  refine lv_iconst (v := 0) hx hb dX0_bestEar_0 (by decide) ?_
  refine lv_istore_n (lv' := [(2, .int 0), (0, .ref (xa E 0)), (1, .int a1)]) hx hb dX0_bestEar_1 rfl hl (by decide) rfl (fun ls hl => ?_)
  refine lv_iconst (v := 1) hx hb dX0_bestEar_2 (by decide) ?_
  refine lv_istore_n (lv' := [(3, .int 1), (2, .int 0), (0, .ref (xa E 0)), (1, .int a1)]) hx hb dX0_bestEar_3 rfl hl (by decide) rfl (fun ls hl => ?_)
  cases g7 : gX0_bestEar_4 a1 xfu 0 1 σ with
  | none => rw [g7] at h; cases h
  | some q8 =>
    rw [g7, Option.bind_some] at h
    refine lX0_bestEar_4 F xfu 0 1 σ q8 g7 _ _ _ hW hS (lv_sub hl [0, 1, 2, 3] rfl) (fun H locs ls hW hS hl => ?_)
    refine lv_iload_n hx hb dX0_bestEar_37 rfl (lv_at hl 1 rfl) ?_
    obtain ⟨h1, h2⟩ := Prod.mk.inj (Option.some.inj h); subst h1; subst h2
    exact x_iret F hr hlk hW hS dX0_bestEar_38
/-! WildBells.stockOf(III)I -/
def gX0_stockOf_5 (b1 : Int32) (b2 : Int32) : Nat → Int32 → Int32 → Option (Int32 × Int32)
  | 0, _, _ => none
  | n + 1, x3, x4 => if b2 ≤ x4 then (some (x3, x4)) else (gX0_stockOf_5 b1 b2 n (fJ3_min 9999 ((x3 - (fJ3_min x3 b1)) + ((x3 - (fJ3_min x3 b1)) / 10))) (x4 + 1))
def fX0_stockOf (a0 : Int32) (a1 : Int32) (a2 : Int32) : Option Int32 :=
  (gX0_stockOf_5 a1 a2 xfu a0 0).bind (fun q3 => some q3.1)
set_option maxHeartbeats 4000000 in
theorem lX0_stockOf_5 {p : Program} {l : Launch} {e : Env} {s : State} {m : MethodId} {av : Array Value} {below : List Frame} {meth : Method} {c : Code} {Q : State → Prop} {E : xE} {σ : xM} {b0 : Int32} {b1 : Int32} {b2 : Int32} (F : xFx p m c cX0_stockOf 5 s av RX0 E) : ∀ (n : Nat) (x3 : Int32) (x4 : Int32) (q : (Int32 × Int32)), gX0_stockOf_5 b1 b2 n x3 x4 = some q → ∀ (H : Heap) (locs : List Loc) (ls : Array Slot), xW E σ H → va_S (xA E) s.heap H locs → lv_has ls 5 [(4, .int x4), (3, .int x3), (0, .int b0), (1, .int b1), (2, .int b2)] → (∀ (H : Heap) (locs : List Loc) (ls : Array Slot), xW E σ H → va_S (xA E) s.heap H locs → lv_has ls 5 [(4, .int q.2), (3, .int q.1), (0, .int b0), (1, .int b1), (2, .int b2)] → W p l e ({ frames := 1, cells := 0, slots := 0, locals := 21 } : Room) s m av below meth c H locs 0 0 Q (F0 m 38 ls [])) → W p l e ({ frames := 1, cells := 0, slots := 0, locals := 21 } : Room) s m av below meth c H locs 0 0 Q (F0 m 5 ls []) := by
  obtain ⟨hx, hb, hml, hown, hts⟩ := id F.1
  have hK := F.2.1.1
  intro n
  induction n with
  | zero =>
    intro x3 x4 q h
    cases h
  | succ n ih =>
    intro x3 x4 q h H locs ls hW hS hl kk
    rw [gX0_stockOf_5] at h
    refine lv_iload hx hb dX0_stockOf_5 (lv_at hl 0 rfl) ?_
    refine lv_iload_n hx hb dX0_stockOf_7 rfl (lv_at hl 4 rfl) ?_
    refine lv_icmp_ge (tgt := 38) hx hb dX0_stockOf_8 (by decide) (fun c1 => ?_) (fun c1 => ?_)
    · rw [if_pos c1] at h
      have h := Option.some.inj h; subst h
      exact kk _ _ _ hW hS (lv_sub hl [0, 1, 2, 3, 4] rfl)
    · rw [if_neg c1] at h
      refine lv_iload_n hx hb dX0_stockOf_11 rfl (lv_at hl 1 rfl) ?_
      refine lv_iload_n hx hb dX0_stockOf_12 rfl (lv_at hl 1 rfl) ?_
      refine lv_iload_n hx hb dX0_stockOf_13 rfl (lv_at hl 3 rfl) ?_
      refine x_backi (va_runS (As := [.int x3, .int b1]) (rest := [.int x3]) F.1 (mJ3_min l E σ x3 b1) (va_cwS 2 hts (lw_S q911 q597 q116 q598) rfl rfl rfl (by decide +kernel) ⟨Nat.le_of_ble_eq_true rfl, Nat.le_of_ble_eq_true rfl⟩) ⟨xPc.blind, F.pre hW hS [.int x3, .int b1]⟩ rfl rfl hl.1 rfl (lv_room (Nat.le_of_ble_eq_true rfl)) dX0_stockOf_14 ⟨Nat.le_refl _, Nat.le_refl _⟩) hS (fun H locs hW hS => ?_)
      refine lv_isub hx hb dX0_stockOf_17 ?_
      refine lv_istore_n (lv' := [(3, .int (x3 - (fJ3_min x3 b1))), (4, .int x4), (0, .int b0), (1, .int b1), (2, .int b2)]) hx hb dX0_stockOf_18 rfl hl (by decide) rfl (fun ls hl => ?_)
      refine lv_sipush (v := 9999) hx hb dX0_stockOf_19 (by decide) ?_
      refine lv_iload_n hx hb dX0_stockOf_22 rfl (lv_at hl 0 rfl) ?_
      refine lv_iload_n hx hb dX0_stockOf_23 rfl (lv_at hl 0 rfl) ?_
      refine lv_bipush (v := 10) hx hb dX0_stockOf_24 (by decide) ?_
      refine lv_idiv hx hb dX0_stockOf_26 (by decide) ?_
      refine lv_iadd hx hb dX0_stockOf_27 ?_
      refine x_backi (va_runS (As := [.int 9999, .int ((x3 - (fJ3_min x3 b1)) + ((x3 - (fJ3_min x3 b1)) / 10))]) (rest := []) F.1 (mJ3_min l E σ 9999 ((x3 - (fJ3_min x3 b1)) + ((x3 - (fJ3_min x3 b1)) / 10))) (va_cwS 2 hts (lw_S q911 q597 q116 q598) rfl rfl rfl (by decide +kernel) ⟨Nat.le_of_ble_eq_true rfl, Nat.le_of_ble_eq_true rfl⟩) ⟨xPc.blind, F.pre hW hS [.int 9999, .int ((x3 - (fJ3_min x3 b1)) + ((x3 - (fJ3_min x3 b1)) / 10))]⟩ rfl rfl hl.1 rfl (lv_room (Nat.le_of_ble_eq_true rfl)) dX0_stockOf_28 ⟨Nat.le_refl _, Nat.le_refl _⟩) hS (fun H locs hW hS => ?_)
      refine lv_istore_n (lv' := [(3, .int (fJ3_min 9999 ((x3 - (fJ3_min x3 b1)) + ((x3 - (fJ3_min x3 b1)) / 10)))), (4, .int x4), (0, .int b0), (1, .int b1), (2, .int b2)]) hx hb dX0_stockOf_31 rfl hl (by decide) rfl (fun ls hl => ?_)
      refine lv_iinc (k := 1) (v := (x4 + 1)) (lv' := [(4, .int (x4 + 1)), (3, .int (fJ3_min 9999 ((x3 - (fJ3_min x3 b1)) + ((x3 - (fJ3_min x3 b1)) / 10)))), (0, .int b0), (1, .int b1), (2, .int b2)]) hx hb dX0_stockOf_32 hl rfl rfl (by decide) rfl (fun ls hl => ?_)
      refine lv_goto (tgt := 5) hx hb dX0_stockOf_35 (by decide) ?_
      exact ih (fJ3_min 9999 ((x3 - (fJ3_min x3 b1)) + ((x3 - (fJ3_min x3 b1)) / 10))) (x4 + 1) _ h _ _ _ hW hS (lv_sub hl [0, 1, 2, 3, 4] rfl) kk
set_option maxHeartbeats 4000000 in
theorem mX0_stockOf (l : Launch) (E : xE) (σ : xM) (a0 : Int32) (a1 : Int32) (a2 : Int32) (r : Int32) (h : fX0_stockOf a0 a1 a2 = some r) : Met l yX0_stockOf (ws_ yX0_stockOf cX0_stockOf 5 (some .int)) ({ frames := 1, cells := 0, slots := 0, locals := 21 } : Room) (xPc E σ [.int a0, .int a1, .int a2]) (xQc E (.returned (some (.int r))) σ) 0 0 (xA E) := by
  refine x_of (C := RX0) (n := "stockOf") (d := "(III)I") (r := (some .int)) (by decide) rfl (by first | decide | exact Nat.le_of_ble_eq_true rfl) ?_
  intro p e s m below meth c ls F hr hlk hW hS hl
  have hl : lv_has ls 5 [(0, .int a0), (1, .int a1), (2, .int a2)] := hl
  obtain ⟨hx, hb, hml, hown, hts⟩ := id F.1
  have hK := F.2.1.1
  unfold fX0_stockOf at h
  refine lv_iload_n hx hb dX0_stockOf_0 rfl (lv_at hl 0 rfl) ?_
  refine lv_istore_n (lv' := [(3, .int a0), (0, .int a0), (1, .int a1), (2, .int a2)]) hx hb dX0_stockOf_1 rfl hl (by decide) rfl (fun ls hl => ?_)
  refine lv_iconst (v := 0) hx hb dX0_stockOf_2 (by decide) ?_
  refine lv_istore (lv' := [(4, .int 0), (3, .int a0), (0, .int a0), (1, .int a1), (2, .int a2)]) hx hb dX0_stockOf_3 hl (by decide) rfl (fun ls hl => ?_)
  cases g2 : gX0_stockOf_5 a1 a2 xfu a0 0 with
  | none => rw [g2] at h; cases h
  | some q3 =>
    rw [g2, Option.bind_some] at h
    refine lX0_stockOf_5 F xfu a0 0 q3 g2 _ _ _ hW hS (lv_sub hl [0, 1, 2, 3, 4] rfl) (fun H locs ls hW hS hl => ?_)
    refine lv_iload_n hx hb dX0_stockOf_38 rfl (lv_at hl 1 rfl) ?_
    have h := Option.some.inj h; subst h
    exact x_iret F hr hlk hW hS dX0_stockOf_39
/-! WildBells.stock(III)I -/
def fX0_stock (σ : xM) (a1 : Int32) (a2 : Int32) (a3 : Int32) : Option (Int32 × xM) :=
  if (fX0_in a1 0 9999) = 0 then ((fX0_finding σ 0).bind (fun r3 => some (r3.1, r3.2))) else (if (fX0_in a2 0 999) = 0 then ((fX0_finding σ 0).bind (fun r6 => some (r6.1, r6.2))) else (if (fX0_in a3 0 99) = 0 then ((fX0_finding σ 0).bind (fun r9 => some (r9.1, r9.2))) else ((fX0_stockOf a1 a2 a3).bind (fun r11 => some (r11, σ)))))
set_option maxHeartbeats 4000000 in
theorem mX0_stock (l : Launch) (E : xE) (σ : xM) (a1 : Int32) (a2 : Int32) (a3 : Int32) (r : Int32) (σ' : xM) (h : fX0_stock σ a1 a2 a3 = some (r, σ')) : Met l yX0_stock (ws_ yX0_stock cX0_stock 5 (some .int)) ({ frames := 2, cells := 0, slots := 0, locals := 45 } : Room) (xPc E σ [.ref (xa E 0), .int a1, .int a2, .int a3]) (xQc E (.returned (some (.int r))) σ') 0 0 (xA E) := by
  refine x_of (C := RX0) (n := "stock") (d := "(III)I") (r := (some .int)) (by decide) rfl (by first | decide | exact Nat.le_of_ble_eq_true rfl) ?_
  intro p e s m below meth c ls F hr hlk hW hS hl
  have hl : lv_has ls 5 [(0, .ref (xa E 0)), (1, .int a1), (2, .int a2), (3, .int a3)] := hl
  obtain ⟨hx, hb, hml, hown, hts⟩ := id F.1
  have hK := F.2.1.1
  unfold fX0_stock at h
  refine lv_iload_n hx hb dX0_stock_0 rfl (lv_at hl 1 rfl) ?_
  refine lv_iconst (v := 0) hx hb dX0_stock_1 (by decide) ?_
  refine lv_sipush (v := 9999) hx hb dX0_stock_2 (by decide) ?_
  refine x_backi (va_runS (As := [.int a1, .int 0, .int 9999]) (rest := []) F.1 (mX0_in l E σ a1 0 9999) (va_cwS 3 hts (lw_S q466 q467 q99 q468) rfl rfl rfl (by decide +kernel) ⟨Nat.le_of_ble_eq_true rfl, Nat.le_of_ble_eq_true rfl⟩) ⟨xPc.blind, F.pre hW hS [.int a1, .int 0, .int 9999]⟩ rfl rfl hl.1 rfl (lv_room (Nat.le_of_ble_eq_true rfl)) dX0_stock_5 ⟨Nat.le_refl _, Nat.le_refl _⟩) hS (fun H locs hW hS => ?_)
  refine lv_if_eq (tgt := 36) hx hb dX0_stock_8 (by decide) (fun c1 => ?_) (fun c1 => ?_)
  · rw [if_pos c1] at h
    refine lv_iconst (v := 0) hx hb dX0_stock_36 (by decide) ?_
    refine lv_istore (lv' := [(4, .int 0), (0, .ref (xa E 0)), (1, .int a1), (2, .int a2), (3, .int a3)]) hx hb dX0_stock_37 hl (by decide) rfl (fun ls hl => ?_)
    refine lv_iload hx hb dX0_stock_39 (lv_at hl 0 rfl) ?_
    refine lv_if_eq (tgt := 53) hx hb dX0_stock_41 (by decide) (fun c => ?_) (fun c => absurd c (by decide))
    refine lv_aload_n hx hb dX0_stock_53 rfl (lv_at hl 1 rfl) ?_
    refine lv_iconst (v := 0) hx hb dX0_stock_54 (by decide) ?_
    cases g2 : fX0_finding σ 0 with
    | none => rw [g2] at h; cases h
    | some r3 =>
      rw [g2, Option.bind_some] at h
      refine x_backi (va_runV (C := RX0) (b := (xa E 0)) (As := [.int 0]) (rest := []) F.1 (mX0_finding l E σ 0 r3.1 r3.2 g2) (cwV 1 hts (lw_V q469 q471 qs2 q99 q472) rfl rfl rfl (by decide +kernel) ⟨Nat.le_of_ble_eq_true rfl, Nat.le_of_ble_eq_true rfl⟩) ⟨xPc.blind, va_recv hK (xO_X hW) (ci := 0) (q0 := 0) rfl rfl, F.pre hW hS (.ref (xa E 0) :: [.int 0])⟩ rfl rfl hl.1 rfl (lv_room (Nat.le_of_ble_eq_true rfl)) dX0_stock_55 ⟨Nat.le_refl _, Nat.le_refl _⟩) hS (fun H locs hW hS => ?_)
      obtain ⟨h1, h2⟩ := Prod.mk.inj (Option.some.inj h); subst h1; subst h2
      exact x_iret F hr hlk hW hS dX0_stock_58
  · rw [if_neg c1] at h
    refine lv_iload_n hx hb dX0_stock_11 rfl (lv_at hl 2 rfl) ?_
    refine lv_iconst (v := 0) hx hb dX0_stock_12 (by decide) ?_
    refine lv_sipush (v := 999) hx hb dX0_stock_13 (by decide) ?_
    refine x_backi (va_runS (As := [.int a2, .int 0, .int 999]) (rest := []) F.1 (mX0_in l E σ a2 0 999) (va_cwS 3 hts (lw_S q466 q467 q99 q468) rfl rfl rfl (by decide +kernel) ⟨Nat.le_of_ble_eq_true rfl, Nat.le_of_ble_eq_true rfl⟩) ⟨xPc.blind, F.pre hW hS [.int a2, .int 0, .int 999]⟩ rfl rfl hl.1 rfl (lv_room (Nat.le_of_ble_eq_true rfl)) dX0_stock_16 ⟨Nat.le_refl _, Nat.le_refl _⟩) hS (fun H locs hW hS => ?_)
    refine lv_if_eq (tgt := 36) hx hb dX0_stock_19 (by decide) (fun c4 => ?_) (fun c4 => ?_)
    · rw [if_pos c4] at h
      refine lv_iconst (v := 0) hx hb dX0_stock_36 (by decide) ?_
      refine lv_istore (lv' := [(4, .int 0), (0, .ref (xa E 0)), (1, .int a1), (2, .int a2), (3, .int a3)]) hx hb dX0_stock_37 hl (by decide) rfl (fun ls hl => ?_)
      refine lv_iload hx hb dX0_stock_39 (lv_at hl 0 rfl) ?_
      refine lv_if_eq (tgt := 53) hx hb dX0_stock_41 (by decide) (fun c => ?_) (fun c => absurd c (by decide))
      refine lv_aload_n hx hb dX0_stock_53 rfl (lv_at hl 1 rfl) ?_
      refine lv_iconst (v := 0) hx hb dX0_stock_54 (by decide) ?_
      cases g5 : fX0_finding σ 0 with
      | none => rw [g5] at h; cases h
      | some r6 =>
        rw [g5, Option.bind_some] at h
        refine x_backi (va_runV (C := RX0) (b := (xa E 0)) (As := [.int 0]) (rest := []) F.1 (mX0_finding l E σ 0 r6.1 r6.2 g5) (cwV 1 hts (lw_V q469 q471 qs2 q99 q472) rfl rfl rfl (by decide +kernel) ⟨Nat.le_of_ble_eq_true rfl, Nat.le_of_ble_eq_true rfl⟩) ⟨xPc.blind, va_recv hK (xO_X hW) (ci := 0) (q0 := 0) rfl rfl, F.pre hW hS (.ref (xa E 0) :: [.int 0])⟩ rfl rfl hl.1 rfl (lv_room (Nat.le_of_ble_eq_true rfl)) dX0_stock_55 ⟨Nat.le_refl _, Nat.le_refl _⟩) hS (fun H locs hW hS => ?_)
        obtain ⟨h1, h2⟩ := Prod.mk.inj (Option.some.inj h); subst h1; subst h2
        exact x_iret F hr hlk hW hS dX0_stock_58
    · rw [if_neg c4] at h
      refine lv_iload_n hx hb dX0_stock_22 rfl (lv_at hl 3 rfl) ?_
      refine lv_iconst (v := 0) hx hb dX0_stock_23 (by decide) ?_
      refine lv_bipush (v := 99) hx hb dX0_stock_24 (by decide) ?_
      refine x_backi (va_runS (As := [.int a3, .int 0, .int 99]) (rest := []) F.1 (mX0_in l E σ a3 0 99) (va_cwS 3 hts (lw_S q466 q467 q99 q468) rfl rfl rfl (by decide +kernel) ⟨Nat.le_of_ble_eq_true rfl, Nat.le_of_ble_eq_true rfl⟩) ⟨xPc.blind, F.pre hW hS [.int a3, .int 0, .int 99]⟩ rfl rfl hl.1 rfl (lv_room (Nat.le_of_ble_eq_true rfl)) dX0_stock_26 ⟨Nat.le_refl _, Nat.le_refl _⟩) hS (fun H locs hW hS => ?_)
      refine lv_if_eq (tgt := 36) hx hb dX0_stock_29 (by decide) (fun c7 => ?_) (fun c7 => ?_)
      · rw [if_pos c7] at h
        refine lv_iconst (v := 0) hx hb dX0_stock_36 (by decide) ?_
        refine lv_istore (lv' := [(4, .int 0), (0, .ref (xa E 0)), (1, .int a1), (2, .int a2), (3, .int a3)]) hx hb dX0_stock_37 hl (by decide) rfl (fun ls hl => ?_)
        refine lv_iload hx hb dX0_stock_39 (lv_at hl 0 rfl) ?_
        refine lv_if_eq (tgt := 53) hx hb dX0_stock_41 (by decide) (fun c => ?_) (fun c => absurd c (by decide))
        refine lv_aload_n hx hb dX0_stock_53 rfl (lv_at hl 1 rfl) ?_
        refine lv_iconst (v := 0) hx hb dX0_stock_54 (by decide) ?_
        cases g8 : fX0_finding σ 0 with
        | none => rw [g8] at h; cases h
        | some r9 =>
          rw [g8, Option.bind_some] at h
          refine x_backi (va_runV (C := RX0) (b := (xa E 0)) (As := [.int 0]) (rest := []) F.1 (mX0_finding l E σ 0 r9.1 r9.2 g8) (cwV 1 hts (lw_V q469 q471 qs2 q99 q472) rfl rfl rfl (by decide +kernel) ⟨Nat.le_of_ble_eq_true rfl, Nat.le_of_ble_eq_true rfl⟩) ⟨xPc.blind, va_recv hK (xO_X hW) (ci := 0) (q0 := 0) rfl rfl, F.pre hW hS (.ref (xa E 0) :: [.int 0])⟩ rfl rfl hl.1 rfl (lv_room (Nat.le_of_ble_eq_true rfl)) dX0_stock_55 ⟨Nat.le_refl _, Nat.le_refl _⟩) hS (fun H locs hW hS => ?_)
          obtain ⟨h1, h2⟩ := Prod.mk.inj (Option.some.inj h); subst h1; subst h2
          exact x_iret F hr hlk hW hS dX0_stock_58
      · rw [if_neg c7] at h
        refine lv_iconst (v := 1) hx hb dX0_stock_32 (by decide) ?_
        refine lv_goto (tgt := 37) hx hb dX0_stock_33 (by decide) ?_
        refine lv_istore (lv' := [(4, .int 1), (0, .ref (xa E 0)), (1, .int a1), (2, .int a2), (3, .int a3)]) hx hb dX0_stock_37 hl (by decide) rfl (fun ls hl => ?_)
        refine lv_iload hx hb dX0_stock_39 (lv_at hl 0 rfl) ?_
        refine lv_if_eq (tgt := 53) hx hb dX0_stock_41 (by decide) (fun c => absurd c (by decide)) (fun c => ?_)
        refine lv_iload_n hx hb dX0_stock_44 rfl (lv_at hl 2 rfl) ?_
        refine lv_iload_n hx hb dX0_stock_45 rfl (lv_at hl 3 rfl) ?_
        refine lv_iload_n hx hb dX0_stock_46 rfl (lv_at hl 4 rfl) ?_
        cases g10 : fX0_stockOf a1 a2 a3 with
        | none => rw [g10] at h; cases h
        | some r11 =>
          rw [g10, Option.bind_some] at h
          refine x_backi (va_runS (As := [.int a1, .int a2, .int a3]) (rest := []) F.1 (mX0_stockOf l E σ a1 a2 a3 r11 g10) (va_cwS 3 hts (lw_S q908 q909 q99 q910) rfl rfl rfl (by decide +kernel) ⟨Nat.le_of_ble_eq_true rfl, Nat.le_of_ble_eq_true rfl⟩) ⟨xPc.blind, F.pre hW hS [.int a1, .int a2, .int a3]⟩ rfl rfl hl.1 rfl (lv_room (Nat.le_of_ble_eq_true rfl)) dX0_stock_47 ⟨Nat.le_refl _, Nat.le_refl _⟩) hS (fun H locs hW hS => ?_)
          refine lv_goto (tgt := 58) hx hb dX0_stock_50 (by decide) ?_
          obtain ⟨h1, h2⟩ := Prod.mk.inj (Option.some.inj h); subst h1; subst h2
          exact x_iret F hr hlk hW hS dX0_stock_58
/-! WildBells.lasts(II)I -/
def gX0_lasts_31 (b1 : Int32) (b2 : Int32) : Nat → Int32 → Option Int32
  | 0, _ => none
  | n + 1, x3 => (fX0_stockOf b1 x3 b2).bind (fun r6 => if b1 ≤ r6 then (some x3) else (gX0_lasts_31 b1 b2 n (x3 + (-1))))
def fX0_lasts (σ : xM) (a1 : Int32) (a2 : Int32) : Option (Int32 × xM) :=
  if (fX0_in a1 0 9999) = 0 then ((fX0_finding σ 0).bind (fun r3 => some (r3.1, r3.2))) else (if (fX0_in a2 1 99) = 0 then ((fX0_finding σ 0).bind (fun r11 => some (r11.1, r11.2))) else ((gX0_lasts_31 a1 a2 xfu 999).bind (fun q9 => some (q9, σ))))
set_option maxHeartbeats 4000000 in
theorem lX0_lasts_31 {p : Program} {l : Launch} {e : Env} {s : State} {m : MethodId} {av : Array Value} {below : List Frame} {meth : Method} {c : Code} {Q : State → Prop} {E : xE} {σ : xM} {b1 : Int32} {b2 : Int32} (F : xFx p m c cX0_lasts 4 s av RX0 E) : ∀ (n : Nat) (x3 : Int32) (q : Int32), gX0_lasts_31 b1 b2 n x3 = some q → ∀ (H : Heap) (locs : List Loc) (ls : Array Slot), xW E σ H → va_S (xA E) s.heap H locs → lv_has ls 4 [(3, .int x3), (0, .ref (xa E 0)), (1, .int b1), (2, .int b2)] → (∀ (H : Heap) (locs : List Loc) (ls : Array Slot), xW E σ H → va_S (xA E) s.heap H locs → lv_has ls 4 [(3, .int q), (0, .ref (xa E 0)), (1, .int b1), (2, .int b2)] → W p l e ({ frames := 2, cells := 0, slots := 0, locals := 45 } : Room) s m av below meth c H locs 0 0 Q (F0 m 47 ls [])) → W p l e ({ frames := 2, cells := 0, slots := 0, locals := 45 } : Room) s m av below meth c H locs 0 0 Q (F0 m 31 ls []) := by
  obtain ⟨hx, hb, hml, hown, hts⟩ := id F.1
  have hK := F.2.1.1
  intro n
  induction n with
  | zero =>
    intro x3 q h
    cases h
  | succ n ih =>
    intro x3 q h H locs ls hW hS hl kk
    rw [gX0_lasts_31] at h
    refine lv_iload_n hx hb dX0_lasts_31 rfl (lv_at hl 2 rfl) ?_
    refine lv_iload_n hx hb dX0_lasts_32 rfl (lv_at hl 0 rfl) ?_
    refine lv_iload_n hx hb dX0_lasts_33 rfl (lv_at hl 3 rfl) ?_
    cases g5 : fX0_stockOf b1 x3 b2 with
    | none => rw [g5] at h; cases h
    | some r6 =>
      rw [g5, Option.bind_some] at h
      refine x_backi (va_runS (As := [.int b1, .int x3, .int b2]) (rest := []) F.1 (mX0_stockOf l E σ b1 x3 b2 r6 g5) (va_cwS 3 hts (lw_S q908 q909 q99 q910) rfl rfl rfl (by decide +kernel) ⟨Nat.le_of_ble_eq_true rfl, Nat.le_of_ble_eq_true rfl⟩) ⟨xPc.blind, F.pre hW hS [.int b1, .int x3, .int b2]⟩ rfl rfl hl.1 rfl (lv_room (Nat.le_of_ble_eq_true rfl)) dX0_lasts_34 ⟨Nat.le_refl _, Nat.le_refl _⟩) hS (fun H locs hW hS => ?_)
      refine lv_iload_n hx hb dX0_lasts_37 rfl (lv_at hl 2 rfl) ?_
      refine lv_icmp_ge (tgt := 47) hx hb dX0_lasts_38 (by decide) (fun c7 => ?_) (fun c7 => ?_)
      · rw [if_pos c7] at h
        have h := Option.some.inj h; subst h
        exact kk _ _ _ hW hS (lv_sub hl [0, 1, 2, 3] rfl)
      · rw [if_neg c7] at h
        refine lv_iinc (k := 0) (v := (x3 + (-1))) (lv' := [(3, .int (x3 + (-1))), (0, .ref (xa E 0)), (1, .int b1), (2, .int b2)]) hx hb dX0_lasts_41 hl rfl rfl (by decide) rfl (fun ls hl => ?_)
        refine lv_goto (tgt := 31) hx hb dX0_lasts_44 (by decide) ?_
        exact ih (x3 + (-1)) _ h _ _ _ hW hS (lv_sub hl [0, 1, 2, 3] rfl) kk
set_option maxHeartbeats 4000000 in
theorem mX0_lasts (l : Launch) (E : xE) (σ : xM) (a1 : Int32) (a2 : Int32) (r : Int32) (σ' : xM) (h : fX0_lasts σ a1 a2 = some (r, σ')) : Met l yX0_lasts (ws_ yX0_lasts cX0_lasts 4 (some .int)) ({ frames := 2, cells := 0, slots := 0, locals := 45 } : Room) (xPc E σ [.ref (xa E 0), .int a1, .int a2]) (xQc E (.returned (some (.int r))) σ') 0 0 (xA E) := by
  refine x_of (C := RX0) (n := "lasts") (d := "(II)I") (r := (some .int)) (by decide) rfl (by first | decide | exact Nat.le_of_ble_eq_true rfl) ?_
  intro p e s m below meth c ls F hr hlk hW hS hl
  have hl : lv_has ls 4 [(0, .ref (xa E 0)), (1, .int a1), (2, .int a2)] := hl
  obtain ⟨hx, hb, hml, hown, hts⟩ := id F.1
  have hK := F.2.1.1
  unfold fX0_lasts at h
  refine lv_iload_n hx hb dX0_lasts_0 rfl (lv_at hl 1 rfl) ?_
  refine lv_iconst (v := 0) hx hb dX0_lasts_1 (by decide) ?_
  refine lv_sipush (v := 9999) hx hb dX0_lasts_2 (by decide) ?_
  refine x_backi (va_runS (As := [.int a1, .int 0, .int 9999]) (rest := []) F.1 (mX0_in l E σ a1 0 9999) (va_cwS 3 hts (lw_S q466 q467 q99 q468) rfl rfl rfl (by decide +kernel) ⟨Nat.le_of_ble_eq_true rfl, Nat.le_of_ble_eq_true rfl⟩) ⟨xPc.blind, F.pre hW hS [.int a1, .int 0, .int 9999]⟩ rfl rfl hl.1 rfl (lv_room (Nat.le_of_ble_eq_true rfl)) dX0_lasts_5 ⟨Nat.le_refl _, Nat.le_refl _⟩) hS (fun H locs hW hS => ?_)
  refine lv_if_eq (tgt := 21) hx hb dX0_lasts_8 (by decide) (fun c1 => ?_) (fun c1 => ?_)
  · rw [if_pos c1] at h
    refine lv_aload_n hx hb dX0_lasts_21 rfl (lv_at hl 0 rfl) ?_
    refine lv_iconst (v := 0) hx hb dX0_lasts_22 (by decide) ?_
    cases g2 : fX0_finding σ 0 with
    | none => rw [g2] at h; cases h
    | some r3 =>
      rw [g2, Option.bind_some] at h
      refine x_backi (va_runV (C := RX0) (b := (xa E 0)) (As := [.int 0]) (rest := []) F.1 (mX0_finding l E σ 0 r3.1 r3.2 g2) (cwV 1 hts (lw_V q469 q471 qs2 q99 q472) rfl rfl rfl (by decide +kernel) ⟨Nat.le_of_ble_eq_true rfl, Nat.le_of_ble_eq_true rfl⟩) ⟨xPc.blind, va_recv hK (xO_X hW) (ci := 0) (q0 := 0) rfl rfl, F.pre hW hS (.ref (xa E 0) :: [.int 0])⟩ rfl rfl hl.1 rfl (lv_room (Nat.le_of_ble_eq_true rfl)) dX0_lasts_23 ⟨Nat.le_refl _, Nat.le_refl _⟩) hS (fun H locs hW hS => ?_)
      obtain ⟨h1, h2⟩ := Prod.mk.inj (Option.some.inj h); subst h1; subst h2
      exact x_iret F hr hlk hW hS dX0_lasts_26
  · rw [if_neg c1] at h
    refine lv_iload_n hx hb dX0_lasts_11 rfl (lv_at hl 2 rfl) ?_
    refine lv_iconst (v := 1) hx hb dX0_lasts_12 (by decide) ?_
    refine lv_bipush (v := 99) hx hb dX0_lasts_13 (by decide) ?_
    refine x_backi (va_runS (As := [.int a2, .int 1, .int 99]) (rest := []) F.1 (mX0_in l E σ a2 1 99) (va_cwS 3 hts (lw_S q466 q467 q99 q468) rfl rfl rfl (by decide +kernel) ⟨Nat.le_of_ble_eq_true rfl, Nat.le_of_ble_eq_true rfl⟩) ⟨xPc.blind, F.pre hW hS [.int a2, .int 1, .int 99]⟩ rfl rfl hl.1 rfl (lv_room (Nat.le_of_ble_eq_true rfl)) dX0_lasts_15 ⟨Nat.le_refl _, Nat.le_refl _⟩) hS (fun H locs hW hS => ?_)
    refine lv_if_ne (tgt := 27) hx hb dX0_lasts_18 (by decide) (fun c4 => ?_) (fun c4 => ?_)
    · rw [if_neg c4] at h
      refine lv_sipush (v := 999) hx hb dX0_lasts_27 (by decide) ?_
      refine lv_istore_n (lv' := [(3, .int 999), (0, .ref (xa E 0)), (1, .int a1), (2, .int a2)]) hx hb dX0_lasts_30 rfl hl (by decide) rfl (fun ls hl => ?_)
      cases g8 : gX0_lasts_31 a1 a2 xfu 999 with
      | none => rw [g8] at h; cases h
      | some q9 =>
        rw [g8, Option.bind_some] at h
        refine lX0_lasts_31 F xfu 999 q9 g8 _ _ _ hW hS (lv_sub hl [0, 1, 2, 3] rfl) (fun H locs ls hW hS hl => ?_)
        refine lv_iload_n hx hb dX0_lasts_47 rfl (lv_at hl 0 rfl) ?_
        obtain ⟨h1, h2⟩ := Prod.mk.inj (Option.some.inj h); subst h1; subst h2
        exact x_iret F hr hlk hW hS dX0_lasts_48
    · rw [if_pos c4] at h
      refine lv_aload_n hx hb dX0_lasts_21 rfl (lv_at hl 0 rfl) ?_
      refine lv_iconst (v := 0) hx hb dX0_lasts_22 (by decide) ?_
      cases g10 : fX0_finding σ 0 with
      | none => rw [g10] at h; cases h
      | some r11 =>
        rw [g10, Option.bind_some] at h
        refine x_backi (va_runV (C := RX0) (b := (xa E 0)) (As := [.int 0]) (rest := []) F.1 (mX0_finding l E σ 0 r11.1 r11.2 g10) (cwV 1 hts (lw_V q469 q471 qs2 q99 q472) rfl rfl rfl (by decide +kernel) ⟨Nat.le_of_ble_eq_true rfl, Nat.le_of_ble_eq_true rfl⟩) ⟨xPc.blind, va_recv hK (xO_X hW) (ci := 0) (q0 := 0) rfl rfl, F.pre hW hS (.ref (xa E 0) :: [.int 0])⟩ rfl rfl hl.1 rfl (lv_room (Nat.le_of_ble_eq_true rfl)) dX0_lasts_23 ⟨Nat.le_refl _, Nat.le_refl _⟩) hS (fun H locs hW hS => ?_)
        obtain ⟨h1, h2⟩ := Prod.mk.inj (Option.some.inj h); subst h1; subst h2
        exact x_iret F hr hlk hW hS dX0_lasts_26
/-! WildBells.isRow(I)Z -/
def gX0_isRow_7 (b0 : Int32) : Nat → Int32 → Int32 → Option (Int32 × Int32)
  | 0, _, _ => none
  | n + 1, x1, x2 => if x1 = 0 then (some (x1, x2)) else (if (b0 >>> (x2 &&& 31)) ≤ 1 then (some (x1, x2)) else (if (fX0_has b0 x2) = 0 then (if (fX0_has b0 (x2 + 1)) = 0 then (gX0_isRow_7 b0 n 0 (x2 + 1)) else (gX0_isRow_7 b0 n 1 (x2 + 1))) else (gX0_isRow_7 b0 n 1 (x2 + 1))))
def fX0_isRow (a0 : Int32) : Option Int32 :=
  (gX0_isRow_7 a0 xfu 1 (fJ4_numberOfTrailingZeros a0)).bind (fun q6 => if q6.1 = 0 ∨ q6.1 = 1 then (some q6.1) else none)
set_option maxHeartbeats 4000000 in
theorem lX0_isRow_7 {p : Program} {l : Launch} {e : Env} {s : State} {m : MethodId} {av : Array Value} {below : List Frame} {meth : Method} {c : Code} {Q : State → Prop} {E : xE} {σ : xM} {b0 : Int32} (F : xFx p m c cX0_isRow 3 s av RX0 E) : ∀ (n : Nat) (x1 : Int32) (x2 : Int32) (q : (Int32 × Int32)), gX0_isRow_7 b0 n x1 x2 = some q → ∀ (H : Heap) (locs : List Loc) (ls : Array Slot), xW E σ H → va_S (xA E) s.heap H locs → lv_has ls 3 [(2, .int x2), (1, .int x1), (0, .int b0)] → (∀ (H : Heap) (locs : List Loc) (ls : Array Slot), xW E σ H → va_S (xA E) s.heap H locs → lv_has ls 3 [(2, .int q.2), (1, .int q.1), (0, .int b0)] → W p l e ({ frames := 1, cells := 0, slots := 0, locals := 21 } : Room) s m av below meth c H locs 0 0 Q (F0 m 48 ls [])) → W p l e ({ frames := 1, cells := 0, slots := 0, locals := 21 } : Room) s m av below meth c H locs 0 0 Q (F0 m 7 ls []) := by
  obtain ⟨hx, hb, hml, hown, hts⟩ := id F.1
  have hK := F.2.1.1
  intro n
  induction n with
  | zero =>
    intro x1 x2 q h
    cases h
  | succ n ih =>
    intro x1 x2 q h H locs ls hW hS hl kk
    rw [gX0_isRow_7] at h
    refine lv_iload_n hx hb dX0_isRow_7 rfl (lv_at hl 1 rfl) ?_
    refine lv_if_eq (tgt := 48) hx hb dX0_isRow_8 (by decide) (fun c1 => ?_) (fun c1 => ?_)
    · rw [if_pos c1] at h
      have h := Option.some.inj h; subst h
      exact kk _ _ _ hW hS (lv_sub hl [0, 1, 2] rfl)
    · rw [if_neg c1] at h
      refine lv_iload_n hx hb dX0_isRow_11 rfl (lv_at hl 2 rfl) ?_
      refine lv_iload_n hx hb dX0_isRow_12 rfl (lv_at hl 0 rfl) ?_
      refine lv_ishr hx hb dX0_isRow_13 ?_
      refine lv_iconst (v := 1) hx hb dX0_isRow_14 (by decide) ?_
      refine lv_icmp_le (tgt := 48) hx hb dX0_isRow_15 (by decide) (fun c2 => ?_) (fun c2 => ?_)
      · rw [if_pos c2] at h
        have h := Option.some.inj h; subst h
        exact kk _ _ _ hW hS (lv_sub hl [0, 1, 2] rfl)
      · rw [if_neg c2] at h
        refine lv_iload_n hx hb dX0_isRow_18 rfl (lv_at hl 2 rfl) ?_
        refine lv_iload_n hx hb dX0_isRow_19 rfl (lv_at hl 0 rfl) ?_
        refine x_backi (va_runS (As := [.int b0, .int x2]) (rest := []) F.1 (mX0_has l E σ b0 x2) (va_cwS 2 hts (lw_S q932 q933 q99 q934) rfl rfl rfl (by decide +kernel) ⟨Nat.le_of_ble_eq_true rfl, Nat.le_of_ble_eq_true rfl⟩) ⟨xPc.blind, F.pre hW hS [.int b0, .int x2]⟩ rfl rfl hl.1 rfl (lv_room (Nat.le_of_ble_eq_true rfl)) dX0_isRow_20 ⟨Nat.le_refl _, Nat.le_refl _⟩) hS (fun H locs hW hS => ?_)
        refine lv_if_ne (tgt := 36) hx hb dX0_isRow_23 (by decide) (fun c3 => ?_) (fun c3 => ?_)
        · rw [if_neg c3] at h
          refine lv_iconst (v := 1) hx hb dX0_isRow_36 (by decide) ?_
          refine lv_goto (tgt := 41) hx hb dX0_isRow_37 (by decide) ?_
          refine lv_istore_n (lv' := [(1, .int 1), (2, .int x2), (0, .int b0)]) hx hb dX0_isRow_41 rfl hl (by decide) rfl (fun ls hl => ?_)
          refine lv_iinc (k := 1) (v := (x2 + 1)) (lv' := [(2, .int (x2 + 1)), (1, .int 1), (0, .int b0)]) hx hb dX0_isRow_42 hl rfl rfl (by decide) rfl (fun ls hl => ?_)
          refine lv_goto (tgt := 7) hx hb dX0_isRow_45 (by decide) ?_
          exact ih 1 (x2 + 1) _ h _ _ _ hW hS (lv_sub hl [0, 1, 2] rfl) kk
        · rw [if_pos c3] at h
          refine lv_iload_n hx hb dX0_isRow_26 rfl (lv_at hl 2 rfl) ?_
          refine lv_iload_n hx hb dX0_isRow_27 rfl (lv_at hl 0 rfl) ?_
          refine lv_iconst (v := 1) hx hb dX0_isRow_28 (by decide) ?_
          refine lv_iadd hx hb dX0_isRow_29 ?_
          refine x_backi (va_runS (As := [.int b0, .int (x2 + 1)]) (rest := []) F.1 (mX0_has l E σ b0 (x2 + 1)) (va_cwS 2 hts (lw_S q932 q933 q99 q934) rfl rfl rfl (by decide +kernel) ⟨Nat.le_of_ble_eq_true rfl, Nat.le_of_ble_eq_true rfl⟩) ⟨xPc.blind, F.pre hW hS [.int b0, .int (x2 + 1)]⟩ rfl rfl hl.1 rfl (lv_room (Nat.le_of_ble_eq_true rfl)) dX0_isRow_30 ⟨Nat.le_refl _, Nat.le_refl _⟩) hS (fun H locs hW hS => ?_)
          refine lv_if_eq (tgt := 40) hx hb dX0_isRow_33 (by decide) (fun c4 => ?_) (fun c4 => ?_)
          · rw [if_pos c4] at h
            refine lv_iconst (v := 0) hx hb dX0_isRow_40 (by decide) ?_
            refine lv_istore_n (lv' := [(1, .int 0), (2, .int x2), (0, .int b0)]) hx hb dX0_isRow_41 rfl hl (by decide) rfl (fun ls hl => ?_)
            refine lv_iinc (k := 1) (v := (x2 + 1)) (lv' := [(2, .int (x2 + 1)), (1, .int 0), (0, .int b0)]) hx hb dX0_isRow_42 hl rfl rfl (by decide) rfl (fun ls hl => ?_)
            refine lv_goto (tgt := 7) hx hb dX0_isRow_45 (by decide) ?_
            exact ih 0 (x2 + 1) _ h _ _ _ hW hS (lv_sub hl [0, 1, 2] rfl) kk
          · rw [if_neg c4] at h
            refine lv_iconst (v := 1) hx hb dX0_isRow_36 (by decide) ?_
            refine lv_goto (tgt := 41) hx hb dX0_isRow_37 (by decide) ?_
            refine lv_istore_n (lv' := [(1, .int 1), (2, .int x2), (0, .int b0)]) hx hb dX0_isRow_41 rfl hl (by decide) rfl (fun ls hl => ?_)
            refine lv_iinc (k := 1) (v := (x2 + 1)) (lv' := [(2, .int (x2 + 1)), (1, .int 1), (0, .int b0)]) hx hb dX0_isRow_42 hl rfl rfl (by decide) rfl (fun ls hl => ?_)
            refine lv_goto (tgt := 7) hx hb dX0_isRow_45 (by decide) ?_
            exact ih 1 (x2 + 1) _ h _ _ _ hW hS (lv_sub hl [0, 1, 2] rfl) kk
set_option maxHeartbeats 4000000 in
theorem mX0_isRow (l : Launch) (E : xE) (σ : xM) (a0 : Int32) (r : Int32) (h : fX0_isRow a0 = some r) : Met l yX0_isRow (ws_ yX0_isRow cX0_isRow 3 (some .boolean)) ({ frames := 1, cells := 0, slots := 0, locals := 21 } : Room) (xPc E σ [.int a0]) (xQc E (.returned (some (.int r))) σ) 0 0 (xA E) := by
  refine x_of (C := RX0) (n := "isRow") (d := "(I)Z") (r := (some .boolean)) (by decide) rfl (by first | decide | exact Nat.le_of_ble_eq_true rfl) ?_
  intro p e s m below meth c ls F hr hlk hW hS hl
  have hl : lv_has ls 3 [(0, .int a0)] := hl
  obtain ⟨hx, hb, hml, hown, hts⟩ := id F.1
  have hK := F.2.1.1
  unfold fX0_isRow at h
  refine lv_iconst (v := 1) hx hb dX0_isRow_0 (by decide) ?_
  refine lv_istore_n (lv' := [(1, .int 1), (0, .int a0)]) hx hb dX0_isRow_1 rfl hl (by decide) rfl (fun ls hl => ?_)
  refine lv_iload_n hx hb dX0_isRow_2 rfl (lv_at hl 1 rfl) ?_
  refine x_backi (va_runS (As := [.int a0]) (rest := []) F.1 (mJ4_numberOfTrailingZeros l E σ a0) (va_cwS 1 hts (lw_S q938 q939 q117 q940) rfl rfl rfl (by decide +kernel) ⟨Nat.le_of_ble_eq_true rfl, Nat.le_of_ble_eq_true rfl⟩) ⟨xPc.blind, F.pre hW hS [.int a0]⟩ rfl rfl hl.1 rfl (lv_room (Nat.le_of_ble_eq_true rfl)) dX0_isRow_3 ⟨Nat.le_refl _, Nat.le_refl _⟩) hS (fun H locs hW hS => ?_)
  refine lv_istore_n (lv' := [(2, .int (fJ4_numberOfTrailingZeros a0)), (1, .int 1), (0, .int a0)]) hx hb dX0_isRow_6 rfl hl (by decide) rfl (fun ls hl => ?_)
  cases g5 : gX0_isRow_7 a0 xfu 1 (fJ4_numberOfTrailingZeros a0) with
  | none => rw [g5] at h; cases h
  | some q6 =>
    rw [g5, Option.bind_some] at h
    refine lX0_isRow_7 F xfu 1 (fJ4_numberOfTrailingZeros a0) q6 g5 _ _ _ hW hS (lv_sub hl [0, 1, 2] rfl) (fun H locs ls hW hS hl => ?_)
    refine lv_iload_n hx hb dX0_isRow_48 rfl (lv_at hl 1 rfl) ?_
    by_cases hz7 : q6.1 = 0 ∨ q6.1 = 1
    · rw [if_pos hz7] at h
      have h := Option.some.inj h; subst h
      exact x_zret F hr hlk hW hS (x_b01 hz7) dX0_isRow_49
    · rw [if_neg hz7] at h; cases h
/-! WildBells.notesOf(I)I -/
def gX0_notesOf_4 (σ : xM) (b1 : Int32) : Nat → Int32 → Int32 → Option (Int32 × Int32)
  | 0, _, _ => none
  | n + 1, x2, x3 => if (σ 0 2) ≤ x3 then (some (x2, x3)) else (if (fX0_has b1 x3) = 0 then (gX0_notesOf_4 σ b1 n (x2 ||| 0) (x3 + 1)) else (if xin x3 8 then (gX0_notesOf_4 σ b1 n (x2 ||| (1 <<< ((σ 0 (146 + 5 * x3.toNatClampNeg + 2)) &&& 31))) (x3 + 1)) else none))
def fX0_notesOf (σ : xM) (a1 : Int32) : Option Int32 :=
  (gX0_notesOf_4 σ a1 xfu 0 0).bind (fun q5 => some q5.1)
set_option maxHeartbeats 4000000 in
theorem lX0_notesOf_4 {p : Program} {l : Launch} {e : Env} {s : State} {m : MethodId} {av : Array Value} {below : List Frame} {meth : Method} {c : Code} {Q : State → Prop} {E : xE} {σ : xM} {b1 : Int32} (F : xFx p m c cX0_notesOf 4 s av RX0 E) : ∀ (n : Nat) (x2 : Int32) (x3 : Int32) (q : (Int32 × Int32)), gX0_notesOf_4 σ b1 n x2 x3 = some q → ∀ (H : Heap) (locs : List Loc) (ls : Array Slot), xW E σ H → va_S (xA E) s.heap H locs → lv_has ls 4 [(3, .int x3), (2, .int x2), (0, .ref (xa E 0)), (1, .int b1)] → (∀ (H : Heap) (locs : List Loc) (ls : Array Slot), xW E σ H → va_S (xA E) s.heap H locs → lv_has ls 4 [(3, .int q.2), (2, .int q.1), (0, .ref (xa E 0)), (1, .int b1)] → W p l e ({ frames := 1, cells := 0, slots := 0, locals := 21 } : Room) s m av below meth c H locs 0 0 Q (F0 m 49 ls [])) → W p l e ({ frames := 1, cells := 0, slots := 0, locals := 21 } : Room) s m av below meth c H locs 0 0 Q (F0 m 4 ls []) := by
  obtain ⟨hx, hb, hml, hown, hts⟩ := id F.1
  have hK := F.2.1.1
  intro n
  induction n with
  | zero =>
    intro x2 x3 q h
    cases h
  | succ n ih =>
    intro x2 x3 q h H locs ls hW hS hl kk
    rw [gX0_notesOf_4] at h
    refine lv_iload_n hx hb dX0_notesOf_4 rfl (lv_at hl 0 rfl) ?_
    refine lv_aload_n hx hb dX0_notesOf_5 rfl (lv_at hl 2 rfl) ?_
    refine va_get (D := xD E) (ci := 0) (v := .ref (xa E (xwc 0 0))) (C := RX0) (T := TX0) (N := 15) hx hb hts in_X0 hown hK (xO_X hW) 0 rfl rfl 3 (by decide) (hts _ q416) (fun _ h9 => h9) rfl dX0_notesOf_6 ?_
    refine va_getN (D := xD E) (ci := 4) (v := .int (σ 0 2)) (C := RX4) (T := TX4) (N := 8) hx hb hts in_X4 hown hK (xO_W hW 0 (by decide)) 0 rfl rfl 3 (by decide) (va_Nw.use rfl (F.2.1.2.1 _ q241 rfl)) (fun _ h9 => h9) rfl dX0_notesOf_9 ?_
    refine lv_icmp_ge (tgt := 49) hx hb dX0_notesOf_12 (by decide) (fun c1 => ?_) (fun c1 => ?_)
    · rw [if_pos c1] at h
      have h := Option.some.inj h; subst h
      exact kk _ _ _ hW hS (lv_sub hl [0, 1, 2, 3] rfl)
    · rw [if_neg c1] at h
      refine lv_iload_n hx hb dX0_notesOf_15 rfl (lv_at hl 1 rfl) ?_
      refine lv_iload_n hx hb dX0_notesOf_16 rfl (lv_at hl 3 rfl) ?_
      refine lv_iload_n hx hb dX0_notesOf_17 rfl (lv_at hl 0 rfl) ?_
      refine x_backi (va_runS (As := [.int b1, .int x3]) (rest := [.int x2]) F.1 (mX0_has l E σ b1 x3) (va_cwS 2 hts (lw_S q932 q933 q99 q934) rfl rfl rfl (by decide +kernel) ⟨Nat.le_of_ble_eq_true rfl, Nat.le_of_ble_eq_true rfl⟩) ⟨xPc.blind, F.pre hW hS [.int b1, .int x3]⟩ rfl rfl hl.1 rfl (lv_room (Nat.le_of_ble_eq_true rfl)) dX0_notesOf_18 ⟨Nat.le_refl _, Nat.le_refl _⟩) hS (fun H locs hW hS => ?_)
      refine lv_if_eq (tgt := 40) hx hb dX0_notesOf_21 (by decide) (fun c2 => ?_) (fun c2 => ?_)
      · rw [if_pos c2] at h
        refine lv_iconst (v := 0) hx hb dX0_notesOf_40 (by decide) ?_
        refine lv_ior hx hb dX0_notesOf_41 ?_
        refine lv_istore_n (lv' := [(2, .int (x2 ||| 0)), (3, .int x3), (0, .ref (xa E 0)), (1, .int b1)]) hx hb dX0_notesOf_42 rfl hl (by decide) rfl (fun ls hl => ?_)
        refine lv_iinc (k := 1) (v := (x3 + 1)) (lv' := [(3, .int (x3 + 1)), (2, .int (x2 ||| 0)), (0, .ref (xa E 0)), (1, .int b1)]) hx hb dX0_notesOf_43 hl rfl rfl (by decide) rfl (fun ls hl => ?_)
        refine lv_goto (tgt := 4) hx hb dX0_notesOf_46 (by decide) ?_
        exact ih (x2 ||| 0) (x3 + 1) _ h _ _ _ hW hS (lv_sub hl [0, 1, 2, 3] rfl) kk
      · rw [if_neg c2] at h
        refine lv_iconst (v := 1) hx hb dX0_notesOf_24 (by decide) ?_
        refine lv_aload_n hx hb dX0_notesOf_25 rfl (lv_at hl 2 rfl) ?_
        refine va_get (D := xD E) (ci := 0) (v := .ref (xa E (xwc 0 0))) (C := RX0) (T := TX0) (N := 15) hx hb hts in_X0 hown hK (xO_X hW) 0 rfl rfl 3 (by decide) (hts _ q416) (fun _ h9 => h9) rfl dX0_notesOf_26 ?_
        refine va_getN (D := xD E) (ci := 4) (v := .ref (xa E (xwc 0 5))) (C := RX4) (T := TX4) (N := 8) hx hb hts in_X4 hown hK (xO_W hW 0 (by decide)) 0 rfl rfl 4 (by decide) (va_Nw.use rfl (F.2.1.2.1 _ q244 rfl)) (fun _ h9 => h9) rfl dX0_notesOf_29 ?_
        refine lv_iconst (v := 2) hx hb dX0_notesOf_32 (by decide) ?_
        refine x_aald (g := fun j => xa E (xwc 0 (6 + j))) (j := 2) F 4 4 5 (xR_5 hW 0 (by decide)) rfl rfl (x_lit (by decide)) (by decide) dX0_notesOf_33 ?_
        refine lv_iload_n hx hb dX0_notesOf_34 rfl (lv_at hl 0 rfl) ?_
        by_cases hi3 : xin x3 8
        · rw [if_pos hi3] at h
          refine va_iald hx hb hK (xV_6 hW 0 2 (by decide) (by decide)) 0 0 rfl rfl hi3 dX0_notesOf_35 ?_
          refine lv_ishl hx hb dX0_notesOf_36 ?_
          refine lv_goto (tgt := 41) hx hb dX0_notesOf_37 (by decide) ?_
          refine lv_ior hx hb dX0_notesOf_41 ?_
          refine lv_istore_n (lv' := [(2, .int (x2 ||| (1 <<< ((σ 0 (146 + 5 * x3.toNatClampNeg + 2)) &&& 31)))), (3, .int x3), (0, .ref (xa E 0)), (1, .int b1)]) hx hb dX0_notesOf_42 rfl hl (by decide) rfl (fun ls hl => ?_)
          refine lv_iinc (k := 1) (v := (x3 + 1)) (lv' := [(3, .int (x3 + 1)), (2, .int (x2 ||| (1 <<< ((σ 0 (146 + 5 * x3.toNatClampNeg + 2)) &&& 31)))), (0, .ref (xa E 0)), (1, .int b1)]) hx hb dX0_notesOf_43 hl rfl rfl (by decide) rfl (fun ls hl => ?_)
          refine lv_goto (tgt := 4) hx hb dX0_notesOf_46 (by decide) ?_
          exact ih (x2 ||| (1 <<< ((σ 0 (146 + 5 * x3.toNatClampNeg + 2)) &&& 31))) (x3 + 1) _ h _ _ _ hW hS (lv_sub hl [0, 1, 2, 3] rfl) kk
        · rw [if_neg hi3] at h; cases h
set_option maxHeartbeats 4000000 in
theorem mX0_notesOf (l : Launch) (E : xE) (σ : xM) (a1 : Int32) (r : Int32) (h : fX0_notesOf σ a1 = some r) : Met l yX0_notesOf (ws_ yX0_notesOf cX0_notesOf 4 (some .int)) ({ frames := 1, cells := 0, slots := 0, locals := 21 } : Room) (xPc E σ [.ref (xa E 0), .int a1]) (xQc E (.returned (some (.int r))) σ) 0 0 (xA E) := by
  refine x_of (C := RX0) (n := "notesOf") (d := "(I)I") (r := (some .int)) (by decide) rfl (by first | decide | exact Nat.le_of_ble_eq_true rfl) ?_
  intro p e s m below meth c ls F hr hlk hW hS hl
  have hl : lv_has ls 4 [(0, .ref (xa E 0)), (1, .int a1)] := hl
  obtain ⟨hx, hb, hml, hown, hts⟩ := id F.1
  have hK := F.2.1.1
  unfold fX0_notesOf at h
  refine lv_iconst (v := 0) hx hb dX0_notesOf_0 (by decide) ?_
  refine lv_istore_n (lv' := [(2, .int 0), (0, .ref (xa E 0)), (1, .int a1)]) hx hb dX0_notesOf_1 rfl hl (by decide) rfl (fun ls hl => ?_)
  refine lv_iconst (v := 0) hx hb dX0_notesOf_2 (by decide) ?_
  refine lv_istore_n (lv' := [(3, .int 0), (2, .int 0), (0, .ref (xa E 0)), (1, .int a1)]) hx hb dX0_notesOf_3 rfl hl (by decide) rfl (fun ls hl => ?_)
  cases g4 : gX0_notesOf_4 σ a1 xfu 0 0 with
  | none => rw [g4] at h; cases h
  | some q5 =>
    rw [g4, Option.bind_some] at h
    refine lX0_notesOf_4 F xfu 0 0 q5 g4 _ _ _ hW hS (lv_sub hl [0, 1, 2, 3] rfl) (fun H locs ls hW hS hl => ?_)
    refine lv_iload_n hx hb dX0_notesOf_49 rfl (lv_at hl 1 rfl) ?_
    have h := Option.some.inj h; subst h
    exact x_iret F hr hlk hW hS dX0_notesOf_50
/-! WildBells.isRing(I)Z -/
def fX0_isRing (σ : xM) (a1 : Int32) : Option Int32 :=
  (fX0_notesOf σ a1).bind (fun r2 => if a1 = 0 then (some 0) else (if (fX0_ones r2) = (fX0_ones a1) then ((fX0_isRow r2).bind (fun r6 => if r6 = 0 then (some 0) else (some 1))) else (some 0)))
set_option maxHeartbeats 4000000 in
theorem mX0_isRing (l : Launch) (E : xE) (σ : xM) (a1 : Int32) (r : Int32) (h : fX0_isRing σ a1 = some r) : Met l yX0_isRing (ws_ yX0_isRing cX0_isRing 3 (some .boolean)) ({ frames := 2, cells := 0, slots := 0, locals := 44 } : Room) (xPc E σ [.ref (xa E 0), .int a1]) (xQc E (.returned (some (.int r))) σ) 0 0 (xA E) := by
  refine x_of (C := RX0) (n := "isRing") (d := "(I)Z") (r := (some .boolean)) (by decide) rfl (by first | decide | exact Nat.le_of_ble_eq_true rfl) ?_
  intro p e s m below meth c ls F hr hlk hW hS hl
  have hl : lv_has ls 3 [(0, .ref (xa E 0)), (1, .int a1)] := hl
  obtain ⟨hx, hb, hml, hown, hts⟩ := id F.1
  have hK := F.2.1.1
  unfold fX0_isRing at h
  refine lv_aload_n hx hb dX0_isRing_0 rfl (lv_at hl 0 rfl) ?_
  refine lv_iload_n hx hb dX0_isRing_1 rfl (lv_at hl 1 rfl) ?_
  cases g1 : fX0_notesOf σ a1 with
  | none => rw [g1] at h; cases h
  | some r2 =>
    rw [g1, Option.bind_some] at h
    refine x_backi (va_runV (C := RX0) (b := (xa E 0)) (As := [.int a1]) (rest := []) F.1 (mX0_notesOf l E σ a1 r2 g1) (cwV 1 hts (lw_V q928 q930 qs32 q99 q931) rfl rfl rfl (by decide +kernel) ⟨Nat.le_of_ble_eq_true rfl, Nat.le_of_ble_eq_true rfl⟩) ⟨xPc.blind, va_recv hK (xO_X hW) (ci := 0) (q0 := 0) rfl rfl, F.pre hW hS (.ref (xa E 0) :: [.int a1])⟩ rfl rfl hl.1 rfl (lv_room (Nat.le_of_ble_eq_true rfl)) dX0_isRing_2 ⟨Nat.le_refl _, Nat.le_refl _⟩) hS (fun H locs hW hS => ?_)
    refine lv_istore_n (lv' := [(2, .int r2), (0, .ref (xa E 0)), (1, .int a1)]) hx hb dX0_isRing_5 rfl hl (by decide) rfl (fun ls hl => ?_)
    refine lv_iload_n hx hb dX0_isRing_6 rfl (lv_at hl 2 rfl) ?_
    refine lv_if_eq (tgt := 32) hx hb dX0_isRing_7 (by decide) (fun c3 => ?_) (fun c3 => ?_)
    · rw [if_pos c3] at h
      refine lv_iconst (v := 0) hx hb dX0_isRing_32 (by decide) ?_
      have h := Option.some.inj h; subst h
      exact x_zret F hr hlk hW hS rfl dX0_isRing_33
    · rw [if_neg c3] at h
      refine lv_iload_n hx hb dX0_isRing_10 rfl (lv_at hl 0 rfl) ?_
      refine x_backi (va_runS (As := [.int r2]) (rest := []) F.1 (mX0_ones l E σ r2) (va_cwS 1 hts (lw_S q721 q722 q99 q723) rfl rfl rfl (by decide +kernel) ⟨Nat.le_of_ble_eq_true rfl, Nat.le_of_ble_eq_true rfl⟩) ⟨xPc.blind, F.pre hW hS [.int r2]⟩ rfl rfl hl.1 rfl (lv_room (Nat.le_of_ble_eq_true rfl)) dX0_isRing_11 ⟨Nat.le_refl _, Nat.le_refl _⟩) hS (fun H locs hW hS => ?_)
      refine lv_iload_n hx hb dX0_isRing_14 rfl (lv_at hl 2 rfl) ?_
      refine x_backi (va_runS (As := [.int a1]) (rest := [.int (fX0_ones r2)]) F.1 (mX0_ones l E σ a1) (va_cwS 1 hts (lw_S q721 q722 q99 q723) rfl rfl rfl (by decide +kernel) ⟨Nat.le_of_ble_eq_true rfl, Nat.le_of_ble_eq_true rfl⟩) ⟨xPc.blind, F.pre hW hS [.int a1]⟩ rfl rfl hl.1 rfl (lv_room (Nat.le_of_ble_eq_true rfl)) dX0_isRing_15 ⟨Nat.le_refl _, Nat.le_refl _⟩) hS (fun H locs hW hS => ?_)
      refine lv_icmp_ne (tgt := 32) hx hb dX0_isRing_18 (by decide) (fun c4 => ?_) (fun c4 => ?_)
      · rw [if_neg c4] at h
        refine lv_iconst (v := 0) hx hb dX0_isRing_32 (by decide) ?_
        have h := Option.some.inj h; subst h
        exact x_zret F hr hlk hW hS rfl dX0_isRing_33
      · rw [if_pos c4] at h
        refine lv_iload_n hx hb dX0_isRing_21 rfl (lv_at hl 0 rfl) ?_
        cases g5 : fX0_isRow r2 with
        | none => rw [g5] at h; cases h
        | some r6 =>
          rw [g5, Option.bind_some] at h
          refine x_backi (va_runS (As := [.int r2]) (rest := []) F.1 (mX0_isRow l E σ r2 r6 g5) (va_cwS 1 hts (lw_S q935 q936 q99 q937) rfl rfl rfl (by decide +kernel) ⟨Nat.le_of_ble_eq_true rfl, Nat.le_of_ble_eq_true rfl⟩) ⟨xPc.blind, F.pre hW hS [.int r2]⟩ rfl rfl hl.1 rfl (lv_room (Nat.le_of_ble_eq_true rfl)) dX0_isRing_22 ⟨Nat.le_refl _, Nat.le_refl _⟩) hS (fun H locs hW hS => ?_)
          refine lv_if_eq (tgt := 32) hx hb dX0_isRing_25 (by decide) (fun c7 => ?_) (fun c7 => ?_)
          · rw [if_pos c7] at h
            refine lv_iconst (v := 0) hx hb dX0_isRing_32 (by decide) ?_
            have h := Option.some.inj h; subst h
            exact x_zret F hr hlk hW hS rfl dX0_isRing_33
          · rw [if_neg c7] at h
            refine lv_iconst (v := 1) hx hb dX0_isRing_28 (by decide) ?_
            refine lv_goto (tgt := 33) hx hb dX0_isRing_29 (by decide) ?_
            have h := Option.some.inj h; subst h
            exact x_zret F hr hlk hW hS rfl dX0_isRing_33
/-! WildBells.bestRing()I -/
def gX0_bestRing_4 (σ : xM) : Nat → Int32 → Int32 → Option (Int32 × Int32)
  | 0, _, _ => none
  | n + 1, x1, x2 => if (1 <<< ((σ 0 2) &&& 31)) ≤ x2 then (some (x1, x2)) else ((fX0_isRing σ x2).bind (fun r3 => if r3 = 0 then (gX0_bestRing_4 σ n x1 (x2 + 1)) else (if (fX0_ones x2) ≤ (fX0_ones x1) then (gX0_bestRing_4 σ n x1 (x2 + 1)) else (gX0_bestRing_4 σ n x2 (x2 + 1)))))
def fX0_bestRing (σ : xM) : Option Int32 :=
  (gX0_bestRing_4 σ xfu 0 1).bind (fun q7 => some q7.1)
set_option maxHeartbeats 4000000 in
theorem lX0_bestRing_4 {p : Program} {l : Launch} {e : Env} {s : State} {m : MethodId} {av : Array Value} {below : List Frame} {meth : Method} {c : Code} {Q : State → Prop} {E : xE} {σ : xM} (F : xFx p m c cX0_bestRing 3 s av RX0 E) : ∀ (n : Nat) (x1 : Int32) (x2 : Int32) (q : (Int32 × Int32)), gX0_bestRing_4 σ n x1 x2 = some q → ∀ (H : Heap) (locs : List Loc) (ls : Array Slot), xW E σ H → va_S (xA E) s.heap H locs → lv_has ls 3 [(2, .int x2), (1, .int x1), (0, .ref (xa E 0))] → (∀ (H : Heap) (locs : List Loc) (ls : Array Slot), xW E σ H → va_S (xA E) s.heap H locs → lv_has ls 3 [(2, .int q.2), (1, .int q.1), (0, .ref (xa E 0))] → W p l e ({ frames := 3, cells := 0, slots := 0, locals := 66 } : Room) s m av below meth c H locs 0 0 Q (F0 m 48 ls [])) → W p l e ({ frames := 3, cells := 0, slots := 0, locals := 66 } : Room) s m av below meth c H locs 0 0 Q (F0 m 4 ls []) := by
  obtain ⟨hx, hb, hml, hown, hts⟩ := id F.1
  have hK := F.2.1.1
  intro n
  induction n with
  | zero =>
    intro x1 x2 q h
    cases h
  | succ n ih =>
    intro x1 x2 q h H locs ls hW hS hl kk
    rw [gX0_bestRing_4] at h
    refine lv_iload_n hx hb dX0_bestRing_4 rfl (lv_at hl 0 rfl) ?_
    refine lv_iconst (v := 1) hx hb dX0_bestRing_5 (by decide) ?_
    refine lv_aload_n hx hb dX0_bestRing_6 rfl (lv_at hl 2 rfl) ?_
    refine va_get (D := xD E) (ci := 0) (v := .ref (xa E (xwc 0 0))) (C := RX0) (T := TX0) (N := 15) hx hb hts in_X0 hown hK (xO_X hW) 0 rfl rfl 3 (by decide) (hts _ q416) (fun _ h9 => h9) rfl dX0_bestRing_7 ?_
    refine va_getN (D := xD E) (ci := 4) (v := .int (σ 0 2)) (C := RX4) (T := TX4) (N := 8) hx hb hts in_X4 hown hK (xO_W hW 0 (by decide)) 0 rfl rfl 3 (by decide) (va_Nw.use rfl (F.2.1.2.1 _ q241 rfl)) (fun _ h9 => h9) rfl dX0_bestRing_10 ?_
    refine lv_ishl hx hb dX0_bestRing_13 ?_
    refine lv_icmp_ge (tgt := 48) hx hb dX0_bestRing_14 (by decide) (fun c1 => ?_) (fun c1 => ?_)
    · rw [if_pos c1] at h
      have h := Option.some.inj h; subst h
      exact kk _ _ _ hW hS (lv_sub hl [0, 1, 2] rfl)
    · rw [if_neg c1] at h
      refine lv_aload_n hx hb dX0_bestRing_17 rfl (lv_at hl 2 rfl) ?_
      refine lv_iload_n hx hb dX0_bestRing_18 rfl (lv_at hl 0 rfl) ?_
      cases g2 : fX0_isRing σ x2 with
      | none => rw [g2] at h; cases h
      | some r3 =>
        rw [g2, Option.bind_some] at h
        refine x_backi (va_runV (C := RX0) (b := (xa E 0)) (As := [.int x2]) (rest := []) F.1 (mX0_isRing l E σ x2 r3 g2) (cwV 1 hts (lw_V q924 q926 qs31 q99 q927) rfl rfl rfl (by decide +kernel) ⟨Nat.le_of_ble_eq_true rfl, Nat.le_of_ble_eq_true rfl⟩) ⟨xPc.blind, va_recv hK (xO_X hW) (ci := 0) (q0 := 0) rfl rfl, F.pre hW hS (.ref (xa E 0) :: [.int x2])⟩ rfl rfl hl.1 rfl (lv_room (Nat.le_of_ble_eq_true rfl)) dX0_bestRing_19 ⟨Nat.le_refl _, Nat.le_refl _⟩) hS (fun H locs hW hS => ?_)
        refine lv_if_eq (tgt := 40) hx hb dX0_bestRing_22 (by decide) (fun c4 => ?_) (fun c4 => ?_)
        · rw [if_pos c4] at h
          refine lv_iload_n hx hb dX0_bestRing_40 rfl (lv_at hl 1 rfl) ?_
          refine lv_istore_n (lv' := [(1, .int x1), (2, .int x2), (0, .ref (xa E 0))]) hx hb dX0_bestRing_41 rfl hl (by decide) rfl (fun ls hl => ?_)
          refine lv_iinc (k := 1) (v := (x2 + 1)) (lv' := [(2, .int (x2 + 1)), (1, .int x1), (0, .ref (xa E 0))]) hx hb dX0_bestRing_42 hl rfl rfl (by decide) rfl (fun ls hl => ?_)
          refine lv_goto (tgt := 4) hx hb dX0_bestRing_45 (by decide) ?_
          exact ih x1 (x2 + 1) _ h _ _ _ hW hS (lv_sub hl [0, 1, 2] rfl) kk
        · rw [if_neg c4] at h
          refine lv_iload_n hx hb dX0_bestRing_25 rfl (lv_at hl 0 rfl) ?_
          refine x_backi (va_runS (As := [.int x2]) (rest := []) F.1 (mX0_ones l E σ x2) (va_cwS 1 hts (lw_S q721 q722 q99 q723) rfl rfl rfl (by decide +kernel) ⟨Nat.le_of_ble_eq_true rfl, Nat.le_of_ble_eq_true rfl⟩) ⟨xPc.blind, F.pre hW hS [.int x2]⟩ rfl rfl hl.1 rfl (lv_room (Nat.le_of_ble_eq_true rfl)) dX0_bestRing_26 ⟨Nat.le_refl _, Nat.le_refl _⟩) hS (fun H locs hW hS => ?_)
          refine lv_iload_n hx hb dX0_bestRing_29 rfl (lv_at hl 1 rfl) ?_
          refine x_backi (va_runS (As := [.int x1]) (rest := [.int (fX0_ones x2)]) F.1 (mX0_ones l E σ x1) (va_cwS 1 hts (lw_S q721 q722 q99 q723) rfl rfl rfl (by decide +kernel) ⟨Nat.le_of_ble_eq_true rfl, Nat.le_of_ble_eq_true rfl⟩) ⟨xPc.blind, F.pre hW hS [.int x1]⟩ rfl rfl hl.1 rfl (lv_room (Nat.le_of_ble_eq_true rfl)) dX0_bestRing_30 ⟨Nat.le_refl _, Nat.le_refl _⟩) hS (fun H locs hW hS => ?_)
          refine lv_icmp_le (tgt := 40) hx hb dX0_bestRing_33 (by decide) (fun c5 => ?_) (fun c5 => ?_)
          · rw [if_pos c5] at h
            refine lv_iload_n hx hb dX0_bestRing_40 rfl (lv_at hl 1 rfl) ?_
            refine lv_istore_n (lv' := [(1, .int x1), (2, .int x2), (0, .ref (xa E 0))]) hx hb dX0_bestRing_41 rfl hl (by decide) rfl (fun ls hl => ?_)
            refine lv_iinc (k := 1) (v := (x2 + 1)) (lv' := [(2, .int (x2 + 1)), (1, .int x1), (0, .ref (xa E 0))]) hx hb dX0_bestRing_42 hl rfl rfl (by decide) rfl (fun ls hl => ?_)
            refine lv_goto (tgt := 4) hx hb dX0_bestRing_45 (by decide) ?_
            exact ih x1 (x2 + 1) _ h _ _ _ hW hS (lv_sub hl [0, 1, 2] rfl) kk
          · rw [if_neg c5] at h
            refine lv_iload_n hx hb dX0_bestRing_36 rfl (lv_at hl 0 rfl) ?_
            refine lv_goto (tgt := 41) hx hb dX0_bestRing_37 (by decide) ?_
            refine lv_istore_n (lv' := [(1, .int x2), (2, .int x2), (0, .ref (xa E 0))]) hx hb dX0_bestRing_41 rfl hl (by decide) rfl (fun ls hl => ?_)
            refine lv_iinc (k := 1) (v := (x2 + 1)) (lv' := [(2, .int (x2 + 1)), (1, .int x2), (0, .ref (xa E 0))]) hx hb dX0_bestRing_42 hl rfl rfl (by decide) rfl (fun ls hl => ?_)
            refine lv_goto (tgt := 4) hx hb dX0_bestRing_45 (by decide) ?_
            exact ih x2 (x2 + 1) _ h _ _ _ hW hS (lv_sub hl [0, 1, 2] rfl) kk
set_option maxHeartbeats 4000000 in
theorem mX0_bestRing (l : Launch) (E : xE) (σ : xM) (r : Int32) (h : fX0_bestRing σ = some r) : Met l yX0_bestRing (ws_ yX0_bestRing cX0_bestRing 3 (some .int)) ({ frames := 3, cells := 0, slots := 0, locals := 66 } : Room) (xPc E σ [.ref (xa E 0)]) (xQc E (.returned (some (.int r))) σ) 0 0 (xA E) := by
  refine x_of (C := RX0) (n := "bestRing") (d := "()I") (r := (some .int)) (by decide) rfl (by first | decide | exact Nat.le_of_ble_eq_true rfl) ?_
  intro p e s m below meth c ls F hr hlk hW hS hl
  have hl : lv_has ls 3 [(0, .ref (xa E 0))] := hl
  obtain ⟨hx, hb, hml, hown, hts⟩ := id F.1
  have hK := F.2.1.1
  unfold fX0_bestRing at h
  refine lv_iconst (v := 0) hx hb dX0_bestRing_0 (by decide) ?_
  refine lv_istore_n (lv' := [(1, .int 0), (0, .ref (xa E 0))]) hx hb dX0_bestRing_1 rfl hl (by decide) rfl (fun ls hl => ?_)
  refine lv_iconst (v := 1) hx hb dX0_bestRing_2 (by decide) ?_
  refine lv_istore_n (lv' := [(2, .int 1), (1, .int 0), (0, .ref (xa E 0))]) hx hb dX0_bestRing_3 rfl hl (by decide) rfl (fun ls hl => ?_)
  cases g6 : gX0_bestRing_4 σ xfu 0 1 with
  | none => rw [g6] at h; cases h
  | some q7 =>
    rw [g6, Option.bind_some] at h
    refine lX0_bestRing_4 F xfu 0 1 q7 g6 _ _ _ hW hS (lv_sub hl [0, 1, 2] rfl) (fun H locs ls hW hS hl => ?_)
    refine lv_iload_n hx hb dX0_bestRing_48 rfl (lv_at hl 1 rfl) ?_
    have h := Option.some.inj h; subst h
    exact x_iret F hr hlk hW hS dX0_bestRing_49
/-! WildBells.ring()I -/
def fX0_ring (σ : xM) : Option Int32 :=
  (fX0_bestRing σ).bind (fun r2 => some (fX0_ones r2))
set_option maxHeartbeats 4000000 in
theorem mX0_ring (l : Launch) (E : xE) (σ : xM) (r : Int32) (h : fX0_ring σ = some r) : Met l yX0_ring (ws_ yX0_ring cX0_ring 1 (some .int)) ({ frames := 4, cells := 0, slots := 0, locals := 88 } : Room) (xPc E σ [.ref (xa E 0)]) (xQc E (.returned (some (.int r))) σ) 0 0 (xA E) := by
  refine x_of (C := RX0) (n := "ring") (d := "()I") (r := (some .int)) (by decide) rfl (by first | decide | exact Nat.le_of_ble_eq_true rfl) ?_
  intro p e s m below meth c ls F hr hlk hW hS hl
  have hl : lv_has ls 1 [(0, .ref (xa E 0))] := hl
  obtain ⟨hx, hb, hml, hown, hts⟩ := id F.1
  have hK := F.2.1.1
  unfold fX0_ring at h
  refine lv_aload_n hx hb dX0_ring_0 rfl (lv_at hl 0 rfl) ?_
  cases g1 : fX0_bestRing σ with
  | none => rw [g1] at h; cases h
  | some r2 =>
    rw [g1, Option.bind_some] at h
    refine x_backi (va_runV (C := RX0) (b := (xa E 0)) (As := []) (rest := []) F.1 (mX0_bestRing l E σ r2 g1) (cwV 0 hts (lw_V q920 q922 qs30 q99 q923) rfl rfl rfl (by decide +kernel) ⟨Nat.le_of_ble_eq_true rfl, Nat.le_of_ble_eq_true rfl⟩) ⟨xPc.blind, va_recv hK (xO_X hW) (ci := 0) (q0 := 0) rfl rfl, F.pre hW hS (.ref (xa E 0) :: [])⟩ rfl rfl hl.1 rfl (lv_room (Nat.le_of_ble_eq_true rfl)) dX0_ring_1 ⟨Nat.le_refl _, Nat.le_refl _⟩) hS (fun H locs hW hS => ?_)
    refine x_backi (va_runS (As := [.int r2]) (rest := []) F.1 (mX0_ones l E σ r2) (va_cwS 1 hts (lw_S q721 q722 q99 q723) rfl rfl rfl (by decide +kernel) ⟨Nat.le_of_ble_eq_true rfl, Nat.le_of_ble_eq_true rfl⟩) ⟨xPc.blind, F.pre hW hS [.int r2]⟩ rfl rfl hl.1 rfl (lv_room (Nat.le_of_ble_eq_true rfl)) dX0_ring_4 ⟨Nat.le_refl _, Nat.le_refl _⟩) hS (fun H locs hW hS => ?_)
    have h := Option.some.inj h; subst h
    exact x_iret F hr hlk hW hS dX0_ring_7
/-! WildBells.rings()I -/
def fX0_rings (σ : xM) : Option Int32 :=
  (fX0_bestRing σ).bind (fun r2 => some r2)
set_option maxHeartbeats 4000000 in
theorem mX0_rings (l : Launch) (E : xE) (σ : xM) (r : Int32) (h : fX0_rings σ = some r) : Met l yX0_rings (ws_ yX0_rings cX0_rings 1 (some .int)) ({ frames := 4, cells := 0, slots := 0, locals := 88 } : Room) (xPc E σ [.ref (xa E 0)]) (xQc E (.returned (some (.int r))) σ) 0 0 (xA E) := by
  refine x_of (C := RX0) (n := "rings") (d := "()I") (r := (some .int)) (by decide) rfl (by first | decide | exact Nat.le_of_ble_eq_true rfl) ?_
  intro p e s m below meth c ls F hr hlk hW hS hl
  have hl : lv_has ls 1 [(0, .ref (xa E 0))] := hl
  obtain ⟨hx, hb, hml, hown, hts⟩ := id F.1
  have hK := F.2.1.1
  unfold fX0_rings at h
  refine lv_aload_n hx hb dX0_rings_0 rfl (lv_at hl 0 rfl) ?_
  cases g1 : fX0_bestRing σ with
  | none => rw [g1] at h; cases h
  | some r2 =>
    rw [g1, Option.bind_some] at h
    refine x_backi (va_runV (C := RX0) (b := (xa E 0)) (As := []) (rest := []) F.1 (mX0_bestRing l E σ r2 g1) (cwV 0 hts (lw_V q920 q922 qs30 q99 q923) rfl rfl rfl (by decide +kernel) ⟨Nat.le_of_ble_eq_true rfl, Nat.le_of_ble_eq_true rfl⟩) ⟨xPc.blind, va_recv hK (xO_X hW) (ci := 0) (q0 := 0) rfl rfl, F.pre hW hS (.ref (xa E 0) :: [])⟩ rfl rfl hl.1 rfl (lv_room (Nat.le_of_ble_eq_true rfl)) dX0_rings_1 ⟨Nat.le_refl _, Nat.le_refl _⟩) hS (fun H locs hW hS => ?_)
    have h := Option.some.inj h; subst h
    exact x_iret F hr hlk hW hS dX0_rings_4
/-! WildBells.peals()I -/
def gX0_peals_4 (σ : xM) : Nat → Int32 → Int32 → Option (Int32 × Int32)
  | 0, _, _ => none
  | n + 1, x1, x2 => if (1 <<< ((σ 0 2) &&& 31)) ≤ x2 then (some (x1, x2)) else ((fX0_isRing σ x2).bind (fun r3 => if r3 = 0 then (gX0_peals_4 σ n (x1 + 0) (x2 + 1)) else (gX0_peals_4 σ n (x1 + 1) (x2 + 1))))
def fX0_peals (σ : xM) : Option Int32 :=
  (gX0_peals_4 σ xfu 0 1).bind (fun q6 => some q6.1)
set_option maxHeartbeats 4000000 in
theorem lX0_peals_4 {p : Program} {l : Launch} {e : Env} {s : State} {m : MethodId} {av : Array Value} {below : List Frame} {meth : Method} {c : Code} {Q : State → Prop} {E : xE} {σ : xM} (F : xFx p m c cX0_peals 3 s av RX0 E) : ∀ (n : Nat) (x1 : Int32) (x2 : Int32) (q : (Int32 × Int32)), gX0_peals_4 σ n x1 x2 = some q → ∀ (H : Heap) (locs : List Loc) (ls : Array Slot), xW E σ H → va_S (xA E) s.heap H locs → lv_has ls 3 [(2, .int x2), (1, .int x1), (0, .ref (xa E 0))] → (∀ (H : Heap) (locs : List Loc) (ls : Array Slot), xW E σ H → va_S (xA E) s.heap H locs → lv_has ls 3 [(2, .int q.2), (1, .int q.1), (0, .ref (xa E 0))] → W p l e ({ frames := 3, cells := 0, slots := 0, locals := 66 } : Room) s m av below meth c H locs 0 0 Q (F0 m 39 ls [])) → W p l e ({ frames := 3, cells := 0, slots := 0, locals := 66 } : Room) s m av below meth c H locs 0 0 Q (F0 m 4 ls []) := by
  obtain ⟨hx, hb, hml, hown, hts⟩ := id F.1
  have hK := F.2.1.1
  intro n
  induction n with
  | zero =>
    intro x1 x2 q h
    cases h
  | succ n ih =>
    intro x1 x2 q h H locs ls hW hS hl kk
    rw [gX0_peals_4] at h
    refine lv_iload_n hx hb dX0_peals_4 rfl (lv_at hl 0 rfl) ?_
    refine lv_iconst (v := 1) hx hb dX0_peals_5 (by decide) ?_
    refine lv_aload_n hx hb dX0_peals_6 rfl (lv_at hl 2 rfl) ?_
    refine va_get (D := xD E) (ci := 0) (v := .ref (xa E (xwc 0 0))) (C := RX0) (T := TX0) (N := 15) hx hb hts in_X0 hown hK (xO_X hW) 0 rfl rfl 3 (by decide) (hts _ q416) (fun _ h9 => h9) rfl dX0_peals_7 ?_
    refine va_getN (D := xD E) (ci := 4) (v := .int (σ 0 2)) (C := RX4) (T := TX4) (N := 8) hx hb hts in_X4 hown hK (xO_W hW 0 (by decide)) 0 rfl rfl 3 (by decide) (va_Nw.use rfl (F.2.1.2.1 _ q241 rfl)) (fun _ h9 => h9) rfl dX0_peals_10 ?_
    refine lv_ishl hx hb dX0_peals_13 ?_
    refine lv_icmp_ge (tgt := 39) hx hb dX0_peals_14 (by decide) (fun c1 => ?_) (fun c1 => ?_)
    · rw [if_pos c1] at h
      have h := Option.some.inj h; subst h
      exact kk _ _ _ hW hS (lv_sub hl [0, 1, 2] rfl)
    · rw [if_neg c1] at h
      refine lv_iload_n hx hb dX0_peals_17 rfl (lv_at hl 1 rfl) ?_
      refine lv_aload_n hx hb dX0_peals_18 rfl (lv_at hl 2 rfl) ?_
      refine lv_iload_n hx hb dX0_peals_19 rfl (lv_at hl 0 rfl) ?_
      cases g2 : fX0_isRing σ x2 with
      | none => rw [g2] at h; cases h
      | some r3 =>
        rw [g2, Option.bind_some] at h
        refine x_backi (va_runV (C := RX0) (b := (xa E 0)) (As := [.int x2]) (rest := [.int x1]) F.1 (mX0_isRing l E σ x2 r3 g2) (cwV 1 hts (lw_V q924 q926 qs31 q99 q927) rfl rfl rfl (by decide +kernel) ⟨Nat.le_of_ble_eq_true rfl, Nat.le_of_ble_eq_true rfl⟩) ⟨xPc.blind, va_recv hK (xO_X hW) (ci := 0) (q0 := 0) rfl rfl, F.pre hW hS (.ref (xa E 0) :: [.int x2])⟩ rfl rfl hl.1 rfl (lv_room (Nat.le_of_ble_eq_true rfl)) dX0_peals_20 ⟨Nat.le_refl _, Nat.le_refl _⟩) hS (fun H locs hW hS => ?_)
        refine lv_if_eq (tgt := 30) hx hb dX0_peals_23 (by decide) (fun c4 => ?_) (fun c4 => ?_)
        · rw [if_pos c4] at h
          refine lv_iconst (v := 0) hx hb dX0_peals_30 (by decide) ?_
          refine lv_iadd hx hb dX0_peals_31 ?_
          refine lv_istore_n (lv' := [(1, .int (x1 + 0)), (2, .int x2), (0, .ref (xa E 0))]) hx hb dX0_peals_32 rfl hl (by decide) rfl (fun ls hl => ?_)
          refine lv_iinc (k := 1) (v := (x2 + 1)) (lv' := [(2, .int (x2 + 1)), (1, .int (x1 + 0)), (0, .ref (xa E 0))]) hx hb dX0_peals_33 hl rfl rfl (by decide) rfl (fun ls hl => ?_)
          refine lv_goto (tgt := 4) hx hb dX0_peals_36 (by decide) ?_
          exact ih (x1 + 0) (x2 + 1) _ h _ _ _ hW hS (lv_sub hl [0, 1, 2] rfl) kk
        · rw [if_neg c4] at h
          refine lv_iconst (v := 1) hx hb dX0_peals_26 (by decide) ?_
          refine lv_goto (tgt := 31) hx hb dX0_peals_27 (by decide) ?_
          refine lv_iadd hx hb dX0_peals_31 ?_
          refine lv_istore_n (lv' := [(1, .int (x1 + 1)), (2, .int x2), (0, .ref (xa E 0))]) hx hb dX0_peals_32 rfl hl (by decide) rfl (fun ls hl => ?_)
          refine lv_iinc (k := 1) (v := (x2 + 1)) (lv' := [(2, .int (x2 + 1)), (1, .int (x1 + 1)), (0, .ref (xa E 0))]) hx hb dX0_peals_33 hl rfl rfl (by decide) rfl (fun ls hl => ?_)
          refine lv_goto (tgt := 4) hx hb dX0_peals_36 (by decide) ?_
          exact ih (x1 + 1) (x2 + 1) _ h _ _ _ hW hS (lv_sub hl [0, 1, 2] rfl) kk
set_option maxHeartbeats 4000000 in
theorem mX0_peals (l : Launch) (E : xE) (σ : xM) (r : Int32) (h : fX0_peals σ = some r) : Met l yX0_peals (ws_ yX0_peals cX0_peals 3 (some .int)) ({ frames := 3, cells := 0, slots := 0, locals := 66 } : Room) (xPc E σ [.ref (xa E 0)]) (xQc E (.returned (some (.int r))) σ) 0 0 (xA E) := by
  refine x_of (C := RX0) (n := "peals") (d := "()I") (r := (some .int)) (by decide) rfl (by first | decide | exact Nat.le_of_ble_eq_true rfl) ?_
  intro p e s m below meth c ls F hr hlk hW hS hl
  have hl : lv_has ls 3 [(0, .ref (xa E 0))] := hl
  obtain ⟨hx, hb, hml, hown, hts⟩ := id F.1
  have hK := F.2.1.1
  unfold fX0_peals at h
  refine lv_iconst (v := 0) hx hb dX0_peals_0 (by decide) ?_
  refine lv_istore_n (lv' := [(1, .int 0), (0, .ref (xa E 0))]) hx hb dX0_peals_1 rfl hl (by decide) rfl (fun ls hl => ?_)
  refine lv_iconst (v := 1) hx hb dX0_peals_2 (by decide) ?_
  refine lv_istore_n (lv' := [(2, .int 1), (1, .int 0), (0, .ref (xa E 0))]) hx hb dX0_peals_3 rfl hl (by decide) rfl (fun ls hl => ?_)
  cases g5 : gX0_peals_4 σ xfu 0 1 with
  | none => rw [g5] at h; cases h
  | some q6 =>
    rw [g5, Option.bind_some] at h
    refine lX0_peals_4 F xfu 0 1 q6 g5 _ _ _ hW hS (lv_sub hl [0, 1, 2] rfl) (fun H locs ls hW hS hl => ?_)
    refine lv_iload_n hx hb dX0_peals_39 rfl (lv_at hl 1 rfl) ?_
    have h := Option.some.inj h; subst h
    exact x_iret F hr hlk hW hS dX0_peals_40
/-! WildBells.longest(I)I -/
def gX0_longest_6 (b0 : Int32) : Nat → Int32 → Int32 → Int32 → Option (Int32 × Int32 × Int32)
  | 0, _, _, _ => none
  | n + 1, x1, x2, x3 => if 12 ≤ x3 then (some (x1, x2, x3)) else (if x3 ≤ 0 then (if x3 ≤ 1 then (if (fX0_has b0 x3) = 0 then (gX0_longest_6 b0 n (fJ3_max x1 x2) x2 (x3 + 1)) else (gX0_longest_6 b0 n (fJ3_max x1 1) 1 (x3 + 1))) else (if (fX0_has b0 (x3 - 2)) = 0 then (if (fX0_has b0 x3) = 0 then (gX0_longest_6 b0 n (fJ3_max x1 x2) x2 (x3 + 1)) else (gX0_longest_6 b0 n (fJ3_max x1 1) 1 (x3 + 1))) else (if (fX0_has b0 x3) = 0 then (gX0_longest_6 b0 n (fJ3_max x1 x2) x2 (x3 + 1)) else (gX0_longest_6 b0 n (fJ3_max x1 (x2 + 1)) (x2 + 1) (x3 + 1))))) else (if (fX0_has b0 (x3 - 1)) = 0 then (if x3 ≤ 1 then (if (fX0_has b0 x3) = 0 then (gX0_longest_6 b0 n (fJ3_max x1 x2) x2 (x3 + 1)) else (gX0_longest_6 b0 n (fJ3_max x1 1) 1 (x3 + 1))) else (if (fX0_has b0 (x3 - 2)) = 0 then (if (fX0_has b0 x3) = 0 then (gX0_longest_6 b0 n (fJ3_max x1 x2) x2 (x3 + 1)) else (gX0_longest_6 b0 n (fJ3_max x1 1) 1 (x3 + 1))) else (if (fX0_has b0 x3) = 0 then (gX0_longest_6 b0 n (fJ3_max x1 x2) x2 (x3 + 1)) else (gX0_longest_6 b0 n (fJ3_max x1 (x2 + 1)) (x2 + 1) (x3 + 1))))) else (if (fX0_has b0 x3) = 0 then (gX0_longest_6 b0 n (fJ3_max x1 x2) x2 (x3 + 1)) else (gX0_longest_6 b0 n (fJ3_max x1 (x2 + 1)) (x2 + 1) (x3 + 1)))))
def fX0_longest (a0 : Int32) : Option Int32 :=
  (gX0_longest_6 a0 xfu 0 0 0).bind (fun q16 => some q16.1)
set_option maxHeartbeats 4000000 in
theorem lX0_longest_6 {p : Program} {l : Launch} {e : Env} {s : State} {m : MethodId} {av : Array Value} {below : List Frame} {meth : Method} {c : Code} {Q : State → Prop} {E : xE} {σ : xM} {b0 : Int32} (F : xFx p m c cX0_longest 5 s av RX0 E) : ∀ (n : Nat) (x1 : Int32) (x2 : Int32) (x3 : Int32) (q : (Int32 × Int32 × Int32)), gX0_longest_6 b0 n x1 x2 x3 = some q → ∀ (H : Heap) (locs : List Loc) (ls : Array Slot), xW E σ H → va_S (xA E) s.heap H locs → lv_has ls 5 [(3, .int x3), (2, .int x2), (1, .int x1), (0, .int b0)] → (∀ (H : Heap) (locs : List Loc) (ls : Array Slot), xW E σ H → va_S (xA E) s.heap H locs → lv_has ls 5 [(3, .int q.2.2), (2, .int q.2.1), (1, .int q.1), (0, .int b0)] → W p l e ({ frames := 1, cells := 0, slots := 0, locals := 21 } : Room) s m av below meth c H locs 0 0 Q (F0 m 85 ls [])) → W p l e ({ frames := 1, cells := 0, slots := 0, locals := 21 } : Room) s m av below meth c H locs 0 0 Q (F0 m 6 ls []) := by
  obtain ⟨hx, hb, hml, hown, hts⟩ := id F.1
  have hK := F.2.1.1
  intro n
  induction n with
  | zero =>
    intro x1 x2 x3 q h
    cases h
  | succ n ih =>
    intro x1 x2 x3 q h H locs ls hW hS hl kk
    rw [gX0_longest_6] at h
    refine lv_iload_n hx hb dX0_longest_6 rfl (lv_at hl 0 rfl) ?_
    refine lv_bipush (v := 12) hx hb dX0_longest_7 (by decide) ?_
    refine lv_icmp_ge (tgt := 85) hx hb dX0_longest_9 (by decide) (fun c1 => ?_) (fun c1 => ?_)
    · rw [if_pos c1] at h
      have h := Option.some.inj h; subst h
      exact kk _ _ _ hW hS (lv_sub hl [0, 1, 2, 3] rfl)
    · rw [if_neg c1] at h
      refine lv_iload_n hx hb dX0_longest_12 rfl (lv_at hl 0 rfl) ?_
      refine lv_if_le (tgt := 26) hx hb dX0_longest_13 (by decide) (fun c2 => ?_) (fun c2 => ?_)
      · rw [if_pos c2] at h
        refine lv_iload_n hx hb dX0_longest_26 rfl (lv_at hl 0 rfl) ?_
        refine lv_iconst (v := 1) hx hb dX0_longest_27 (by decide) ?_
        refine lv_icmp_le (tgt := 45) hx hb dX0_longest_28 (by decide) (fun c3 => ?_) (fun c3 => ?_)
        · rw [if_pos c3] at h
          refine lv_iconst (v := 0) hx hb dX0_longest_45 (by decide) ?_
          refine lv_istore (lv' := [(4, .int 0), (3, .int x3), (2, .int x2), (1, .int x1), (0, .int b0)]) hx hb dX0_longest_46 hl (by decide) rfl (fun ls hl => ?_)
          refine lv_iload_n hx hb dX0_longest_48 rfl (lv_at hl 4 rfl) ?_
          refine lv_iload_n hx hb dX0_longest_49 rfl (lv_at hl 1 rfl) ?_
          refine x_backi (va_runS (As := [.int b0, .int x3]) (rest := []) F.1 (mX0_has l E σ b0 x3) (va_cwS 2 hts (lw_S q932 q933 q99 q934) rfl rfl rfl (by decide +kernel) ⟨Nat.le_of_ble_eq_true rfl, Nat.le_of_ble_eq_true rfl⟩) ⟨xPc.blind, F.pre hW hS [.int b0, .int x3]⟩ rfl rfl hl.1 rfl (lv_room (Nat.le_of_ble_eq_true rfl)) dX0_longest_50 ⟨Nat.le_refl _, Nat.le_refl _⟩) hS (fun H locs hW hS => ?_)
          refine lv_if_eq (tgt := 71) hx hb dX0_longest_53 (by decide) (fun c4 => ?_) (fun c4 => ?_)
          · rw [if_pos c4] at h
            refine lv_iload_n hx hb dX0_longest_71 rfl (lv_at hl 2 rfl) ?_
            refine lv_istore_n (lv' := [(2, .int x2), (4, .int 0), (3, .int x3), (1, .int x1), (0, .int b0)]) hx hb dX0_longest_72 rfl hl (by decide) rfl (fun ls hl => ?_)
            refine lv_iload_n hx hb dX0_longest_73 rfl (lv_at hl 3 rfl) ?_
            refine lv_iload_n hx hb dX0_longest_74 rfl (lv_at hl 0 rfl) ?_
            refine x_backi (va_runS (As := [.int x1, .int x2]) (rest := []) F.1 (mJ3_max l E σ x1 x2) (va_cwS 2 hts (lw_S q503 q504 q116 q505) rfl rfl rfl (by decide +kernel) ⟨Nat.le_of_ble_eq_true rfl, Nat.le_of_ble_eq_true rfl⟩) ⟨xPc.blind, F.pre hW hS [.int x1, .int x2]⟩ rfl rfl hl.1 rfl (lv_room (Nat.le_of_ble_eq_true rfl)) dX0_longest_75 ⟨Nat.le_refl _, Nat.le_refl _⟩) hS (fun H locs hW hS => ?_)
            refine lv_istore_n (lv' := [(1, .int (fJ3_max x1 x2)), (2, .int x2), (4, .int 0), (3, .int x3), (0, .int b0)]) hx hb dX0_longest_78 rfl hl (by decide) rfl (fun ls hl => ?_)
            refine lv_iinc (k := 3) (v := (x3 + 1)) (lv' := [(3, .int (x3 + 1)), (1, .int (fJ3_max x1 x2)), (2, .int x2), (4, .int 0), (0, .int b0)]) hx hb dX0_longest_79 hl rfl rfl (by decide) rfl (fun ls hl => ?_)
            refine lv_goto (tgt := 6) hx hb dX0_longest_82 (by decide) ?_
            exact ih (fJ3_max x1 x2) x2 (x3 + 1) _ h _ _ _ hW hS (lv_sub hl [0, 2, 1, 4] rfl) kk
          · rw [if_neg c4] at h
            refine lv_iload hx hb dX0_longest_56 (lv_at hl 0 rfl) ?_
            refine lv_if_eq (tgt := 67) hx hb dX0_longest_58 (by decide) (fun c => ?_) (fun c => absurd c (by decide))
            refine lv_iconst (v := 1) hx hb dX0_longest_67 (by decide) ?_
            refine lv_goto (tgt := 72) hx hb dX0_longest_68 (by decide) ?_
            refine lv_istore_n (lv' := [(2, .int 1), (4, .int 0), (3, .int x3), (1, .int x1), (0, .int b0)]) hx hb dX0_longest_72 rfl hl (by decide) rfl (fun ls hl => ?_)
            refine lv_iload_n hx hb dX0_longest_73 rfl (lv_at hl 3 rfl) ?_
            refine lv_iload_n hx hb dX0_longest_74 rfl (lv_at hl 0 rfl) ?_
            refine x_backi (va_runS (As := [.int x1, .int 1]) (rest := []) F.1 (mJ3_max l E σ x1 1) (va_cwS 2 hts (lw_S q503 q504 q116 q505) rfl rfl rfl (by decide +kernel) ⟨Nat.le_of_ble_eq_true rfl, Nat.le_of_ble_eq_true rfl⟩) ⟨xPc.blind, F.pre hW hS [.int x1, .int 1]⟩ rfl rfl hl.1 rfl (lv_room (Nat.le_of_ble_eq_true rfl)) dX0_longest_75 ⟨Nat.le_refl _, Nat.le_refl _⟩) hS (fun H locs hW hS => ?_)
            refine lv_istore_n (lv' := [(1, .int (fJ3_max x1 1)), (2, .int 1), (4, .int 0), (3, .int x3), (0, .int b0)]) hx hb dX0_longest_78 rfl hl (by decide) rfl (fun ls hl => ?_)
            refine lv_iinc (k := 3) (v := (x3 + 1)) (lv' := [(3, .int (x3 + 1)), (1, .int (fJ3_max x1 1)), (2, .int 1), (4, .int 0), (0, .int b0)]) hx hb dX0_longest_79 hl rfl rfl (by decide) rfl (fun ls hl => ?_)
            refine lv_goto (tgt := 6) hx hb dX0_longest_82 (by decide) ?_
            exact ih (fJ3_max x1 1) 1 (x3 + 1) _ h _ _ _ hW hS (lv_sub hl [0, 2, 1, 4] rfl) kk
        · rw [if_neg c3] at h
          refine lv_iload_n hx hb dX0_longest_31 rfl (lv_at hl 3 rfl) ?_
          refine lv_iload_n hx hb dX0_longest_32 rfl (lv_at hl 0 rfl) ?_
          refine lv_iconst (v := 2) hx hb dX0_longest_33 (by decide) ?_
          refine lv_isub hx hb dX0_longest_34 ?_
          refine x_backi (va_runS (As := [.int b0, .int (x3 - 2)]) (rest := []) F.1 (mX0_has l E σ b0 (x3 - 2)) (va_cwS 2 hts (lw_S q932 q933 q99 q934) rfl rfl rfl (by decide +kernel) ⟨Nat.le_of_ble_eq_true rfl, Nat.le_of_ble_eq_true rfl⟩) ⟨xPc.blind, F.pre hW hS [.int b0, .int (x3 - 2)]⟩ rfl rfl hl.1 rfl (lv_room (Nat.le_of_ble_eq_true rfl)) dX0_longest_35 ⟨Nat.le_refl _, Nat.le_refl _⟩) hS (fun H locs hW hS => ?_)
          refine lv_if_eq (tgt := 45) hx hb dX0_longest_38 (by decide) (fun c5 => ?_) (fun c5 => ?_)
          · rw [if_pos c5] at h
            refine lv_iconst (v := 0) hx hb dX0_longest_45 (by decide) ?_
            refine lv_istore (lv' := [(4, .int 0), (3, .int x3), (2, .int x2), (1, .int x1), (0, .int b0)]) hx hb dX0_longest_46 hl (by decide) rfl (fun ls hl => ?_)
            refine lv_iload_n hx hb dX0_longest_48 rfl (lv_at hl 4 rfl) ?_
            refine lv_iload_n hx hb dX0_longest_49 rfl (lv_at hl 1 rfl) ?_
            refine x_backi (va_runS (As := [.int b0, .int x3]) (rest := []) F.1 (mX0_has l E σ b0 x3) (va_cwS 2 hts (lw_S q932 q933 q99 q934) rfl rfl rfl (by decide +kernel) ⟨Nat.le_of_ble_eq_true rfl, Nat.le_of_ble_eq_true rfl⟩) ⟨xPc.blind, F.pre hW hS [.int b0, .int x3]⟩ rfl rfl hl.1 rfl (lv_room (Nat.le_of_ble_eq_true rfl)) dX0_longest_50 ⟨Nat.le_refl _, Nat.le_refl _⟩) hS (fun H locs hW hS => ?_)
            refine lv_if_eq (tgt := 71) hx hb dX0_longest_53 (by decide) (fun c6 => ?_) (fun c6 => ?_)
            · rw [if_pos c6] at h
              refine lv_iload_n hx hb dX0_longest_71 rfl (lv_at hl 2 rfl) ?_
              refine lv_istore_n (lv' := [(2, .int x2), (4, .int 0), (3, .int x3), (1, .int x1), (0, .int b0)]) hx hb dX0_longest_72 rfl hl (by decide) rfl (fun ls hl => ?_)
              refine lv_iload_n hx hb dX0_longest_73 rfl (lv_at hl 3 rfl) ?_
              refine lv_iload_n hx hb dX0_longest_74 rfl (lv_at hl 0 rfl) ?_
              refine x_backi (va_runS (As := [.int x1, .int x2]) (rest := []) F.1 (mJ3_max l E σ x1 x2) (va_cwS 2 hts (lw_S q503 q504 q116 q505) rfl rfl rfl (by decide +kernel) ⟨Nat.le_of_ble_eq_true rfl, Nat.le_of_ble_eq_true rfl⟩) ⟨xPc.blind, F.pre hW hS [.int x1, .int x2]⟩ rfl rfl hl.1 rfl (lv_room (Nat.le_of_ble_eq_true rfl)) dX0_longest_75 ⟨Nat.le_refl _, Nat.le_refl _⟩) hS (fun H locs hW hS => ?_)
              refine lv_istore_n (lv' := [(1, .int (fJ3_max x1 x2)), (2, .int x2), (4, .int 0), (3, .int x3), (0, .int b0)]) hx hb dX0_longest_78 rfl hl (by decide) rfl (fun ls hl => ?_)
              refine lv_iinc (k := 3) (v := (x3 + 1)) (lv' := [(3, .int (x3 + 1)), (1, .int (fJ3_max x1 x2)), (2, .int x2), (4, .int 0), (0, .int b0)]) hx hb dX0_longest_79 hl rfl rfl (by decide) rfl (fun ls hl => ?_)
              refine lv_goto (tgt := 6) hx hb dX0_longest_82 (by decide) ?_
              exact ih (fJ3_max x1 x2) x2 (x3 + 1) _ h _ _ _ hW hS (lv_sub hl [0, 2, 1, 4] rfl) kk
            · rw [if_neg c6] at h
              refine lv_iload hx hb dX0_longest_56 (lv_at hl 0 rfl) ?_
              refine lv_if_eq (tgt := 67) hx hb dX0_longest_58 (by decide) (fun c => ?_) (fun c => absurd c (by decide))
              refine lv_iconst (v := 1) hx hb dX0_longest_67 (by decide) ?_
              refine lv_goto (tgt := 72) hx hb dX0_longest_68 (by decide) ?_
              refine lv_istore_n (lv' := [(2, .int 1), (4, .int 0), (3, .int x3), (1, .int x1), (0, .int b0)]) hx hb dX0_longest_72 rfl hl (by decide) rfl (fun ls hl => ?_)
              refine lv_iload_n hx hb dX0_longest_73 rfl (lv_at hl 3 rfl) ?_
              refine lv_iload_n hx hb dX0_longest_74 rfl (lv_at hl 0 rfl) ?_
              refine x_backi (va_runS (As := [.int x1, .int 1]) (rest := []) F.1 (mJ3_max l E σ x1 1) (va_cwS 2 hts (lw_S q503 q504 q116 q505) rfl rfl rfl (by decide +kernel) ⟨Nat.le_of_ble_eq_true rfl, Nat.le_of_ble_eq_true rfl⟩) ⟨xPc.blind, F.pre hW hS [.int x1, .int 1]⟩ rfl rfl hl.1 rfl (lv_room (Nat.le_of_ble_eq_true rfl)) dX0_longest_75 ⟨Nat.le_refl _, Nat.le_refl _⟩) hS (fun H locs hW hS => ?_)
              refine lv_istore_n (lv' := [(1, .int (fJ3_max x1 1)), (2, .int 1), (4, .int 0), (3, .int x3), (0, .int b0)]) hx hb dX0_longest_78 rfl hl (by decide) rfl (fun ls hl => ?_)
              refine lv_iinc (k := 3) (v := (x3 + 1)) (lv' := [(3, .int (x3 + 1)), (1, .int (fJ3_max x1 1)), (2, .int 1), (4, .int 0), (0, .int b0)]) hx hb dX0_longest_79 hl rfl rfl (by decide) rfl (fun ls hl => ?_)
              refine lv_goto (tgt := 6) hx hb dX0_longest_82 (by decide) ?_
              exact ih (fJ3_max x1 1) 1 (x3 + 1) _ h _ _ _ hW hS (lv_sub hl [0, 2, 1, 4] rfl) kk
          · rw [if_neg c5] at h
            refine lv_iconst (v := 1) hx hb dX0_longest_41 (by decide) ?_
            refine lv_goto (tgt := 46) hx hb dX0_longest_42 (by decide) ?_
            refine lv_istore (lv' := [(4, .int 1), (3, .int x3), (2, .int x2), (1, .int x1), (0, .int b0)]) hx hb dX0_longest_46 hl (by decide) rfl (fun ls hl => ?_)
            refine lv_iload_n hx hb dX0_longest_48 rfl (lv_at hl 4 rfl) ?_
            refine lv_iload_n hx hb dX0_longest_49 rfl (lv_at hl 1 rfl) ?_
            refine x_backi (va_runS (As := [.int b0, .int x3]) (rest := []) F.1 (mX0_has l E σ b0 x3) (va_cwS 2 hts (lw_S q932 q933 q99 q934) rfl rfl rfl (by decide +kernel) ⟨Nat.le_of_ble_eq_true rfl, Nat.le_of_ble_eq_true rfl⟩) ⟨xPc.blind, F.pre hW hS [.int b0, .int x3]⟩ rfl rfl hl.1 rfl (lv_room (Nat.le_of_ble_eq_true rfl)) dX0_longest_50 ⟨Nat.le_refl _, Nat.le_refl _⟩) hS (fun H locs hW hS => ?_)
            refine lv_if_eq (tgt := 71) hx hb dX0_longest_53 (by decide) (fun c7 => ?_) (fun c7 => ?_)
            · rw [if_pos c7] at h
              refine lv_iload_n hx hb dX0_longest_71 rfl (lv_at hl 2 rfl) ?_
              refine lv_istore_n (lv' := [(2, .int x2), (4, .int 1), (3, .int x3), (1, .int x1), (0, .int b0)]) hx hb dX0_longest_72 rfl hl (by decide) rfl (fun ls hl => ?_)
              refine lv_iload_n hx hb dX0_longest_73 rfl (lv_at hl 3 rfl) ?_
              refine lv_iload_n hx hb dX0_longest_74 rfl (lv_at hl 0 rfl) ?_
              refine x_backi (va_runS (As := [.int x1, .int x2]) (rest := []) F.1 (mJ3_max l E σ x1 x2) (va_cwS 2 hts (lw_S q503 q504 q116 q505) rfl rfl rfl (by decide +kernel) ⟨Nat.le_of_ble_eq_true rfl, Nat.le_of_ble_eq_true rfl⟩) ⟨xPc.blind, F.pre hW hS [.int x1, .int x2]⟩ rfl rfl hl.1 rfl (lv_room (Nat.le_of_ble_eq_true rfl)) dX0_longest_75 ⟨Nat.le_refl _, Nat.le_refl _⟩) hS (fun H locs hW hS => ?_)
              refine lv_istore_n (lv' := [(1, .int (fJ3_max x1 x2)), (2, .int x2), (4, .int 1), (3, .int x3), (0, .int b0)]) hx hb dX0_longest_78 rfl hl (by decide) rfl (fun ls hl => ?_)
              refine lv_iinc (k := 3) (v := (x3 + 1)) (lv' := [(3, .int (x3 + 1)), (1, .int (fJ3_max x1 x2)), (2, .int x2), (4, .int 1), (0, .int b0)]) hx hb dX0_longest_79 hl rfl rfl (by decide) rfl (fun ls hl => ?_)
              refine lv_goto (tgt := 6) hx hb dX0_longest_82 (by decide) ?_
              exact ih (fJ3_max x1 x2) x2 (x3 + 1) _ h _ _ _ hW hS (lv_sub hl [0, 2, 1, 4] rfl) kk
            · rw [if_neg c7] at h
              refine lv_iload hx hb dX0_longest_56 (lv_at hl 0 rfl) ?_
              refine lv_if_eq (tgt := 67) hx hb dX0_longest_58 (by decide) (fun c => absurd c (by decide)) (fun c => ?_)
              refine lv_iload_n hx hb dX0_longest_61 rfl (lv_at hl 2 rfl) ?_
              refine lv_iconst (v := 1) hx hb dX0_longest_62 (by decide) ?_
              refine lv_iadd hx hb dX0_longest_63 ?_
              refine lv_goto (tgt := 72) hx hb dX0_longest_64 (by decide) ?_
              refine lv_istore_n (lv' := [(2, .int (x2 + 1)), (4, .int 1), (3, .int x3), (1, .int x1), (0, .int b0)]) hx hb dX0_longest_72 rfl hl (by decide) rfl (fun ls hl => ?_)
              refine lv_iload_n hx hb dX0_longest_73 rfl (lv_at hl 3 rfl) ?_
              refine lv_iload_n hx hb dX0_longest_74 rfl (lv_at hl 0 rfl) ?_
              refine x_backi (va_runS (As := [.int x1, .int (x2 + 1)]) (rest := []) F.1 (mJ3_max l E σ x1 (x2 + 1)) (va_cwS 2 hts (lw_S q503 q504 q116 q505) rfl rfl rfl (by decide +kernel) ⟨Nat.le_of_ble_eq_true rfl, Nat.le_of_ble_eq_true rfl⟩) ⟨xPc.blind, F.pre hW hS [.int x1, .int (x2 + 1)]⟩ rfl rfl hl.1 rfl (lv_room (Nat.le_of_ble_eq_true rfl)) dX0_longest_75 ⟨Nat.le_refl _, Nat.le_refl _⟩) hS (fun H locs hW hS => ?_)
              refine lv_istore_n (lv' := [(1, .int (fJ3_max x1 (x2 + 1))), (2, .int (x2 + 1)), (4, .int 1), (3, .int x3), (0, .int b0)]) hx hb dX0_longest_78 rfl hl (by decide) rfl (fun ls hl => ?_)
              refine lv_iinc (k := 3) (v := (x3 + 1)) (lv' := [(3, .int (x3 + 1)), (1, .int (fJ3_max x1 (x2 + 1))), (2, .int (x2 + 1)), (4, .int 1), (0, .int b0)]) hx hb dX0_longest_79 hl rfl rfl (by decide) rfl (fun ls hl => ?_)
              refine lv_goto (tgt := 6) hx hb dX0_longest_82 (by decide) ?_
              exact ih (fJ3_max x1 (x2 + 1)) (x2 + 1) (x3 + 1) _ h _ _ _ hW hS (lv_sub hl [0, 2, 1, 4] rfl) kk
      · rw [if_neg c2] at h
        refine lv_iload_n hx hb dX0_longest_16 rfl (lv_at hl 3 rfl) ?_
        refine lv_iload_n hx hb dX0_longest_17 rfl (lv_at hl 0 rfl) ?_
        refine lv_iconst (v := 1) hx hb dX0_longest_18 (by decide) ?_
        refine lv_isub hx hb dX0_longest_19 ?_
        refine x_backi (va_runS (As := [.int b0, .int (x3 - 1)]) (rest := []) F.1 (mX0_has l E σ b0 (x3 - 1)) (va_cwS 2 hts (lw_S q932 q933 q99 q934) rfl rfl rfl (by decide +kernel) ⟨Nat.le_of_ble_eq_true rfl, Nat.le_of_ble_eq_true rfl⟩) ⟨xPc.blind, F.pre hW hS [.int b0, .int (x3 - 1)]⟩ rfl rfl hl.1 rfl (lv_room (Nat.le_of_ble_eq_true rfl)) dX0_longest_20 ⟨Nat.le_refl _, Nat.le_refl _⟩) hS (fun H locs hW hS => ?_)
        refine lv_if_ne (tgt := 41) hx hb dX0_longest_23 (by decide) (fun c8 => ?_) (fun c8 => ?_)
        · rw [if_neg c8] at h
          refine lv_iconst (v := 1) hx hb dX0_longest_41 (by decide) ?_
          refine lv_goto (tgt := 46) hx hb dX0_longest_42 (by decide) ?_
          refine lv_istore (lv' := [(4, .int 1), (3, .int x3), (2, .int x2), (1, .int x1), (0, .int b0)]) hx hb dX0_longest_46 hl (by decide) rfl (fun ls hl => ?_)
          refine lv_iload_n hx hb dX0_longest_48 rfl (lv_at hl 4 rfl) ?_
          refine lv_iload_n hx hb dX0_longest_49 rfl (lv_at hl 1 rfl) ?_
          refine x_backi (va_runS (As := [.int b0, .int x3]) (rest := []) F.1 (mX0_has l E σ b0 x3) (va_cwS 2 hts (lw_S q932 q933 q99 q934) rfl rfl rfl (by decide +kernel) ⟨Nat.le_of_ble_eq_true rfl, Nat.le_of_ble_eq_true rfl⟩) ⟨xPc.blind, F.pre hW hS [.int b0, .int x3]⟩ rfl rfl hl.1 rfl (lv_room (Nat.le_of_ble_eq_true rfl)) dX0_longest_50 ⟨Nat.le_refl _, Nat.le_refl _⟩) hS (fun H locs hW hS => ?_)
          refine lv_if_eq (tgt := 71) hx hb dX0_longest_53 (by decide) (fun c9 => ?_) (fun c9 => ?_)
          · rw [if_pos c9] at h
            refine lv_iload_n hx hb dX0_longest_71 rfl (lv_at hl 2 rfl) ?_
            refine lv_istore_n (lv' := [(2, .int x2), (4, .int 1), (3, .int x3), (1, .int x1), (0, .int b0)]) hx hb dX0_longest_72 rfl hl (by decide) rfl (fun ls hl => ?_)
            refine lv_iload_n hx hb dX0_longest_73 rfl (lv_at hl 3 rfl) ?_
            refine lv_iload_n hx hb dX0_longest_74 rfl (lv_at hl 0 rfl) ?_
            refine x_backi (va_runS (As := [.int x1, .int x2]) (rest := []) F.1 (mJ3_max l E σ x1 x2) (va_cwS 2 hts (lw_S q503 q504 q116 q505) rfl rfl rfl (by decide +kernel) ⟨Nat.le_of_ble_eq_true rfl, Nat.le_of_ble_eq_true rfl⟩) ⟨xPc.blind, F.pre hW hS [.int x1, .int x2]⟩ rfl rfl hl.1 rfl (lv_room (Nat.le_of_ble_eq_true rfl)) dX0_longest_75 ⟨Nat.le_refl _, Nat.le_refl _⟩) hS (fun H locs hW hS => ?_)
            refine lv_istore_n (lv' := [(1, .int (fJ3_max x1 x2)), (2, .int x2), (4, .int 1), (3, .int x3), (0, .int b0)]) hx hb dX0_longest_78 rfl hl (by decide) rfl (fun ls hl => ?_)
            refine lv_iinc (k := 3) (v := (x3 + 1)) (lv' := [(3, .int (x3 + 1)), (1, .int (fJ3_max x1 x2)), (2, .int x2), (4, .int 1), (0, .int b0)]) hx hb dX0_longest_79 hl rfl rfl (by decide) rfl (fun ls hl => ?_)
            refine lv_goto (tgt := 6) hx hb dX0_longest_82 (by decide) ?_
            exact ih (fJ3_max x1 x2) x2 (x3 + 1) _ h _ _ _ hW hS (lv_sub hl [0, 2, 1, 4] rfl) kk
          · rw [if_neg c9] at h
            refine lv_iload hx hb dX0_longest_56 (lv_at hl 0 rfl) ?_
            refine lv_if_eq (tgt := 67) hx hb dX0_longest_58 (by decide) (fun c => absurd c (by decide)) (fun c => ?_)
            refine lv_iload_n hx hb dX0_longest_61 rfl (lv_at hl 2 rfl) ?_
            refine lv_iconst (v := 1) hx hb dX0_longest_62 (by decide) ?_
            refine lv_iadd hx hb dX0_longest_63 ?_
            refine lv_goto (tgt := 72) hx hb dX0_longest_64 (by decide) ?_
            refine lv_istore_n (lv' := [(2, .int (x2 + 1)), (4, .int 1), (3, .int x3), (1, .int x1), (0, .int b0)]) hx hb dX0_longest_72 rfl hl (by decide) rfl (fun ls hl => ?_)
            refine lv_iload_n hx hb dX0_longest_73 rfl (lv_at hl 3 rfl) ?_
            refine lv_iload_n hx hb dX0_longest_74 rfl (lv_at hl 0 rfl) ?_
            refine x_backi (va_runS (As := [.int x1, .int (x2 + 1)]) (rest := []) F.1 (mJ3_max l E σ x1 (x2 + 1)) (va_cwS 2 hts (lw_S q503 q504 q116 q505) rfl rfl rfl (by decide +kernel) ⟨Nat.le_of_ble_eq_true rfl, Nat.le_of_ble_eq_true rfl⟩) ⟨xPc.blind, F.pre hW hS [.int x1, .int (x2 + 1)]⟩ rfl rfl hl.1 rfl (lv_room (Nat.le_of_ble_eq_true rfl)) dX0_longest_75 ⟨Nat.le_refl _, Nat.le_refl _⟩) hS (fun H locs hW hS => ?_)
            refine lv_istore_n (lv' := [(1, .int (fJ3_max x1 (x2 + 1))), (2, .int (x2 + 1)), (4, .int 1), (3, .int x3), (0, .int b0)]) hx hb dX0_longest_78 rfl hl (by decide) rfl (fun ls hl => ?_)
            refine lv_iinc (k := 3) (v := (x3 + 1)) (lv' := [(3, .int (x3 + 1)), (1, .int (fJ3_max x1 (x2 + 1))), (2, .int (x2 + 1)), (4, .int 1), (0, .int b0)]) hx hb dX0_longest_79 hl rfl rfl (by decide) rfl (fun ls hl => ?_)
            refine lv_goto (tgt := 6) hx hb dX0_longest_82 (by decide) ?_
            exact ih (fJ3_max x1 (x2 + 1)) (x2 + 1) (x3 + 1) _ h _ _ _ hW hS (lv_sub hl [0, 2, 1, 4] rfl) kk
        · rw [if_pos c8] at h
          refine lv_iload_n hx hb dX0_longest_26 rfl (lv_at hl 0 rfl) ?_
          refine lv_iconst (v := 1) hx hb dX0_longest_27 (by decide) ?_
          refine lv_icmp_le (tgt := 45) hx hb dX0_longest_28 (by decide) (fun c10 => ?_) (fun c10 => ?_)
          · rw [if_pos c10] at h
            refine lv_iconst (v := 0) hx hb dX0_longest_45 (by decide) ?_
            refine lv_istore (lv' := [(4, .int 0), (3, .int x3), (2, .int x2), (1, .int x1), (0, .int b0)]) hx hb dX0_longest_46 hl (by decide) rfl (fun ls hl => ?_)
            refine lv_iload_n hx hb dX0_longest_48 rfl (lv_at hl 4 rfl) ?_
            refine lv_iload_n hx hb dX0_longest_49 rfl (lv_at hl 1 rfl) ?_
            refine x_backi (va_runS (As := [.int b0, .int x3]) (rest := []) F.1 (mX0_has l E σ b0 x3) (va_cwS 2 hts (lw_S q932 q933 q99 q934) rfl rfl rfl (by decide +kernel) ⟨Nat.le_of_ble_eq_true rfl, Nat.le_of_ble_eq_true rfl⟩) ⟨xPc.blind, F.pre hW hS [.int b0, .int x3]⟩ rfl rfl hl.1 rfl (lv_room (Nat.le_of_ble_eq_true rfl)) dX0_longest_50 ⟨Nat.le_refl _, Nat.le_refl _⟩) hS (fun H locs hW hS => ?_)
            refine lv_if_eq (tgt := 71) hx hb dX0_longest_53 (by decide) (fun c11 => ?_) (fun c11 => ?_)
            · rw [if_pos c11] at h
              refine lv_iload_n hx hb dX0_longest_71 rfl (lv_at hl 2 rfl) ?_
              refine lv_istore_n (lv' := [(2, .int x2), (4, .int 0), (3, .int x3), (1, .int x1), (0, .int b0)]) hx hb dX0_longest_72 rfl hl (by decide) rfl (fun ls hl => ?_)
              refine lv_iload_n hx hb dX0_longest_73 rfl (lv_at hl 3 rfl) ?_
              refine lv_iload_n hx hb dX0_longest_74 rfl (lv_at hl 0 rfl) ?_
              refine x_backi (va_runS (As := [.int x1, .int x2]) (rest := []) F.1 (mJ3_max l E σ x1 x2) (va_cwS 2 hts (lw_S q503 q504 q116 q505) rfl rfl rfl (by decide +kernel) ⟨Nat.le_of_ble_eq_true rfl, Nat.le_of_ble_eq_true rfl⟩) ⟨xPc.blind, F.pre hW hS [.int x1, .int x2]⟩ rfl rfl hl.1 rfl (lv_room (Nat.le_of_ble_eq_true rfl)) dX0_longest_75 ⟨Nat.le_refl _, Nat.le_refl _⟩) hS (fun H locs hW hS => ?_)
              refine lv_istore_n (lv' := [(1, .int (fJ3_max x1 x2)), (2, .int x2), (4, .int 0), (3, .int x3), (0, .int b0)]) hx hb dX0_longest_78 rfl hl (by decide) rfl (fun ls hl => ?_)
              refine lv_iinc (k := 3) (v := (x3 + 1)) (lv' := [(3, .int (x3 + 1)), (1, .int (fJ3_max x1 x2)), (2, .int x2), (4, .int 0), (0, .int b0)]) hx hb dX0_longest_79 hl rfl rfl (by decide) rfl (fun ls hl => ?_)
              refine lv_goto (tgt := 6) hx hb dX0_longest_82 (by decide) ?_
              exact ih (fJ3_max x1 x2) x2 (x3 + 1) _ h _ _ _ hW hS (lv_sub hl [0, 2, 1, 4] rfl) kk
            · rw [if_neg c11] at h
              refine lv_iload hx hb dX0_longest_56 (lv_at hl 0 rfl) ?_
              refine lv_if_eq (tgt := 67) hx hb dX0_longest_58 (by decide) (fun c => ?_) (fun c => absurd c (by decide))
              refine lv_iconst (v := 1) hx hb dX0_longest_67 (by decide) ?_
              refine lv_goto (tgt := 72) hx hb dX0_longest_68 (by decide) ?_
              refine lv_istore_n (lv' := [(2, .int 1), (4, .int 0), (3, .int x3), (1, .int x1), (0, .int b0)]) hx hb dX0_longest_72 rfl hl (by decide) rfl (fun ls hl => ?_)
              refine lv_iload_n hx hb dX0_longest_73 rfl (lv_at hl 3 rfl) ?_
              refine lv_iload_n hx hb dX0_longest_74 rfl (lv_at hl 0 rfl) ?_
              refine x_backi (va_runS (As := [.int x1, .int 1]) (rest := []) F.1 (mJ3_max l E σ x1 1) (va_cwS 2 hts (lw_S q503 q504 q116 q505) rfl rfl rfl (by decide +kernel) ⟨Nat.le_of_ble_eq_true rfl, Nat.le_of_ble_eq_true rfl⟩) ⟨xPc.blind, F.pre hW hS [.int x1, .int 1]⟩ rfl rfl hl.1 rfl (lv_room (Nat.le_of_ble_eq_true rfl)) dX0_longest_75 ⟨Nat.le_refl _, Nat.le_refl _⟩) hS (fun H locs hW hS => ?_)
              refine lv_istore_n (lv' := [(1, .int (fJ3_max x1 1)), (2, .int 1), (4, .int 0), (3, .int x3), (0, .int b0)]) hx hb dX0_longest_78 rfl hl (by decide) rfl (fun ls hl => ?_)
              refine lv_iinc (k := 3) (v := (x3 + 1)) (lv' := [(3, .int (x3 + 1)), (1, .int (fJ3_max x1 1)), (2, .int 1), (4, .int 0), (0, .int b0)]) hx hb dX0_longest_79 hl rfl rfl (by decide) rfl (fun ls hl => ?_)
              refine lv_goto (tgt := 6) hx hb dX0_longest_82 (by decide) ?_
              exact ih (fJ3_max x1 1) 1 (x3 + 1) _ h _ _ _ hW hS (lv_sub hl [0, 2, 1, 4] rfl) kk
          · rw [if_neg c10] at h
            refine lv_iload_n hx hb dX0_longest_31 rfl (lv_at hl 3 rfl) ?_
            refine lv_iload_n hx hb dX0_longest_32 rfl (lv_at hl 0 rfl) ?_
            refine lv_iconst (v := 2) hx hb dX0_longest_33 (by decide) ?_
            refine lv_isub hx hb dX0_longest_34 ?_
            refine x_backi (va_runS (As := [.int b0, .int (x3 - 2)]) (rest := []) F.1 (mX0_has l E σ b0 (x3 - 2)) (va_cwS 2 hts (lw_S q932 q933 q99 q934) rfl rfl rfl (by decide +kernel) ⟨Nat.le_of_ble_eq_true rfl, Nat.le_of_ble_eq_true rfl⟩) ⟨xPc.blind, F.pre hW hS [.int b0, .int (x3 - 2)]⟩ rfl rfl hl.1 rfl (lv_room (Nat.le_of_ble_eq_true rfl)) dX0_longest_35 ⟨Nat.le_refl _, Nat.le_refl _⟩) hS (fun H locs hW hS => ?_)
            refine lv_if_eq (tgt := 45) hx hb dX0_longest_38 (by decide) (fun c12 => ?_) (fun c12 => ?_)
            · rw [if_pos c12] at h
              refine lv_iconst (v := 0) hx hb dX0_longest_45 (by decide) ?_
              refine lv_istore (lv' := [(4, .int 0), (3, .int x3), (2, .int x2), (1, .int x1), (0, .int b0)]) hx hb dX0_longest_46 hl (by decide) rfl (fun ls hl => ?_)
              refine lv_iload_n hx hb dX0_longest_48 rfl (lv_at hl 4 rfl) ?_
              refine lv_iload_n hx hb dX0_longest_49 rfl (lv_at hl 1 rfl) ?_
              refine x_backi (va_runS (As := [.int b0, .int x3]) (rest := []) F.1 (mX0_has l E σ b0 x3) (va_cwS 2 hts (lw_S q932 q933 q99 q934) rfl rfl rfl (by decide +kernel) ⟨Nat.le_of_ble_eq_true rfl, Nat.le_of_ble_eq_true rfl⟩) ⟨xPc.blind, F.pre hW hS [.int b0, .int x3]⟩ rfl rfl hl.1 rfl (lv_room (Nat.le_of_ble_eq_true rfl)) dX0_longest_50 ⟨Nat.le_refl _, Nat.le_refl _⟩) hS (fun H locs hW hS => ?_)
              refine lv_if_eq (tgt := 71) hx hb dX0_longest_53 (by decide) (fun c13 => ?_) (fun c13 => ?_)
              · rw [if_pos c13] at h
                refine lv_iload_n hx hb dX0_longest_71 rfl (lv_at hl 2 rfl) ?_
                refine lv_istore_n (lv' := [(2, .int x2), (4, .int 0), (3, .int x3), (1, .int x1), (0, .int b0)]) hx hb dX0_longest_72 rfl hl (by decide) rfl (fun ls hl => ?_)
                refine lv_iload_n hx hb dX0_longest_73 rfl (lv_at hl 3 rfl) ?_
                refine lv_iload_n hx hb dX0_longest_74 rfl (lv_at hl 0 rfl) ?_
                refine x_backi (va_runS (As := [.int x1, .int x2]) (rest := []) F.1 (mJ3_max l E σ x1 x2) (va_cwS 2 hts (lw_S q503 q504 q116 q505) rfl rfl rfl (by decide +kernel) ⟨Nat.le_of_ble_eq_true rfl, Nat.le_of_ble_eq_true rfl⟩) ⟨xPc.blind, F.pre hW hS [.int x1, .int x2]⟩ rfl rfl hl.1 rfl (lv_room (Nat.le_of_ble_eq_true rfl)) dX0_longest_75 ⟨Nat.le_refl _, Nat.le_refl _⟩) hS (fun H locs hW hS => ?_)
                refine lv_istore_n (lv' := [(1, .int (fJ3_max x1 x2)), (2, .int x2), (4, .int 0), (3, .int x3), (0, .int b0)]) hx hb dX0_longest_78 rfl hl (by decide) rfl (fun ls hl => ?_)
                refine lv_iinc (k := 3) (v := (x3 + 1)) (lv' := [(3, .int (x3 + 1)), (1, .int (fJ3_max x1 x2)), (2, .int x2), (4, .int 0), (0, .int b0)]) hx hb dX0_longest_79 hl rfl rfl (by decide) rfl (fun ls hl => ?_)
                refine lv_goto (tgt := 6) hx hb dX0_longest_82 (by decide) ?_
                exact ih (fJ3_max x1 x2) x2 (x3 + 1) _ h _ _ _ hW hS (lv_sub hl [0, 2, 1, 4] rfl) kk
              · rw [if_neg c13] at h
                refine lv_iload hx hb dX0_longest_56 (lv_at hl 0 rfl) ?_
                refine lv_if_eq (tgt := 67) hx hb dX0_longest_58 (by decide) (fun c => ?_) (fun c => absurd c (by decide))
                refine lv_iconst (v := 1) hx hb dX0_longest_67 (by decide) ?_
                refine lv_goto (tgt := 72) hx hb dX0_longest_68 (by decide) ?_
                refine lv_istore_n (lv' := [(2, .int 1), (4, .int 0), (3, .int x3), (1, .int x1), (0, .int b0)]) hx hb dX0_longest_72 rfl hl (by decide) rfl (fun ls hl => ?_)
                refine lv_iload_n hx hb dX0_longest_73 rfl (lv_at hl 3 rfl) ?_
                refine lv_iload_n hx hb dX0_longest_74 rfl (lv_at hl 0 rfl) ?_
                refine x_backi (va_runS (As := [.int x1, .int 1]) (rest := []) F.1 (mJ3_max l E σ x1 1) (va_cwS 2 hts (lw_S q503 q504 q116 q505) rfl rfl rfl (by decide +kernel) ⟨Nat.le_of_ble_eq_true rfl, Nat.le_of_ble_eq_true rfl⟩) ⟨xPc.blind, F.pre hW hS [.int x1, .int 1]⟩ rfl rfl hl.1 rfl (lv_room (Nat.le_of_ble_eq_true rfl)) dX0_longest_75 ⟨Nat.le_refl _, Nat.le_refl _⟩) hS (fun H locs hW hS => ?_)
                refine lv_istore_n (lv' := [(1, .int (fJ3_max x1 1)), (2, .int 1), (4, .int 0), (3, .int x3), (0, .int b0)]) hx hb dX0_longest_78 rfl hl (by decide) rfl (fun ls hl => ?_)
                refine lv_iinc (k := 3) (v := (x3 + 1)) (lv' := [(3, .int (x3 + 1)), (1, .int (fJ3_max x1 1)), (2, .int 1), (4, .int 0), (0, .int b0)]) hx hb dX0_longest_79 hl rfl rfl (by decide) rfl (fun ls hl => ?_)
                refine lv_goto (tgt := 6) hx hb dX0_longest_82 (by decide) ?_
                exact ih (fJ3_max x1 1) 1 (x3 + 1) _ h _ _ _ hW hS (lv_sub hl [0, 2, 1, 4] rfl) kk
            · rw [if_neg c12] at h
              refine lv_iconst (v := 1) hx hb dX0_longest_41 (by decide) ?_
              refine lv_goto (tgt := 46) hx hb dX0_longest_42 (by decide) ?_
              refine lv_istore (lv' := [(4, .int 1), (3, .int x3), (2, .int x2), (1, .int x1), (0, .int b0)]) hx hb dX0_longest_46 hl (by decide) rfl (fun ls hl => ?_)
              refine lv_iload_n hx hb dX0_longest_48 rfl (lv_at hl 4 rfl) ?_
              refine lv_iload_n hx hb dX0_longest_49 rfl (lv_at hl 1 rfl) ?_
              refine x_backi (va_runS (As := [.int b0, .int x3]) (rest := []) F.1 (mX0_has l E σ b0 x3) (va_cwS 2 hts (lw_S q932 q933 q99 q934) rfl rfl rfl (by decide +kernel) ⟨Nat.le_of_ble_eq_true rfl, Nat.le_of_ble_eq_true rfl⟩) ⟨xPc.blind, F.pre hW hS [.int b0, .int x3]⟩ rfl rfl hl.1 rfl (lv_room (Nat.le_of_ble_eq_true rfl)) dX0_longest_50 ⟨Nat.le_refl _, Nat.le_refl _⟩) hS (fun H locs hW hS => ?_)
              refine lv_if_eq (tgt := 71) hx hb dX0_longest_53 (by decide) (fun c14 => ?_) (fun c14 => ?_)
              · rw [if_pos c14] at h
                refine lv_iload_n hx hb dX0_longest_71 rfl (lv_at hl 2 rfl) ?_
                refine lv_istore_n (lv' := [(2, .int x2), (4, .int 1), (3, .int x3), (1, .int x1), (0, .int b0)]) hx hb dX0_longest_72 rfl hl (by decide) rfl (fun ls hl => ?_)
                refine lv_iload_n hx hb dX0_longest_73 rfl (lv_at hl 3 rfl) ?_
                refine lv_iload_n hx hb dX0_longest_74 rfl (lv_at hl 0 rfl) ?_
                refine x_backi (va_runS (As := [.int x1, .int x2]) (rest := []) F.1 (mJ3_max l E σ x1 x2) (va_cwS 2 hts (lw_S q503 q504 q116 q505) rfl rfl rfl (by decide +kernel) ⟨Nat.le_of_ble_eq_true rfl, Nat.le_of_ble_eq_true rfl⟩) ⟨xPc.blind, F.pre hW hS [.int x1, .int x2]⟩ rfl rfl hl.1 rfl (lv_room (Nat.le_of_ble_eq_true rfl)) dX0_longest_75 ⟨Nat.le_refl _, Nat.le_refl _⟩) hS (fun H locs hW hS => ?_)
                refine lv_istore_n (lv' := [(1, .int (fJ3_max x1 x2)), (2, .int x2), (4, .int 1), (3, .int x3), (0, .int b0)]) hx hb dX0_longest_78 rfl hl (by decide) rfl (fun ls hl => ?_)
                refine lv_iinc (k := 3) (v := (x3 + 1)) (lv' := [(3, .int (x3 + 1)), (1, .int (fJ3_max x1 x2)), (2, .int x2), (4, .int 1), (0, .int b0)]) hx hb dX0_longest_79 hl rfl rfl (by decide) rfl (fun ls hl => ?_)
                refine lv_goto (tgt := 6) hx hb dX0_longest_82 (by decide) ?_
                exact ih (fJ3_max x1 x2) x2 (x3 + 1) _ h _ _ _ hW hS (lv_sub hl [0, 2, 1, 4] rfl) kk
              · rw [if_neg c14] at h
                refine lv_iload hx hb dX0_longest_56 (lv_at hl 0 rfl) ?_
                refine lv_if_eq (tgt := 67) hx hb dX0_longest_58 (by decide) (fun c => absurd c (by decide)) (fun c => ?_)
                refine lv_iload_n hx hb dX0_longest_61 rfl (lv_at hl 2 rfl) ?_
                refine lv_iconst (v := 1) hx hb dX0_longest_62 (by decide) ?_
                refine lv_iadd hx hb dX0_longest_63 ?_
                refine lv_goto (tgt := 72) hx hb dX0_longest_64 (by decide) ?_
                refine lv_istore_n (lv' := [(2, .int (x2 + 1)), (4, .int 1), (3, .int x3), (1, .int x1), (0, .int b0)]) hx hb dX0_longest_72 rfl hl (by decide) rfl (fun ls hl => ?_)
                refine lv_iload_n hx hb dX0_longest_73 rfl (lv_at hl 3 rfl) ?_
                refine lv_iload_n hx hb dX0_longest_74 rfl (lv_at hl 0 rfl) ?_
                refine x_backi (va_runS (As := [.int x1, .int (x2 + 1)]) (rest := []) F.1 (mJ3_max l E σ x1 (x2 + 1)) (va_cwS 2 hts (lw_S q503 q504 q116 q505) rfl rfl rfl (by decide +kernel) ⟨Nat.le_of_ble_eq_true rfl, Nat.le_of_ble_eq_true rfl⟩) ⟨xPc.blind, F.pre hW hS [.int x1, .int (x2 + 1)]⟩ rfl rfl hl.1 rfl (lv_room (Nat.le_of_ble_eq_true rfl)) dX0_longest_75 ⟨Nat.le_refl _, Nat.le_refl _⟩) hS (fun H locs hW hS => ?_)
                refine lv_istore_n (lv' := [(1, .int (fJ3_max x1 (x2 + 1))), (2, .int (x2 + 1)), (4, .int 1), (3, .int x3), (0, .int b0)]) hx hb dX0_longest_78 rfl hl (by decide) rfl (fun ls hl => ?_)
                refine lv_iinc (k := 3) (v := (x3 + 1)) (lv' := [(3, .int (x3 + 1)), (1, .int (fJ3_max x1 (x2 + 1))), (2, .int (x2 + 1)), (4, .int 1), (0, .int b0)]) hx hb dX0_longest_79 hl rfl rfl (by decide) rfl (fun ls hl => ?_)
                refine lv_goto (tgt := 6) hx hb dX0_longest_82 (by decide) ?_
                exact ih (fJ3_max x1 (x2 + 1)) (x2 + 1) (x3 + 1) _ h _ _ _ hW hS (lv_sub hl [0, 2, 1, 4] rfl) kk
set_option maxHeartbeats 4000000 in
theorem mX0_longest (l : Launch) (E : xE) (σ : xM) (a0 : Int32) (r : Int32) (h : fX0_longest a0 = some r) : Met l yX0_longest (ws_ yX0_longest cX0_longest 5 (some .int)) ({ frames := 1, cells := 0, slots := 0, locals := 21 } : Room) (xPc E σ [.int a0]) (xQc E (.returned (some (.int r))) σ) 0 0 (xA E) := by
  refine x_of (C := RX0) (n := "longest") (d := "(I)I") (r := (some .int)) (by decide) rfl (by first | decide | exact Nat.le_of_ble_eq_true rfl) ?_
  intro p e s m below meth c ls F hr hlk hW hS hl
  have hl : lv_has ls 5 [(0, .int a0)] := hl
  obtain ⟨hx, hb, hml, hown, hts⟩ := id F.1
  have hK := F.2.1.1
  unfold fX0_longest at h
  refine lv_iconst (v := 0) hx hb dX0_longest_0 (by decide) ?_
  refine lv_istore_n (lv' := [(1, .int 0), (0, .int a0)]) hx hb dX0_longest_1 rfl hl (by decide) rfl (fun ls hl => ?_)
  refine lv_iconst (v := 0) hx hb dX0_longest_2 (by decide) ?_
  refine lv_istore_n (lv' := [(2, .int 0), (1, .int 0), (0, .int a0)]) hx hb dX0_longest_3 rfl hl (by decide) rfl (fun ls hl => ?_)
  refine lv_iconst (v := 0) hx hb dX0_longest_4 (by decide) ?_
  refine lv_istore_n (lv' := [(3, .int 0), (2, .int 0), (1, .int 0), (0, .int a0)]) hx hb dX0_longest_5 rfl hl (by decide) rfl (fun ls hl => ?_)
  cases g15 : gX0_longest_6 a0 xfu 0 0 0 with
  | none => rw [g15] at h; cases h
  | some q16 =>
    rw [g15, Option.bind_some] at h
    refine lX0_longest_6 F xfu 0 0 0 q16 g15 _ _ _ hW hS (lv_sub hl [0, 1, 2, 3] rfl) (fun H locs ls hW hS hl => ?_)
    refine lv_iload_n hx hb dX0_longest_85 rfl (lv_at hl 2 rfl) ?_
    have h := Option.some.inj h; subst h
    exact x_iret F hr hlk hW hS dX0_longest_86
/-! WildBells.wanted()I -/
def gX0_wanted_20 (b1 : Int32) : Nat → Int32 → Int32 → Option (Int32 × Int32)
  | 0, _, _ => none
  | n + 1, x2, x3 => if 12 ≤ x3 then (some (x2, x3)) else ((fX0_longest (b1 ||| (1 <<< (x3 &&& 31)))).bind (fun r5 => (fX0_longest (b1 ||| (1 <<< (x2 &&& 31)))).bind (fun r7 => if r5 ≤ r7 then (gX0_wanted_20 b1 n x2 (x3 + 1)) else (gX0_wanted_20 b1 n x3 (x3 + 1)))))
def fX0_wanted (σ : xM) : Option Int32 :=
  (fX0_notesOf σ ((1 <<< ((σ 0 2) &&& 31)) - 1)).bind (fun r2 => (gX0_wanted_20 r2 xfu 0 1).bind (fun q10 => some q10.1))
set_option maxHeartbeats 4000000 in
theorem lX0_wanted_20 {p : Program} {l : Launch} {e : Env} {s : State} {m : MethodId} {av : Array Value} {below : List Frame} {meth : Method} {c : Code} {Q : State → Prop} {E : xE} {σ : xM} {b1 : Int32} (F : xFx p m c cX0_wanted 4 s av RX0 E) : ∀ (n : Nat) (x2 : Int32) (x3 : Int32) (q : (Int32 × Int32)), gX0_wanted_20 b1 n x2 x3 = some q → ∀ (H : Heap) (locs : List Loc) (ls : Array Slot), xW E σ H → va_S (xA E) s.heap H locs → lv_has ls 4 [(3, .int x3), (2, .int x2), (1, .int b1), (0, .ref (xa E 0))] → (∀ (H : Heap) (locs : List Loc) (ls : Array Slot), xW E σ H → va_S (xA E) s.heap H locs → lv_has ls 4 [(3, .int q.2), (2, .int q.1), (1, .int b1), (0, .ref (xa E 0))] → W p l e ({ frames := 2, cells := 0, slots := 0, locals := 45 } : Room) s m av below meth c H locs 0 0 Q (F0 m 57 ls [])) → W p l e ({ frames := 2, cells := 0, slots := 0, locals := 45 } : Room) s m av below meth c H locs 0 0 Q (F0 m 20 ls []) := by
  obtain ⟨hx, hb, hml, hown, hts⟩ := id F.1
  have hK := F.2.1.1
  intro n
  induction n with
  | zero =>
    intro x2 x3 q h
    cases h
  | succ n ih =>
    intro x2 x3 q h H locs ls hW hS hl kk
    rw [gX0_wanted_20] at h
    refine lv_iload_n hx hb dX0_wanted_20 rfl (lv_at hl 0 rfl) ?_
    refine lv_bipush (v := 12) hx hb dX0_wanted_21 (by decide) ?_
    refine lv_icmp_ge (tgt := 57) hx hb dX0_wanted_23 (by decide) (fun c3 => ?_) (fun c3 => ?_)
    · rw [if_pos c3] at h
      have h := Option.some.inj h; subst h
      exact kk _ _ _ hW hS (lv_sub hl [0, 1, 2, 3] rfl)
    · rw [if_neg c3] at h
      refine lv_iload_n hx hb dX0_wanted_26 rfl (lv_at hl 2 rfl) ?_
      refine lv_iconst (v := 1) hx hb dX0_wanted_27 (by decide) ?_
      refine lv_iload_n hx hb dX0_wanted_28 rfl (lv_at hl 0 rfl) ?_
      refine lv_ishl hx hb dX0_wanted_29 ?_
      refine lv_ior hx hb dX0_wanted_30 ?_
      cases g4 : fX0_longest (b1 ||| (1 <<< (x3 &&& 31))) with
      | none => rw [g4] at h; cases h
      | some r5 =>
        rw [g4, Option.bind_some] at h
        refine x_backi (va_runS (As := [.int (b1 ||| (1 <<< (x3 &&& 31)))]) (rest := []) F.1 (mX0_longest l E σ (b1 ||| (1 <<< (x3 &&& 31))) r5 g4) (va_cwS 1 hts (lw_S q954 q955 q99 q956) rfl rfl rfl (by decide +kernel) ⟨Nat.le_of_ble_eq_true rfl, Nat.le_of_ble_eq_true rfl⟩) ⟨xPc.blind, F.pre hW hS [.int (b1 ||| (1 <<< (x3 &&& 31)))]⟩ rfl rfl hl.1 rfl (lv_room (Nat.le_of_ble_eq_true rfl)) dX0_wanted_31 ⟨Nat.le_refl _, Nat.le_refl _⟩) hS (fun H locs hW hS => ?_)
        refine lv_iload_n hx hb dX0_wanted_34 rfl (lv_at hl 2 rfl) ?_
        refine lv_iconst (v := 1) hx hb dX0_wanted_35 (by decide) ?_
        refine lv_iload_n hx hb dX0_wanted_36 rfl (lv_at hl 1 rfl) ?_
        refine lv_ishl hx hb dX0_wanted_37 ?_
        refine lv_ior hx hb dX0_wanted_38 ?_
        cases g6 : fX0_longest (b1 ||| (1 <<< (x2 &&& 31))) with
        | none => rw [g6] at h; cases h
        | some r7 =>
          rw [g6, Option.bind_some] at h
          refine x_backi (va_runS (As := [.int (b1 ||| (1 <<< (x2 &&& 31)))]) (rest := [.int r5]) F.1 (mX0_longest l E σ (b1 ||| (1 <<< (x2 &&& 31))) r7 g6) (va_cwS 1 hts (lw_S q954 q955 q99 q956) rfl rfl rfl (by decide +kernel) ⟨Nat.le_of_ble_eq_true rfl, Nat.le_of_ble_eq_true rfl⟩) ⟨xPc.blind, F.pre hW hS [.int (b1 ||| (1 <<< (x2 &&& 31)))]⟩ rfl rfl hl.1 rfl (lv_room (Nat.le_of_ble_eq_true rfl)) dX0_wanted_39 ⟨Nat.le_refl _, Nat.le_refl _⟩) hS (fun H locs hW hS => ?_)
          refine lv_icmp_le (tgt := 49) hx hb dX0_wanted_42 (by decide) (fun c8 => ?_) (fun c8 => ?_)
          · rw [if_pos c8] at h
            refine lv_iload_n hx hb dX0_wanted_49 rfl (lv_at hl 1 rfl) ?_
            refine lv_istore_n (lv' := [(2, .int x2), (3, .int x3), (1, .int b1), (0, .ref (xa E 0))]) hx hb dX0_wanted_50 rfl hl (by decide) rfl (fun ls hl => ?_)
            refine lv_iinc (k := 1) (v := (x3 + 1)) (lv' := [(3, .int (x3 + 1)), (2, .int x2), (1, .int b1), (0, .ref (xa E 0))]) hx hb dX0_wanted_51 hl rfl rfl (by decide) rfl (fun ls hl => ?_)
            refine lv_goto (tgt := 20) hx hb dX0_wanted_54 (by decide) ?_
            exact ih x2 (x3 + 1) _ h _ _ _ hW hS (lv_sub hl [0, 1, 2, 3] rfl) kk
          · rw [if_neg c8] at h
            refine lv_iload_n hx hb dX0_wanted_45 rfl (lv_at hl 0 rfl) ?_
            refine lv_goto (tgt := 50) hx hb dX0_wanted_46 (by decide) ?_
            refine lv_istore_n (lv' := [(2, .int x3), (3, .int x3), (1, .int b1), (0, .ref (xa E 0))]) hx hb dX0_wanted_50 rfl hl (by decide) rfl (fun ls hl => ?_)
            refine lv_iinc (k := 1) (v := (x3 + 1)) (lv' := [(3, .int (x3 + 1)), (2, .int x3), (1, .int b1), (0, .ref (xa E 0))]) hx hb dX0_wanted_51 hl rfl rfl (by decide) rfl (fun ls hl => ?_)
            refine lv_goto (tgt := 20) hx hb dX0_wanted_54 (by decide) ?_
            exact ih x3 (x3 + 1) _ h _ _ _ hW hS (lv_sub hl [0, 1, 2, 3] rfl) kk
set_option maxHeartbeats 4000000 in
theorem mX0_wanted (l : Launch) (E : xE) (σ : xM) (r : Int32) (h : fX0_wanted σ = some r) : Met l yX0_wanted (ws_ yX0_wanted cX0_wanted 4 (some .int)) ({ frames := 2, cells := 0, slots := 0, locals := 45 } : Room) (xPc E σ [.ref (xa E 0)]) (xQc E (.returned (some (.int r))) σ) 0 0 (xA E) := by
  refine x_of (C := RX0) (n := "wanted") (d := "()I") (r := (some .int)) (by decide) rfl (by first | decide | exact Nat.le_of_ble_eq_true rfl) ?_
  intro p e s m below meth c ls F hr hlk hW hS hl
  have hl : lv_has ls 4 [(0, .ref (xa E 0))] := hl
  obtain ⟨hx, hb, hml, hown, hts⟩ := id F.1
  have hK := F.2.1.1
  unfold fX0_wanted at h
  refine lv_aload_n hx hb dX0_wanted_0 rfl (lv_at hl 0 rfl) ?_
  refine lv_iconst (v := 1) hx hb dX0_wanted_1 (by decide) ?_
  refine lv_aload_n hx hb dX0_wanted_2 rfl (lv_at hl 0 rfl) ?_
  refine va_get (D := xD E) (ci := 0) (v := .ref (xa E (xwc 0 0))) (C := RX0) (T := TX0) (N := 15) hx hb hts in_X0 hown hK (xO_X hW) 0 rfl rfl 3 (by decide) (hts _ q416) (fun _ h9 => h9) rfl dX0_wanted_3 ?_
  refine va_getN (D := xD E) (ci := 4) (v := .int (σ 0 2)) (C := RX4) (T := TX4) (N := 8) hx hb hts in_X4 hown hK (xO_W hW 0 (by decide)) 0 rfl rfl 3 (by decide) (va_Nw.use rfl (F.2.1.2.1 _ q241 rfl)) (fun _ h9 => h9) rfl dX0_wanted_6 ?_
  refine lv_ishl hx hb dX0_wanted_9 ?_
  refine lv_iconst (v := 1) hx hb dX0_wanted_10 (by decide) ?_
  refine lv_isub hx hb dX0_wanted_11 ?_
  cases g1 : fX0_notesOf σ ((1 <<< ((σ 0 2) &&& 31)) - 1) with
  | none => rw [g1] at h; cases h
  | some r2 =>
    rw [g1, Option.bind_some] at h
    refine x_backi (va_runV (C := RX0) (b := (xa E 0)) (As := [.int ((1 <<< ((σ 0 2) &&& 31)) - 1)]) (rest := []) F.1 (mX0_notesOf l E σ ((1 <<< ((σ 0 2) &&& 31)) - 1) r2 g1) (cwV 1 hts (lw_V q928 q930 qs32 q99 q931) rfl rfl rfl (by decide +kernel) ⟨Nat.le_of_ble_eq_true rfl, Nat.le_of_ble_eq_true rfl⟩) ⟨xPc.blind, va_recv hK (xO_X hW) (ci := 0) (q0 := 0) rfl rfl, F.pre hW hS (.ref (xa E 0) :: [.int ((1 <<< ((σ 0 2) &&& 31)) - 1)])⟩ rfl rfl hl.1 rfl (lv_room (Nat.le_of_ble_eq_true rfl)) dX0_wanted_12 ⟨Nat.le_refl _, Nat.le_refl _⟩) hS (fun H locs hW hS => ?_)
    refine lv_istore_n (lv' := [(1, .int r2), (0, .ref (xa E 0))]) hx hb dX0_wanted_15 rfl hl (by decide) rfl (fun ls hl => ?_)
    refine lv_iconst (v := 0) hx hb dX0_wanted_16 (by decide) ?_
    refine lv_istore_n (lv' := [(2, .int 0), (1, .int r2), (0, .ref (xa E 0))]) hx hb dX0_wanted_17 rfl hl (by decide) rfl (fun ls hl => ?_)
    refine lv_iconst (v := 1) hx hb dX0_wanted_18 (by decide) ?_
    refine lv_istore_n (lv' := [(3, .int 1), (2, .int 0), (1, .int r2), (0, .ref (xa E 0))]) hx hb dX0_wanted_19 rfl hl (by decide) rfl (fun ls hl => ?_)
    cases g9 : gX0_wanted_20 r2 xfu 0 1 with
    | none => rw [g9] at h; cases h
    | some q10 =>
      rw [g9, Option.bind_some] at h
      refine lX0_wanted_20 F xfu 0 1 q10 g9 _ _ _ hW hS (lv_sub hl [0, 1, 2, 3] rfl) (fun H locs ls hW hS hl => ?_)
      refine lv_iload_n hx hb dX0_wanted_57 rfl (lv_at hl 1 rfl) ?_
      have h := Option.some.inj h; subst h
      exact x_iret F hr hlk hW hS dX0_wanted_58
/-! WildBells.changes(I)J -/
def gX0_changes_22 (b1 : Int32) : Nat → Int64 → Int32 → Option (Int64 × Int32)
  | 0, _, _ => none
  | n + 1, x2, x4 => if b1 < x4 then (some (x2, x4)) else (gX0_changes_22 b1 n (x2 * ((x4 : Int32).toInt64)) (x4 + 1))
def fX0_changes (σ : xM) (a1 : Int32) : Option (Int64 × xM) :=
  if (fX0_in a1 0 20) = 0 then ((fX0_finding σ 0).bind (fun r6 => some (((r6.1 : Int32).toInt64), r6.2))) else ((gX0_changes_22 a1 xfu 1 2).bind (fun q4 => some (q4.1, σ)))
set_option maxHeartbeats 4000000 in
theorem lX0_changes_22 {p : Program} {l : Launch} {e : Env} {s : State} {m : MethodId} {av : Array Value} {below : List Frame} {meth : Method} {c : Code} {Q : State → Prop} {E : xE} {σ : xM} {b1 : Int32} (F : xFx p m c cX0_changes 5 s av RX0 E) : ∀ (n : Nat) (x2 : Int64) (x4 : Int32) (q : (Int64 × Int32)), gX0_changes_22 b1 n x2 x4 = some q → ∀ (H : Heap) (locs : List Loc) (ls : Array Slot), xW E σ H → va_S (xA E) s.heap H locs → lv_has ls 5 [(4, .int x4), (2, .long x2), (0, .ref (xa E 0)), (1, .int b1)] → (∀ (H : Heap) (locs : List Loc) (ls : Array Slot), xW E σ H → va_S (xA E) s.heap H locs → lv_has ls 5 [(4, .int q.2), (2, .long q.1), (0, .ref (xa E 0)), (1, .int b1)] → W p l e ({ frames := 1, cells := 0, slots := 0, locals := 22 } : Room) s m av below meth c H locs 0 0 Q (F0 m 40 ls [])) → W p l e ({ frames := 1, cells := 0, slots := 0, locals := 22 } : Room) s m av below meth c H locs 0 0 Q (F0 m 22 ls []) := by
  obtain ⟨hx, hb, hml, hown, hts⟩ := id F.1
  have hK := F.2.1.1
  intro n
  induction n with
  | zero =>
    intro x2 x4 q h
    cases h
  | succ n ih =>
    intro x2 x4 q h H locs ls hW hS hl kk
    rw [gX0_changes_22] at h
    refine lv_iload hx hb dX0_changes_22 (lv_at hl 0 rfl) ?_
    refine lv_iload_n hx hb dX0_changes_24 rfl (lv_at hl 3 rfl) ?_
    refine lv_icmp_gt (tgt := 40) hx hb dX0_changes_25 (by decide) (fun c2 => ?_) (fun c2 => ?_)
    · rw [if_pos c2] at h
      have h := Option.some.inj h; subst h
      exact kk _ _ _ hW hS (lv_sub hl [0, 1, 2, 3] rfl)
    · rw [if_neg c2] at h
      refine lv_lload_n hx hb dX0_changes_28 rfl (lv_at hl 1 rfl) ?_
      refine lv_iload hx hb dX0_changes_29 (lv_at hl 0 rfl) ?_
      refine lv_i2l (v := (x4 : Int32).toInt64) hx hb dX0_changes_31 rfl ?_
      refine lv_lmul hx hb dX0_changes_32 ?_
      refine lv_lstore_n (lv' := [(2, .long (x2 * ((x4 : Int32).toInt64))), (4, .int x4), (0, .ref (xa E 0)), (1, .int b1)]) hx hb dX0_changes_33 rfl hl (by decide) rfl (fun ls hl => ?_)
      refine lv_iinc (k := 1) (v := (x4 + 1)) (lv' := [(4, .int (x4 + 1)), (2, .long (x2 * ((x4 : Int32).toInt64))), (0, .ref (xa E 0)), (1, .int b1)]) hx hb dX0_changes_34 hl rfl rfl (by decide) rfl (fun ls hl => ?_)
      refine lv_goto (tgt := 22) hx hb dX0_changes_37 (by decide) ?_
      exact ih (x2 * ((x4 : Int32).toInt64)) (x4 + 1) _ h _ _ _ hW hS (lv_sub hl [0, 1, 2, 3] rfl) kk
set_option maxHeartbeats 4000000 in
theorem mX0_changes (l : Launch) (E : xE) (σ : xM) (a1 : Int32) (r : Int64) (σ' : xM) (h : fX0_changes σ a1 = some (r, σ')) : Met l yX0_changes (ws_ yX0_changes cX0_changes 5 (some .long)) ({ frames := 1, cells := 0, slots := 0, locals := 22 } : Room) (xPc E σ [.ref (xa E 0), .int a1]) (xQc E (.returned (some (.long r))) σ') 0 0 (xA E) := by
  refine x_of (C := RX0) (n := "changes") (d := "(I)J") (r := (some .long)) (by decide) rfl (by first | decide | exact Nat.le_of_ble_eq_true rfl) ?_
  intro p e s m below meth c ls F hr hlk hW hS hl
  have hl : lv_has ls 5 [(0, .ref (xa E 0)), (1, .int a1)] := hl
  obtain ⟨hx, hb, hml, hown, hts⟩ := id F.1
  have hK := F.2.1.1
  unfold fX0_changes at h
  refine lv_iload_n hx hb dX0_changes_0 rfl (lv_at hl 1 rfl) ?_
  refine lv_iconst (v := 0) hx hb dX0_changes_1 (by decide) ?_
  refine lv_bipush (v := 20) hx hb dX0_changes_2 (by decide) ?_
  refine x_backi (va_runS (As := [.int a1, .int 0, .int 20]) (rest := []) F.1 (mX0_in l E σ a1 0 20) (va_cwS 3 hts (lw_S q466 q467 q99 q468) rfl rfl rfl (by decide +kernel) ⟨Nat.le_of_ble_eq_true rfl, Nat.le_of_ble_eq_true rfl⟩) ⟨xPc.blind, F.pre hW hS [.int a1, .int 0, .int 20]⟩ rfl rfl hl.1 rfl (lv_room (Nat.le_of_ble_eq_true rfl)) dX0_changes_4 ⟨Nat.le_refl _, Nat.le_refl _⟩) hS (fun H locs hW hS => ?_)
  refine lv_if_ne (tgt := 17) hx hb dX0_changes_7 (by decide) (fun c1 => ?_) (fun c1 => ?_)
  · rw [if_neg c1] at h
    refine lv_lconst (v := 1) hx hb dX0_changes_17 rfl ?_
    refine lv_lstore_n (lv' := [(2, .long 1), (0, .ref (xa E 0)), (1, .int a1)]) hx hb dX0_changes_18 rfl hl (by decide) rfl (fun ls hl => ?_)
    refine lv_iconst (v := 2) hx hb dX0_changes_19 (by decide) ?_
    refine lv_istore (lv' := [(4, .int 2), (2, .long 1), (0, .ref (xa E 0)), (1, .int a1)]) hx hb dX0_changes_20 hl (by decide) rfl (fun ls hl => ?_)
    cases g3 : gX0_changes_22 a1 xfu 1 2 with
    | none => rw [g3] at h; cases h
    | some q4 =>
      rw [g3, Option.bind_some] at h
      refine lX0_changes_22 F xfu 1 2 q4 g3 _ _ _ hW hS (lv_sub hl [0, 1, 2, 3] rfl) (fun H locs ls hW hS hl => ?_)
      refine lv_lload_n hx hb dX0_changes_40 rfl (lv_at hl 1 rfl) ?_
      obtain ⟨h1, h2⟩ := Prod.mk.inj (Option.some.inj h); subst h1; subst h2
      exact x_lret F hr hlk hW hS dX0_changes_41
  · rw [if_pos c1] at h
    refine lv_aload_n hx hb dX0_changes_10 rfl (lv_at hl 0 rfl) ?_
    refine lv_iconst (v := 0) hx hb dX0_changes_11 (by decide) ?_
    cases g5 : fX0_finding σ 0 with
    | none => rw [g5] at h; cases h
    | some r6 =>
      rw [g5, Option.bind_some] at h
      refine x_backi (va_runV (C := RX0) (b := (xa E 0)) (As := [.int 0]) (rest := []) F.1 (mX0_finding l E σ 0 r6.1 r6.2 g5) (cwV 1 hts (lw_V q469 q471 qs2 q99 q472) rfl rfl rfl (by decide +kernel) ⟨Nat.le_of_ble_eq_true rfl, Nat.le_of_ble_eq_true rfl⟩) ⟨xPc.blind, va_recv hK (xO_X hW) (ci := 0) (q0 := 0) rfl rfl, F.pre hW hS (.ref (xa E 0) :: [.int 0])⟩ rfl rfl hl.1 rfl (lv_room (Nat.le_of_ble_eq_true rfl)) dX0_changes_12 ⟨Nat.le_refl _, Nat.le_refl _⟩) hS (fun H locs hW hS => ?_)
      refine lv_i2l (v := (r6.1 : Int32).toInt64) hx hb dX0_changes_15 rfl ?_
      obtain ⟨h1, h2⟩ := Prod.mk.inj (Option.some.inj h); subst h1; subst h2
      exact x_lret F hr hlk hW hS dX0_changes_16
/-! WildBells.thunders(I)I -/
def gX0_thunders_2 (b1 : Int32) : Nat → Int32 → xM → Option (Int32 × xM)
  | 0, _, _ => none
  | n + 1, x2, σ => if b1 ≤ x2 then (some (x2, σ)) else ((fX4_draw σ 0).bind (fun r3 => if (r3.2 0 2) = 0 then none else ((fX4_draw r3.2 0).bind (fun r6 => (fX4_isCaught r6.2 0 (r3.1 - r3.1 / (r3.2 0 2) * (r3.2 0 2))).bind (fun r8 => if r8 = 0 then (if xin (r3.1 - r3.1 / (r3.2 0 2) * (r3.2 0 2)) 8 then ((fX0_passes_2 (xup r6.2 0 (146 + 5 * (r3.1 - r3.1 / (r3.2 0 2) * (r3.2 0 2)).toNatClampNeg + 1) (r6.1 - r6.1 / 64 * 64))).bind (fun r12 => gX0_thunders_2 b1 n (x2 + 1) r12)) else none) else (if xin (r3.1 - r3.1 / (r3.2 0 2) * (r3.2 0 2)) 8 then (if xin (r3.1 - r3.1 / (r3.2 0 2) * (r3.2 0 2)) 8 then ((fX0_passes_2 (xup r6.2 0 (146 + 5 * (r3.1 - r3.1 / (r3.2 0 2) * (r3.2 0 2)).toNatClampNeg + 1) (r6.2 0 (146 + 5 * (r3.1 - r3.1 / (r3.2 0 2) * (r3.2 0 2)).toNatClampNeg + 1)))).bind (fun r16 => gX0_thunders_2 b1 n (x2 + 1) r16)) else none) else none))))))
def fX0_thunders (σ : xM) (a1 : Int32) : Option (Int32 × xM) :=
  (gX0_thunders_2 a1 xfu 0 σ).bind (fun q18 => (fX4_whoIsCaught q18.2 0).bind (fun r20 => some ((fX0_ones r20), q18.2)))
set_option maxHeartbeats 4000000 in
theorem lX0_thunders_2 {p : Program} {l : Launch} {e : Env} {s : State} {m : MethodId} {av : Array Value} {below : List Frame} {meth : Method} {c : Code} {Q : State → Prop} {E : xE} {b1 : Int32} (F : xFx p m c cX0_thunders 5 s av RX0 E) : ∀ (n : Nat) (x2 : Int32) (σ : xM) (q : (Int32 × xM)), gX0_thunders_2 b1 n x2 σ = some q → ∀ (H : Heap) (locs : List Loc) (ls : Array Slot), xW E σ H → va_S (xA E) s.heap H locs → lv_has ls 5 [(2, .int x2), (0, .ref (xa E 0)), (1, .int b1)] → (∀ (H : Heap) (locs : List Loc) (ls : Array Slot), xW E q.2 H → va_S (xA E) s.heap H locs → lv_has ls 5 [(2, .int q.1), (0, .ref (xa E 0)), (1, .int b1)] → W p l e ({ frames := 14, cells := 0, slots := 0, locals := 304 } : Room) s m av below meth c H locs 0 0 Q (F0 m 83 ls [])) → W p l e ({ frames := 14, cells := 0, slots := 0, locals := 304 } : Room) s m av below meth c H locs 0 0 Q (F0 m 2 ls []) := by
  obtain ⟨hx, hb, hml, hown, hts⟩ := id F.1
  have hK := F.2.1.1
  intro n
  induction n with
  | zero =>
    intro x2 σ q h
    cases h
  | succ n ih =>
    intro x2 σ q h H locs ls hW hS hl kk
    rw [gX0_thunders_2] at h
    refine lv_iload_n hx hb dX0_thunders_2 rfl (lv_at hl 0 rfl) ?_
    refine lv_iload_n hx hb dX0_thunders_3 rfl (lv_at hl 2 rfl) ?_
    refine lv_icmp_ge (tgt := 83) hx hb dX0_thunders_4 (by decide) (fun c1 => ?_) (fun c1 => ?_)
    · rw [if_pos c1] at h
      have h := Option.some.inj h; subst h
      exact kk _ _ _ hW hS (lv_sub hl [0, 1, 2] rfl)
    · rw [if_neg c1] at h
      refine lv_aload_n hx hb dX0_thunders_7 rfl (lv_at hl 1 rfl) ?_
      refine va_get (D := xD E) (ci := 0) (v := .ref (xa E (xwc 0 0))) (C := RX0) (T := TX0) (N := 15) hx hb hts in_X0 hown hK (xO_X hW) 0 rfl rfl 3 (by decide) (hts _ q416) (fun _ h9 => h9) rfl dX0_thunders_8 ?_
      cases g2 : fX4_draw σ 0 with
      | none => rw [g2] at h; cases h
      | some r3 =>
        rw [g2, Option.bind_some] at h
        refine x_backi (va_runV (C := RX4) (b := (xa E (xwc 0 0))) (As := []) (rest := []) F.1 (mX4_draw l E σ 0 (by decide) r3.1 r3.2 g2) (cwV 0 hts (lw_V q969 q970 q971 q106 q972) rfl rfl rfl (by decide +kernel) ⟨Nat.le_of_ble_eq_true rfl, Nat.le_of_ble_eq_true rfl⟩) ⟨xPc.blind, va_recv hK (xO_W hW 0 (by decide)) (ci := 4) (q0 := 0) rfl rfl, F.pre hW hS (.ref (xa E (xwc 0 0)) :: [])⟩ rfl rfl hl.1 rfl (lv_room (Nat.le_of_ble_eq_true rfl)) dX0_thunders_11 ⟨Nat.le_refl _, Nat.le_refl _⟩) hS (fun H locs hW hS => ?_)
        refine lv_aload_n hx hb dX0_thunders_14 rfl (lv_at hl 1 rfl) ?_
        refine va_get (D := xD E) (ci := 0) (v := .ref (xa E (xwc 0 0))) (C := RX0) (T := TX0) (N := 15) hx hb hts in_X0 hown hK (xO_X hW) 0 rfl rfl 3 (by decide) (hts _ q416) (fun _ h9 => h9) rfl dX0_thunders_15 ?_
        refine va_getN (D := xD E) (ci := 4) (v := .int (r3.2 0 2)) (C := RX4) (T := TX4) (N := 8) hx hb hts in_X4 hown hK (xO_W hW 0 (by decide)) 0 rfl rfl 3 (by decide) (va_Nw.use rfl (F.2.1.2.1 _ q241 rfl)) (fun _ h9 => h9) rfl dX0_thunders_18 ?_
        by_cases hd4 : (r3.2 0 2) = 0
        · rw [if_pos hd4] at h; cases h
        · rw [if_neg hd4] at h
          refine lv_irem hx hb dX0_thunders_21 hd4 ?_
          refine lv_istore_n (lv' := [(3, .int (r3.1 - r3.1 / (r3.2 0 2) * (r3.2 0 2))), (2, .int x2), (0, .ref (xa E 0)), (1, .int b1)]) hx hb dX0_thunders_22 rfl hl (by decide) rfl (fun ls hl => ?_)
          refine lv_aload_n hx hb dX0_thunders_23 rfl (lv_at hl 2 rfl) ?_
          refine va_get (D := xD E) (ci := 0) (v := .ref (xa E (xwc 0 0))) (C := RX0) (T := TX0) (N := 15) hx hb hts in_X0 hown hK (xO_X hW) 0 rfl rfl 3 (by decide) (hts _ q416) (fun _ h9 => h9) rfl dX0_thunders_24 ?_
          cases g5 : fX4_draw r3.2 0 with
          | none => rw [g5] at h; cases h
          | some r6 =>
            rw [g5, Option.bind_some] at h
            refine x_backi (va_runV (C := RX4) (b := (xa E (xwc 0 0))) (As := []) (rest := []) F.1 (mX4_draw l E r3.2 0 (by decide) r6.1 r6.2 g5) (cwV 0 hts (lw_V q969 q970 q971 q106 q972) rfl rfl rfl (by decide +kernel) ⟨Nat.le_of_ble_eq_true rfl, Nat.le_of_ble_eq_true rfl⟩) ⟨xPc.blind, va_recv hK (xO_W hW 0 (by decide)) (ci := 4) (q0 := 0) rfl rfl, F.pre hW hS (.ref (xa E (xwc 0 0)) :: [])⟩ rfl rfl hl.1 rfl (lv_room (Nat.le_of_ble_eq_true rfl)) dX0_thunders_27 ⟨Nat.le_refl _, Nat.le_refl _⟩) hS (fun H locs hW hS => ?_)
            refine lv_bipush (v := 64) hx hb dX0_thunders_30 (by decide) ?_
            refine lv_irem hx hb dX0_thunders_32 (by decide) ?_
            refine lv_istore (lv' := [(4, .int (r6.1 - r6.1 / 64 * 64)), (3, .int (r3.1 - r3.1 / (r3.2 0 2) * (r3.2 0 2))), (2, .int x2), (0, .ref (xa E 0)), (1, .int b1)]) hx hb dX0_thunders_33 hl (by decide) rfl (fun ls hl => ?_)
            refine lv_aload_n hx hb dX0_thunders_35 rfl (lv_at hl 3 rfl) ?_
            refine va_get (D := xD E) (ci := 0) (v := .ref (xa E (xwc 0 0))) (C := RX0) (T := TX0) (N := 15) hx hb hts in_X0 hown hK (xO_X hW) 0 rfl rfl 3 (by decide) (hts _ q416) (fun _ h9 => h9) rfl dX0_thunders_36 ?_
            refine va_getN (D := xD E) (ci := 4) (v := .ref (xa E (xwc 0 5))) (C := RX4) (T := TX4) (N := 8) hx hb hts in_X4 hown hK (xO_W hW 0 (by decide)) 0 rfl rfl 4 (by decide) (va_Nw.use rfl (F.2.1.2.1 _ q244 rfl)) (fun _ h9 => h9) rfl dX0_thunders_39 ?_
            refine lv_iconst (v := 1) hx hb dX0_thunders_42 (by decide) ?_
            refine x_aald (g := fun j => xa E (xwc 0 (6 + j))) (j := 1) F 4 4 5 (xR_5 hW 0 (by decide)) rfl rfl (x_lit (by decide)) (by decide) dX0_thunders_43 ?_
            refine lv_iload_n hx hb dX0_thunders_44 rfl (lv_at hl 1 rfl) ?_
            refine lv_aload_n hx hb dX0_thunders_45 rfl (lv_at hl 3 rfl) ?_
            refine va_get (D := xD E) (ci := 0) (v := .ref (xa E (xwc 0 0))) (C := RX0) (T := TX0) (N := 15) hx hb hts in_X0 hown hK (xO_X hW) 0 rfl rfl 3 (by decide) (hts _ q416) (fun _ h9 => h9) rfl dX0_thunders_46 ?_
            refine lv_iload_n hx hb dX0_thunders_49 rfl (lv_at hl 1 rfl) ?_
            cases g7 : fX4_isCaught r6.2 0 (r3.1 - r3.1 / (r3.2 0 2) * (r3.2 0 2)) with
            | none => rw [g7] at h; cases h
            | some r8 =>
              rw [g7, Option.bind_some] at h
              refine x_backi (va_runV (C := RX4) (b := (xa E (xwc 0 0))) (As := [.int (r3.1 - r3.1 / (r3.2 0 2) * (r3.2 0 2))]) (rest := [.int (r3.1 - r3.1 / (r3.2 0 2) * (r3.2 0 2)), .ref (xa E (xwc 0 (6 + 1)))]) F.1 (mX4_isCaught l E r6.2 0 (by decide) (r3.1 - r3.1 / (r3.2 0 2) * (r3.2 0 2)) r8 g7) (cwV 1 hts (lw_V q616 q487 q488 q106 q489) rfl rfl rfl (by decide +kernel) ⟨Nat.le_of_ble_eq_true rfl, Nat.le_of_ble_eq_true rfl⟩) ⟨xPc.blind, va_recv hK (xO_W hW 0 (by decide)) (ci := 4) (q0 := 0) rfl rfl, F.pre hW hS (.ref (xa E (xwc 0 0)) :: [.int (r3.1 - r3.1 / (r3.2 0 2) * (r3.2 0 2))])⟩ rfl rfl hl.1 rfl (lv_room (Nat.le_of_ble_eq_true rfl)) dX0_thunders_50 ⟨Nat.le_refl _, Nat.le_refl _⟩) hS (fun H locs hW hS => ?_)
              refine lv_if_eq (tgt := 70) hx hb dX0_thunders_53 (by decide) (fun c9 => ?_) (fun c9 => ?_)
              · rw [if_pos c9] at h
                refine lv_iload hx hb dX0_thunders_70 (lv_at hl 0 rfl) ?_
                by_cases hi10 : xin (r3.1 - r3.1 / (r3.2 0 2) * (r3.2 0 2)) 8
                · rw [if_pos hi10] at h
                  refine x_iast F hW hS (xwc 0 (6 + 1)) 8 0 (fun j => 146 + 5 * j + 1) (xw_lt 0 (by decide) _ (Nat.lt_of_lt_of_le (Nat.add_lt_add_left (by decide) 6 : 6 + 1 < 6 + 5) (by decide))) (xw_6 0 (by decide) 1 (by decide)).1 (xw_6 0 (by decide) 1 (by decide)).2 (by decide) hi10 dX0_thunders_72 (fun H locs hW hS => ?_)
                  refine lv_aload_n hx hb dX0_thunders_73 rfl (lv_at hl 3 rfl) ?_
                  cases g11 : fX0_passes_2 (xup r6.2 0 (146 + 5 * (r3.1 - r3.1 / (r3.2 0 2) * (r3.2 0 2)).toNatClampNeg + 1) (r6.1 - r6.1 / 64 * 64)) with
                  | none => rw [g11] at h; cases h
                  | some r12 =>
                    rw [g11, Option.bind_some] at h
                    refine x_backv (va_runV (C := RX0) (b := (xa E 0)) (As := []) (rest := []) F.1 (mX0_passes_2 l E (xup r6.2 0 (146 + 5 * (r3.1 - r3.1 / (r3.2 0 2) * (r3.2 0 2)).toNatClampNeg + 1) (r6.1 - r6.1 / 64 * 64)) r12 g11) (cwV 0 hts (lw_V q713 q715 qs10 q99 q716) rfl rfl rfl (by decide +kernel) ⟨Nat.le_of_ble_eq_true rfl, Nat.le_of_ble_eq_true rfl⟩) ⟨xPc.blind, va_recv hK (xO_X hW) (ci := 0) (q0 := 0) rfl rfl, F.pre hW hS (.ref (xa E 0) :: [])⟩ rfl rfl hl.1 rfl (lv_room (Nat.le_of_ble_eq_true rfl)) dX0_thunders_74 ⟨Nat.le_refl _, Nat.le_refl _⟩) hS (fun H locs hW hS => ?_)
                    refine lv_iinc (k := 2) (v := (x2 + 1)) (lv' := [(2, .int (x2 + 1)), (4, .int (r6.1 - r6.1 / 64 * 64)), (3, .int (r3.1 - r3.1 / (r3.2 0 2) * (r3.2 0 2))), (0, .ref (xa E 0)), (1, .int b1)]) hx hb dX0_thunders_77 hl rfl rfl (by decide) rfl (fun ls hl => ?_)
                    refine lv_goto (tgt := 2) hx hb dX0_thunders_80 (by decide) ?_
                    exact ih (x2 + 1) r12 _ h _ _ _ hW hS (lv_sub hl [0, 3, 4] rfl) kk
                · rw [if_neg hi10] at h; cases h
              · rw [if_neg c9] at h
                refine lv_aload_n hx hb dX0_thunders_56 rfl (lv_at hl 3 rfl) ?_
                refine va_get (D := xD E) (ci := 0) (v := .ref (xa E (xwc 0 0))) (C := RX0) (T := TX0) (N := 15) hx hb hts in_X0 hown hK (xO_X hW) 0 rfl rfl 3 (by decide) (hts _ q416) (fun _ h9 => h9) rfl dX0_thunders_57 ?_
                refine va_getN (D := xD E) (ci := 4) (v := .ref (xa E (xwc 0 5))) (C := RX4) (T := TX4) (N := 8) hx hb hts in_X4 hown hK (xO_W hW 0 (by decide)) 0 rfl rfl 4 (by decide) (va_Nw.use rfl (F.2.1.2.1 _ q244 rfl)) (fun _ h9 => h9) rfl dX0_thunders_60 ?_
                refine lv_iconst (v := 1) hx hb dX0_thunders_63 (by decide) ?_
                refine x_aald (g := fun j => xa E (xwc 0 (6 + j))) (j := 1) F 4 4 5 (xR_5 hW 0 (by decide)) rfl rfl (x_lit (by decide)) (by decide) dX0_thunders_64 ?_
                refine lv_iload_n hx hb dX0_thunders_65 rfl (lv_at hl 1 rfl) ?_
                by_cases hi13 : xin (r3.1 - r3.1 / (r3.2 0 2) * (r3.2 0 2)) 8
                · rw [if_pos hi13] at h
                  refine va_iald hx hb hK (xV_6 hW 0 1 (by decide) (by decide)) 0 0 rfl rfl hi13 dX0_thunders_66 ?_
                  refine lv_goto (tgt := 72) hx hb dX0_thunders_67 (by decide) ?_
                  by_cases hi14 : xin (r3.1 - r3.1 / (r3.2 0 2) * (r3.2 0 2)) 8
                  · rw [if_pos hi14] at h
                    refine x_iast F hW hS (xwc 0 (6 + 1)) 8 0 (fun j => 146 + 5 * j + 1) (xw_lt 0 (by decide) _ (Nat.lt_of_lt_of_le (Nat.add_lt_add_left (by decide) 6 : 6 + 1 < 6 + 5) (by decide))) (xw_6 0 (by decide) 1 (by decide)).1 (xw_6 0 (by decide) 1 (by decide)).2 (by decide) hi14 dX0_thunders_72 (fun H locs hW hS => ?_)
                    refine lv_aload_n hx hb dX0_thunders_73 rfl (lv_at hl 3 rfl) ?_
                    cases g15 : fX0_passes_2 (xup r6.2 0 (146 + 5 * (r3.1 - r3.1 / (r3.2 0 2) * (r3.2 0 2)).toNatClampNeg + 1) (r6.2 0 (146 + 5 * (r3.1 - r3.1 / (r3.2 0 2) * (r3.2 0 2)).toNatClampNeg + 1))) with
                    | none => rw [g15] at h; cases h
                    | some r16 =>
                      rw [g15, Option.bind_some] at h
                      refine x_backv (va_runV (C := RX0) (b := (xa E 0)) (As := []) (rest := []) F.1 (mX0_passes_2 l E (xup r6.2 0 (146 + 5 * (r3.1 - r3.1 / (r3.2 0 2) * (r3.2 0 2)).toNatClampNeg + 1) (r6.2 0 (146 + 5 * (r3.1 - r3.1 / (r3.2 0 2) * (r3.2 0 2)).toNatClampNeg + 1))) r16 g15) (cwV 0 hts (lw_V q713 q715 qs10 q99 q716) rfl rfl rfl (by decide +kernel) ⟨Nat.le_of_ble_eq_true rfl, Nat.le_of_ble_eq_true rfl⟩) ⟨xPc.blind, va_recv hK (xO_X hW) (ci := 0) (q0 := 0) rfl rfl, F.pre hW hS (.ref (xa E 0) :: [])⟩ rfl rfl hl.1 rfl (lv_room (Nat.le_of_ble_eq_true rfl)) dX0_thunders_74 ⟨Nat.le_refl _, Nat.le_refl _⟩) hS (fun H locs hW hS => ?_)
                      refine lv_iinc (k := 2) (v := (x2 + 1)) (lv' := [(2, .int (x2 + 1)), (4, .int (r6.1 - r6.1 / 64 * 64)), (3, .int (r3.1 - r3.1 / (r3.2 0 2) * (r3.2 0 2))), (0, .ref (xa E 0)), (1, .int b1)]) hx hb dX0_thunders_77 hl rfl rfl (by decide) rfl (fun ls hl => ?_)
                      refine lv_goto (tgt := 2) hx hb dX0_thunders_80 (by decide) ?_
                      exact ih (x2 + 1) r16 _ h _ _ _ hW hS (lv_sub hl [0, 3, 4] rfl) kk
                  · rw [if_neg hi14] at h; cases h
                · rw [if_neg hi13] at h; cases h
set_option maxHeartbeats 4000000 in
theorem mX0_thunders (l : Launch) (E : xE) (σ : xM) (a1 : Int32) (r : Int32) (σ' : xM) (h : fX0_thunders σ a1 = some (r, σ')) : Met l yX0_thunders (ws_ yX0_thunders cX0_thunders 5 (some .int)) ({ frames := 14, cells := 0, slots := 0, locals := 304 } : Room) (xPc E σ [.ref (xa E 0), .int a1]) (xQc E (.returned (some (.int r))) σ') 0 0 (xA E) := by
  refine x_of (C := RX0) (n := "thunders") (d := "(I)I") (r := (some .int)) (by decide) rfl (by first | decide | exact Nat.le_of_ble_eq_true rfl) ?_
  intro p e s m below meth c ls F hr hlk hW hS hl
  have hl : lv_has ls 5 [(0, .ref (xa E 0)), (1, .int a1)] := hl
  obtain ⟨hx, hb, hml, hown, hts⟩ := id F.1
  have hK := F.2.1.1
  unfold fX0_thunders at h
  refine lv_iconst (v := 0) hx hb dX0_thunders_0 (by decide) ?_
  refine lv_istore_n (lv' := [(2, .int 0), (0, .ref (xa E 0)), (1, .int a1)]) hx hb dX0_thunders_1 rfl hl (by decide) rfl (fun ls hl => ?_)
  cases g17 : gX0_thunders_2 a1 xfu 0 σ with
  | none => rw [g17] at h; cases h
  | some q18 =>
    rw [g17, Option.bind_some] at h
    refine lX0_thunders_2 F xfu 0 σ q18 g17 _ _ _ hW hS (lv_sub hl [0, 1, 2] rfl) (fun H locs ls hW hS hl => ?_)
    refine lv_aload_n hx hb dX0_thunders_83 rfl (lv_at hl 1 rfl) ?_
    refine va_get (D := xD E) (ci := 0) (v := .ref (xa E (xwc 0 0))) (C := RX0) (T := TX0) (N := 15) hx hb hts in_X0 hown hK (xO_X hW) 0 rfl rfl 3 (by decide) (hts _ q416) (fun _ h9 => h9) rfl dX0_thunders_84 ?_
    cases g19 : fX4_whoIsCaught q18.2 0 with
    | none => rw [g19] at h; cases h
    | some r20 =>
      rw [g19, Option.bind_some] at h
      refine x_backi (va_runV (C := RX4) (b := (xa E (xwc 0 0))) (As := []) (rest := []) F.1 (mX4_whoIsCaught l E q18.2 0 (by decide) r20 g19) (cwV 0 hts (lw_V q717 q718 q719 q106 q720) rfl rfl rfl (by decide +kernel) ⟨Nat.le_of_ble_eq_true rfl, Nat.le_of_ble_eq_true rfl⟩) ⟨xPc.blind, va_recv hK (xO_W hW 0 (by decide)) (ci := 4) (q0 := 0) rfl rfl, F.pre hW hS (.ref (xa E (xwc 0 0)) :: [])⟩ rfl rfl hl.1 rfl (lv_room (Nat.le_of_ble_eq_true rfl)) dX0_thunders_87 ⟨Nat.le_refl _, Nat.le_refl _⟩) hS (fun H locs hW hS => ?_)
      refine x_backi (va_runS (As := [.int r20]) (rest := []) F.1 (mX0_ones l E q18.2 r20) (va_cwS 1 hts (lw_S q721 q722 q99 q723) rfl rfl rfl (by decide +kernel) ⟨Nat.le_of_ble_eq_true rfl, Nat.le_of_ble_eq_true rfl⟩) ⟨xPc.blind, F.pre hW hS [.int r20]⟩ rfl rfl hl.1 rfl (lv_room (Nat.le_of_ble_eq_true rfl)) dX0_thunders_90 ⟨Nat.le_refl _, Nat.le_refl _⟩) hS (fun H locs hW hS => ?_)
      obtain ⟨h1, h2⟩ := Prod.mk.inj (Option.some.inj h); subst h1; subst h2
      exact x_iret F hr hlk hW hS dX0_thunders_93
/-! WildBells.thunder(I)I -/
def fX0_thunder (σ : xM) (a1 : Int32) : Option (Int32 × xM) :=
  if (fX0_in a1 1 20) = 0 then ((fX0_finding σ 0).bind (fun r11 => some (r11.1, r11.2))) else (if (σ 0 2) = 0 then ((fX0_finding σ 4).bind (fun r4 => some (r4.1, r4.2))) else (if (fX4_isLate σ 0 a1) = 0 then ((fX0_thunders σ a1).bind (fun r7 => some (r7.1, r7.2))) else ((fX0_finding σ 4).bind (fun r9 => some (r9.1, r9.2)))))
set_option maxHeartbeats 4000000 in
theorem mX0_thunder (l : Launch) (E : xE) (σ : xM) (a1 : Int32) (r : Int32) (σ' : xM) (h : fX0_thunder σ a1 = some (r, σ')) : Met l yX0_thunder (ws_ yX0_thunder cX0_thunder 2 (some .int)) ({ frames := 15, cells := 0, slots := 0, locals := 328 } : Room) (xPc E σ [.ref (xa E 0), .int a1]) (xQc E (.returned (some (.int r))) σ') 0 0 (xA E) := by
  refine x_of (C := RX0) (n := "thunder") (d := "(I)I") (r := (some .int)) (by decide) rfl (by first | decide | exact Nat.le_of_ble_eq_true rfl) ?_
  intro p e s m below meth c ls F hr hlk hW hS hl
  have hl : lv_has ls 2 [(0, .ref (xa E 0)), (1, .int a1)] := hl
  obtain ⟨hx, hb, hml, hown, hts⟩ := id F.1
  have hK := F.2.1.1
  unfold fX0_thunder at h
  refine lv_iload_n hx hb dX0_thunder_0 rfl (lv_at hl 1 rfl) ?_
  refine lv_iconst (v := 1) hx hb dX0_thunder_1 (by decide) ?_
  refine lv_bipush (v := 20) hx hb dX0_thunder_2 (by decide) ?_
  refine x_backi (va_runS (As := [.int a1, .int 1, .int 20]) (rest := []) F.1 (mX0_in l E σ a1 1 20) (va_cwS 3 hts (lw_S q466 q467 q99 q468) rfl rfl rfl (by decide +kernel) ⟨Nat.le_of_ble_eq_true rfl, Nat.le_of_ble_eq_true rfl⟩) ⟨xPc.blind, F.pre hW hS [.int a1, .int 1, .int 20]⟩ rfl rfl hl.1 rfl (lv_room (Nat.le_of_ble_eq_true rfl)) dX0_thunder_4 ⟨Nat.le_refl _, Nat.le_refl _⟩) hS (fun H locs hW hS => ?_)
  refine lv_if_ne (tgt := 16) hx hb dX0_thunder_7 (by decide) (fun c1 => ?_) (fun c1 => ?_)
  · rw [if_neg c1] at h
    refine lv_aload_n hx hb dX0_thunder_16 rfl (lv_at hl 0 rfl) ?_
    refine va_get (D := xD E) (ci := 0) (v := .ref (xa E (xwc 0 0))) (C := RX0) (T := TX0) (N := 15) hx hb hts in_X0 hown hK (xO_X hW) 0 rfl rfl 3 (by decide) (hts _ q416) (fun _ h9 => h9) rfl dX0_thunder_17 ?_
    refine va_getN (D := xD E) (ci := 4) (v := .int (σ 0 2)) (C := RX4) (T := TX4) (N := 8) hx hb hts in_X4 hown hK (xO_W hW 0 (by decide)) 0 rfl rfl 3 (by decide) (va_Nw.use rfl (F.2.1.2.1 _ q241 rfl)) (fun _ h9 => h9) rfl dX0_thunder_20 ?_
    refine lv_if_eq (tgt := 37) hx hb dX0_thunder_23 (by decide) (fun c2 => ?_) (fun c2 => ?_)
    · rw [if_pos c2] at h
      refine lv_aload_n hx hb dX0_thunder_37 rfl (lv_at hl 0 rfl) ?_
      refine lv_iconst (v := 4) hx hb dX0_thunder_38 (by decide) ?_
      cases g3 : fX0_finding σ 4 with
      | none => rw [g3] at h; cases h
      | some r4 =>
        rw [g3, Option.bind_some] at h
        refine x_backi (va_runV (C := RX0) (b := (xa E 0)) (As := [.int 4]) (rest := []) F.1 (mX0_finding l E σ 4 r4.1 r4.2 g3) (cwV 1 hts (lw_V q469 q471 qs2 q99 q472) rfl rfl rfl (by decide +kernel) ⟨Nat.le_of_ble_eq_true rfl, Nat.le_of_ble_eq_true rfl⟩) ⟨xPc.blind, va_recv hK (xO_X hW) (ci := 0) (q0 := 0) rfl rfl, F.pre hW hS (.ref (xa E 0) :: [.int 4])⟩ rfl rfl hl.1 rfl (lv_room (Nat.le_of_ble_eq_true rfl)) dX0_thunder_39 ⟨Nat.le_refl _, Nat.le_refl _⟩) hS (fun H locs hW hS => ?_)
        refine lv_goto (tgt := 50) hx hb dX0_thunder_42 (by decide) ?_
        obtain ⟨h1, h2⟩ := Prod.mk.inj (Option.some.inj h); subst h1; subst h2
        exact x_iret F hr hlk hW hS dX0_thunder_50
    · rw [if_neg c2] at h
      refine lv_aload_n hx hb dX0_thunder_26 rfl (lv_at hl 0 rfl) ?_
      refine va_get (D := xD E) (ci := 0) (v := .ref (xa E (xwc 0 0))) (C := RX0) (T := TX0) (N := 15) hx hb hts in_X0 hown hK (xO_X hW) 0 rfl rfl 3 (by decide) (hts _ q416) (fun _ h9 => h9) rfl dX0_thunder_27 ?_
      refine lv_iload_n hx hb dX0_thunder_30 rfl (lv_at hl 1 rfl) ?_
      refine x_backi (va_runV (C := RX4) (b := (xa E (xwc 0 0))) (As := [.int a1]) (rest := []) F.1 (mX4_isLate l E σ 0 (by decide) a1) (cwV 1 hts (lw_V q700 q701 q702 q106 q703) rfl rfl rfl (by decide +kernel) ⟨Nat.le_of_ble_eq_true rfl, Nat.le_of_ble_eq_true rfl⟩) ⟨xPc.blind, va_recv hK (xO_W hW 0 (by decide)) (ci := 4) (q0 := 0) rfl rfl, F.pre hW hS (.ref (xa E (xwc 0 0)) :: [.int a1])⟩ rfl rfl hl.1 rfl (lv_room (Nat.le_of_ble_eq_true rfl)) dX0_thunder_31 ⟨Nat.le_refl _, Nat.le_refl _⟩) hS (fun H locs hW hS => ?_)
      refine lv_if_eq (tgt := 45) hx hb dX0_thunder_34 (by decide) (fun c5 => ?_) (fun c5 => ?_)
      · rw [if_pos c5] at h
        refine lv_aload_n hx hb dX0_thunder_45 rfl (lv_at hl 0 rfl) ?_
        refine lv_iload_n hx hb dX0_thunder_46 rfl (lv_at hl 1 rfl) ?_
        cases g6 : fX0_thunders σ a1 with
        | none => rw [g6] at h; cases h
        | some r7 =>
          rw [g6, Option.bind_some] at h
          refine x_backi (va_runV (C := RX0) (b := (xa E 0)) (As := [.int a1]) (rest := []) F.1 (mX0_thunders l E σ a1 r7.1 r7.2 g6) (cwV 1 hts (lw_V q965 q967 qs33 q99 q968) rfl rfl rfl (by decide +kernel) ⟨Nat.le_of_ble_eq_true rfl, Nat.le_of_ble_eq_true rfl⟩) ⟨xPc.blind, va_recv hK (xO_X hW) (ci := 0) (q0 := 0) rfl rfl, F.pre hW hS (.ref (xa E 0) :: [.int a1])⟩ rfl rfl hl.1 rfl (lv_room (Nat.le_of_ble_eq_true rfl)) dX0_thunder_47 ⟨Nat.le_refl _, Nat.le_refl _⟩) hS (fun H locs hW hS => ?_)
          obtain ⟨h1, h2⟩ := Prod.mk.inj (Option.some.inj h); subst h1; subst h2
          exact x_iret F hr hlk hW hS dX0_thunder_50
      · rw [if_neg c5] at h
        refine lv_aload_n hx hb dX0_thunder_37 rfl (lv_at hl 0 rfl) ?_
        refine lv_iconst (v := 4) hx hb dX0_thunder_38 (by decide) ?_
        cases g8 : fX0_finding σ 4 with
        | none => rw [g8] at h; cases h
        | some r9 =>
          rw [g8, Option.bind_some] at h
          refine x_backi (va_runV (C := RX0) (b := (xa E 0)) (As := [.int 4]) (rest := []) F.1 (mX0_finding l E σ 4 r9.1 r9.2 g8) (cwV 1 hts (lw_V q469 q471 qs2 q99 q472) rfl rfl rfl (by decide +kernel) ⟨Nat.le_of_ble_eq_true rfl, Nat.le_of_ble_eq_true rfl⟩) ⟨xPc.blind, va_recv hK (xO_X hW) (ci := 0) (q0 := 0) rfl rfl, F.pre hW hS (.ref (xa E 0) :: [.int 4])⟩ rfl rfl hl.1 rfl (lv_room (Nat.le_of_ble_eq_true rfl)) dX0_thunder_39 ⟨Nat.le_refl _, Nat.le_refl _⟩) hS (fun H locs hW hS => ?_)
          refine lv_goto (tgt := 50) hx hb dX0_thunder_42 (by decide) ?_
          obtain ⟨h1, h2⟩ := Prod.mk.inj (Option.some.inj h); subst h1; subst h2
          exact x_iret F hr hlk hW hS dX0_thunder_50
  · rw [if_pos c1] at h
    refine lv_aload_n hx hb dX0_thunder_10 rfl (lv_at hl 0 rfl) ?_
    refine lv_iconst (v := 0) hx hb dX0_thunder_11 (by decide) ?_
    cases g10 : fX0_finding σ 0 with
    | none => rw [g10] at h; cases h
    | some r11 =>
      rw [g10, Option.bind_some] at h
      refine x_backi (va_runV (C := RX0) (b := (xa E 0)) (As := [.int 0]) (rest := []) F.1 (mX0_finding l E σ 0 r11.1 r11.2 g10) (cwV 1 hts (lw_V q469 q471 qs2 q99 q472) rfl rfl rfl (by decide +kernel) ⟨Nat.le_of_ble_eq_true rfl, Nat.le_of_ble_eq_true rfl⟩) ⟨xPc.blind, va_recv hK (xO_X hW) (ci := 0) (q0 := 0) rfl rfl, F.pre hW hS (.ref (xa E 0) :: [.int 0])⟩ rfl rfl hl.1 rfl (lv_room (Nat.le_of_ble_eq_true rfl)) dX0_thunder_12 ⟨Nat.le_refl _, Nat.le_refl _⟩) hS (fun H locs hW hS => ?_)
      obtain ⟨h1, h2⟩ := Prod.mk.inj (Option.some.inj h); subst h1; subst h2
      exact x_iret F hr hlk hW hS dX0_thunder_15
/-! WildBells.seed(I)I -/
def fX0_seed (σ : xM) (a1 : Int32) : Option (Int32 × xM) :=
  some ((σ 0 3), (xup σ 0 3 a1))
set_option maxHeartbeats 4000000 in
theorem mX0_seed (l : Launch) (E : xE) (σ : xM) (a1 : Int32) (r : Int32) (σ' : xM) (h : fX0_seed σ a1 = some (r, σ')) : Met l yX0_seed (ws_ yX0_seed cX0_seed 3 (some .int)) ({ frames := 0, cells := 0, slots := 0, locals := 0 } : Room) (xPc E σ [.ref (xa E 0), .int a1]) (xQc E (.returned (some (.int r))) σ') 0 0 (xA E) := by
  refine x_of (C := RX0) (n := "seed") (d := "(I)I") (r := (some .int)) (by decide) rfl (by first | decide | exact Nat.le_of_ble_eq_true rfl) ?_
  intro p e s m below meth c ls F hr hlk hW hS hl
  have hl : lv_has ls 3 [(0, .ref (xa E 0)), (1, .int a1)] := hl
  obtain ⟨hx, hb, hml, hown, hts⟩ := id F.1
  have hK := F.2.1.1
  unfold fX0_seed at h
  refine lv_aload_n hx hb dX0_seed_0 rfl (lv_at hl 0 rfl) ?_
  refine va_get (D := xD E) (ci := 0) (v := .ref (xa E (xwc 0 0))) (C := RX0) (T := TX0) (N := 15) hx hb hts in_X0 hown hK (xO_X hW) 0 rfl rfl 3 (by decide) (hts _ q416) (fun _ h9 => h9) rfl dX0_seed_1 ?_
  refine va_getN (D := xD E) (ci := 4) (v := .int (σ 0 3)) (C := RX4) (T := TX4) (N := 8) hx hb hts in_X4 hown hK (xO_W hW 0 (by decide)) 0 rfl rfl 6 (by decide) (va_Nw.use rfl (F.2.1.2.1 _ q248 rfl)) (fun _ h9 => h9) rfl dX0_seed_4 ?_
  refine lv_istore_n (lv' := [(2, .int (σ 0 3)), (0, .ref (xa E 0)), (1, .int a1)]) hx hb dX0_seed_7 rfl hl (by decide) rfl (fun ls hl => ?_)
  refine lv_aload_n hx hb dX0_seed_8 rfl (lv_at hl 1 rfl) ?_
  refine va_get (D := xD E) (ci := 0) (v := .ref (xa E (xwc 0 0))) (C := RX0) (T := TX0) (N := 15) hx hb hts in_X0 hown hK (xO_X hW) 0 rfl rfl 3 (by decide) (hts _ q416) (fun _ h9 => h9) rfl dX0_seed_9 ?_
  refine lv_iload_n hx hb dX0_seed_12 rfl (lv_at hl 2 rfl) ?_
  refine x_putN (C := RX4) (T := TX4) (N := 8) (ci := 4) (ty := .int) F hW hS in_X4 tyX4 tyX4_ok nmX4 rfl (xwc 0 0) 6 0 3 (xw_lt 0 (by decide) 0 (by decide)) (xw_0 0 (by decide)).1 (by decide) (xw_0 0 (by decide)).2.2.2.2.2.2.2.1 (by decide) (va_Nw.use rfl (F.2.1.2.1 _ q248 rfl)) (fun _ h9 => h9) rfl (by decide +kernel) rfl rfl dX0_seed_13 (fun H locs hW hS => ?_)
  refine lv_iload_n hx hb dX0_seed_16 rfl (lv_at hl 0 rfl) ?_
  obtain ⟨h1, h2⟩ := Prod.mk.inj (Option.some.inj h); subst h1; subst h2
  exact x_iret F hr hlk hW hS dX0_seed_17
/-! WildBells.feed(II)I -/
def gX0_feed_36 (b1 : Int32) : Nat → Int32 → xM → Option (Int32 × xM)
  | 0, _, _ => none
  | n + 1, x3, σ => if x3 < 0 then (some (x3, σ)) else (if xin (σ 6 0) 120 then (gX0_feed_36 b1 n (x3 + (-1)) (xup (xup σ 5 ((σ 6 0).toNatClampNeg) (((((b1 >>> ((8 * x3) &&& 31)) : Int32).toInt8.toInt32) : Int32).toInt8.toInt32)) 6 0 (((xup σ 5 ((σ 6 0).toNatClampNeg) (((((b1 >>> ((8 * x3) &&& 31)) : Int32).toInt8.toInt32) : Int32).toInt8.toInt32)) 6 0) + 1))) else none)
def fX0_feed (σ : xM) (a1 : Int32) (a2 : Int32) : Option (Int32 × xM) :=
  if (fX0_in a2 1 4) = 0 then ((fX0_finding σ 0).bind (fun r10 => some (r10.1, r10.2))) else (if ((σ 6 0) + a2) ≤ 120 then ((gX0_feed_36 a1 xfu (a2 - 1) σ).bind (fun q6 => some ((q6.2 6 0), q6.2))) else ((fX0_finding σ 1).bind (fun r8 => some (r8.1, r8.2))))
set_option maxHeartbeats 4000000 in
theorem lX0_feed_36 {p : Program} {l : Launch} {e : Env} {s : State} {m : MethodId} {av : Array Value} {below : List Frame} {meth : Method} {c : Code} {Q : State → Prop} {E : xE} {b1 : Int32} {b2 : Int32} (F : xFx p m c cX0_feed 4 s av RX0 E) : ∀ (n : Nat) (x3 : Int32) (σ : xM) (q : (Int32 × xM)), gX0_feed_36 b1 n x3 σ = some q → ∀ (H : Heap) (locs : List Loc) (ls : Array Slot), xW E σ H → va_S (xA E) s.heap H locs → lv_has ls 4 [(3, .int x3), (0, .ref (xa E 0)), (1, .int b1), (2, .int b2)] → (∀ (H : Heap) (locs : List Loc) (ls : Array Slot), xW E q.2 H → va_S (xA E) s.heap H locs → lv_has ls 4 [(3, .int q.1), (0, .ref (xa E 0)), (1, .int b1), (2, .int b2)] → W p l e ({ frames := 1, cells := 0, slots := 0, locals := 22 } : Room) s m av below meth c H locs 0 0 Q (F0 m 75 ls [])) → W p l e ({ frames := 1, cells := 0, slots := 0, locals := 22 } : Room) s m av below meth c H locs 0 0 Q (F0 m 36 ls []) := by
  obtain ⟨hx, hb, hml, hown, hts⟩ := id F.1
  have hK := F.2.1.1
  intro n
  induction n with
  | zero =>
    intro x3 σ q h
    cases h
  | succ n ih =>
    intro x3 σ q h H locs ls hW hS hl kk
    rw [gX0_feed_36] at h
    refine lv_iload_n hx hb dX0_feed_36 rfl (lv_at hl 0 rfl) ?_
    refine lv_if_lt (tgt := 75) hx hb dX0_feed_37 (by decide) (fun c3 => ?_) (fun c3 => ?_)
    · rw [if_pos c3] at h
      have h := Option.some.inj h; subst h
      exact kk _ _ _ hW hS (lv_sub hl [0, 1, 2, 3] rfl)
    · rw [if_neg c3] at h
      refine lv_aload_n hx hb dX0_feed_40 rfl (lv_at hl 1 rfl) ?_
      refine va_get (D := xD E) (ci := 0) (v := .ref (xa E 2)) (C := RX0) (T := TX0) (N := 15) hx hb hts in_X0 hown hK (xO_X hW) 0 rfl rfl 1 (by decide) (hts _ q412) (fun _ h9 => h9) rfl dX0_feed_41 ?_
      refine va_getN (D := xD E) (ci := 2) (v := .ref (xa E 4)) (C := RX2) (T := TX2) (N := 8) hx hb hts in_X2 hown hK (xO_R hW) 0 rfl rfl 1 (by decide) (va_Nw.use rfl (F.2.1.2.1 _ q272 rfl)) (fun _ h9 => h9) rfl dX0_feed_44 ?_
      refine lv_aload_n hx hb dX0_feed_47 rfl (lv_at hl 1 rfl) ?_
      refine va_get (D := xD E) (ci := 0) (v := .int (σ 6 0)) (C := RX0) (T := TX0) (N := 15) hx hb hts in_X0 hown hK (xO_X hW) 0 rfl rfl 2 (by decide) (hts _ q413) (fun _ h9 => h9) rfl dX0_feed_48 ?_
      refine lv_iload_n hx hb dX0_feed_51 rfl (lv_at hl 2 rfl) ?_
      refine lv_bipush (v := 8) hx hb dX0_feed_52 (by decide) ?_
      refine lv_iload_n hx hb dX0_feed_54 rfl (lv_at hl 0 rfl) ?_
      refine lv_imul hx hb dX0_feed_55 ?_
      refine lv_ishr hx hb dX0_feed_56 ?_
      refine lv_i2b (v := ((b1 >>> ((8 * x3) &&& 31)) : Int32).toInt8.toInt32) hx hb dX0_feed_57 rfl ?_
      by_cases hi4 : xin (σ 6 0) 120
      · rw [if_pos hi4] at h
        refine x_bast F hW hS 4 120 5 (fun j => j) xp_4.1 xp_4.2.1 xp_4.2.2.1 xp_4.2.2.2 hi4 dX0_feed_58 (fun H locs hW hS => ?_)
        refine lv_aload_n hx hb dX0_feed_59 rfl (lv_at hl 1 rfl) ?_
        refine lv_dup hx hb dX0_feed_60 rfl ?_
        refine va_get (D := xD E) (ci := 0) (v := .int ((xup σ 5 ((σ 6 0).toNatClampNeg) (((((b1 >>> ((8 * x3) &&& 31)) : Int32).toInt8.toInt32) : Int32).toInt8.toInt32)) 6 0)) (C := RX0) (T := TX0) (N := 15) hx hb hts in_X0 hown hK (xO_X hW) 0 rfl rfl 2 (by decide) (hts _ q413) (fun _ h9 => h9) rfl dX0_feed_61 ?_
        refine lv_iconst (v := 1) hx hb dX0_feed_64 (by decide) ?_
        refine lv_iadd hx hb dX0_feed_65 ?_
        refine x_put (C := RX0) (T := TX0) (N := 15) (ci := 0) (ty := .int) F hW hS in_X0 tyX0 tyX0_ok nmX0 rfl 0 2 6 0 (by decide) rfl (by decide) rfl (by decide) (hts _ q413) (fun _ h9 => h9) rfl (by decide +kernel) rfl rfl dX0_feed_66 (fun H locs hW hS => ?_)
        refine lv_iinc (k := 0) (v := (x3 + (-1))) (lv' := [(3, .int (x3 + (-1))), (0, .ref (xa E 0)), (1, .int b1), (2, .int b2)]) hx hb dX0_feed_69 hl rfl rfl (by decide) rfl (fun ls hl => ?_)
        refine lv_goto (tgt := 36) hx hb dX0_feed_72 (by decide) ?_
        exact ih (x3 + (-1)) (xup (xup σ 5 ((σ 6 0).toNatClampNeg) (((((b1 >>> ((8 * x3) &&& 31)) : Int32).toInt8.toInt32) : Int32).toInt8.toInt32)) 6 0 (((xup σ 5 ((σ 6 0).toNatClampNeg) (((((b1 >>> ((8 * x3) &&& 31)) : Int32).toInt8.toInt32) : Int32).toInt8.toInt32)) 6 0) + 1)) _ h _ _ _ hW hS (lv_sub hl [0, 1, 2, 3] rfl) kk
      · rw [if_neg hi4] at h; cases h
set_option maxHeartbeats 4000000 in
theorem mX0_feed (l : Launch) (E : xE) (σ : xM) (a1 : Int32) (a2 : Int32) (r : Int32) (σ' : xM) (h : fX0_feed σ a1 a2 = some (r, σ')) : Met l yX0_feed (ws_ yX0_feed cX0_feed 4 (some .int)) ({ frames := 1, cells := 0, slots := 0, locals := 22 } : Room) (xPc E σ [.ref (xa E 0), .int a1, .int a2]) (xQc E (.returned (some (.int r))) σ') 0 0 (xA E) := by
  refine x_of (C := RX0) (n := "feed") (d := "(II)I") (r := (some .int)) (by decide) rfl (by first | decide | exact Nat.le_of_ble_eq_true rfl) ?_
  intro p e s m below meth c ls F hr hlk hW hS hl
  have hl : lv_has ls 4 [(0, .ref (xa E 0)), (1, .int a1), (2, .int a2)] := hl
  obtain ⟨hx, hb, hml, hown, hts⟩ := id F.1
  have hK := F.2.1.1
  unfold fX0_feed at h
  refine lv_iload_n hx hb dX0_feed_0 rfl (lv_at hl 2 rfl) ?_
  refine lv_iconst (v := 1) hx hb dX0_feed_1 (by decide) ?_
  refine lv_iconst (v := 4) hx hb dX0_feed_2 (by decide) ?_
  refine x_backi (va_runS (As := [.int a2, .int 1, .int 4]) (rest := []) F.1 (mX0_in l E σ a2 1 4) (va_cwS 3 hts (lw_S q466 q467 q99 q468) rfl rfl rfl (by decide +kernel) ⟨Nat.le_of_ble_eq_true rfl, Nat.le_of_ble_eq_true rfl⟩) ⟨xPc.blind, F.pre hW hS [.int a2, .int 1, .int 4]⟩ rfl rfl hl.1 rfl (lv_room (Nat.le_of_ble_eq_true rfl)) dX0_feed_3 ⟨Nat.le_refl _, Nat.le_refl _⟩) hS (fun H locs hW hS => ?_)
  refine lv_if_ne (tgt := 15) hx hb dX0_feed_6 (by decide) (fun c1 => ?_) (fun c1 => ?_)
  · rw [if_neg c1] at h
    refine lv_aload_n hx hb dX0_feed_15 rfl (lv_at hl 0 rfl) ?_
    refine va_get (D := xD E) (ci := 0) (v := .int (σ 6 0)) (C := RX0) (T := TX0) (N := 15) hx hb hts in_X0 hown hK (xO_X hW) 0 rfl rfl 2 (by decide) (hts _ q413) (fun _ h9 => h9) rfl dX0_feed_16 ?_
    refine lv_iload_n hx hb dX0_feed_19 rfl (lv_at hl 2 rfl) ?_
    refine lv_iadd hx hb dX0_feed_20 ?_
    refine lv_bipush (v := 120) hx hb dX0_feed_21 (by decide) ?_
    refine lv_icmp_le (tgt := 32) hx hb dX0_feed_23 (by decide) (fun c2 => ?_) (fun c2 => ?_)
    · rw [if_pos c2] at h
      refine lv_iload_n hx hb dX0_feed_32 rfl (lv_at hl 2 rfl) ?_
      refine lv_iconst (v := 1) hx hb dX0_feed_33 (by decide) ?_
      refine lv_isub hx hb dX0_feed_34 ?_
      refine lv_istore_n (lv' := [(3, .int (a2 - 1)), (0, .ref (xa E 0)), (1, .int a1), (2, .int a2)]) hx hb dX0_feed_35 rfl hl (by decide) rfl (fun ls hl => ?_)
      cases g5 : gX0_feed_36 a1 xfu (a2 - 1) σ with
      | none => rw [g5] at h; cases h
      | some q6 =>
        rw [g5, Option.bind_some] at h
        refine lX0_feed_36 F xfu (a2 - 1) σ q6 g5 _ _ _ hW hS (lv_sub hl [0, 1, 2, 3] rfl) (fun H locs ls hW hS hl => ?_)
        refine lv_aload_n hx hb dX0_feed_75 rfl (lv_at hl 1 rfl) ?_
        refine va_get (D := xD E) (ci := 0) (v := .int (q6.2 6 0)) (C := RX0) (T := TX0) (N := 15) hx hb hts in_X0 hown hK (xO_X hW) 0 rfl rfl 2 (by decide) (hts _ q413) (fun _ h9 => h9) rfl dX0_feed_76 ?_
        obtain ⟨h1, h2⟩ := Prod.mk.inj (Option.some.inj h); subst h1; subst h2
        exact x_iret F hr hlk hW hS dX0_feed_79
    · rw [if_neg c2] at h
      refine lv_aload_n hx hb dX0_feed_26 rfl (lv_at hl 0 rfl) ?_
      refine lv_iconst (v := 1) hx hb dX0_feed_27 (by decide) ?_
      cases g7 : fX0_finding σ 1 with
      | none => rw [g7] at h; cases h
      | some r8 =>
        rw [g7, Option.bind_some] at h
        refine x_backi (va_runV (C := RX0) (b := (xa E 0)) (As := [.int 1]) (rest := []) F.1 (mX0_finding l E σ 1 r8.1 r8.2 g7) (cwV 1 hts (lw_V q469 q471 qs2 q99 q472) rfl rfl rfl (by decide +kernel) ⟨Nat.le_of_ble_eq_true rfl, Nat.le_of_ble_eq_true rfl⟩) ⟨xPc.blind, va_recv hK (xO_X hW) (ci := 0) (q0 := 0) rfl rfl, F.pre hW hS (.ref (xa E 0) :: [.int 1])⟩ rfl rfl hl.1 rfl (lv_room (Nat.le_of_ble_eq_true rfl)) dX0_feed_28 ⟨Nat.le_refl _, Nat.le_refl _⟩) hS (fun H locs hW hS => ?_)
        obtain ⟨h1, h2⟩ := Prod.mk.inj (Option.some.inj h); subst h1; subst h2
        exact x_iret F hr hlk hW hS dX0_feed_31
  · rw [if_pos c1] at h
    refine lv_aload_n hx hb dX0_feed_9 rfl (lv_at hl 0 rfl) ?_
    refine lv_iconst (v := 0) hx hb dX0_feed_10 (by decide) ?_
    cases g9 : fX0_finding σ 0 with
    | none => rw [g9] at h; cases h
    | some r10 =>
      rw [g9, Option.bind_some] at h
      refine x_backi (va_runV (C := RX0) (b := (xa E 0)) (As := [.int 0]) (rest := []) F.1 (mX0_finding l E σ 0 r10.1 r10.2 g9) (cwV 1 hts (lw_V q469 q471 qs2 q99 q472) rfl rfl rfl (by decide +kernel) ⟨Nat.le_of_ble_eq_true rfl, Nat.le_of_ble_eq_true rfl⟩) ⟨xPc.blind, va_recv hK (xO_X hW) (ci := 0) (q0 := 0) rfl rfl, F.pre hW hS (.ref (xa E 0) :: [.int 0])⟩ rfl rfl hl.1 rfl (lv_room (Nat.le_of_ble_eq_true rfl)) dX0_feed_11 ⟨Nat.le_refl _, Nat.le_refl _⟩) hS (fun H locs hW hS => ?_)
      obtain ⟨h1, h2⟩ := Prod.mk.inj (Option.some.inj h); subst h1; subst h2
      exact x_iret F hr hlk hW hS dX0_feed_14
/-! WildBells.wipe()I -/
def fX0_wipe (σ : xM) : Option (Int32 × xM) :=
  some ((σ 6 0), (xup σ 6 0 0))
set_option maxHeartbeats 4000000 in
theorem mX0_wipe (l : Launch) (E : xE) (σ : xM) (r : Int32) (σ' : xM) (h : fX0_wipe σ = some (r, σ')) : Met l yX0_wipe (ws_ yX0_wipe cX0_wipe 2 (some .int)) ({ frames := 0, cells := 0, slots := 0, locals := 0 } : Room) (xPc E σ [.ref (xa E 0)]) (xQc E (.returned (some (.int r))) σ') 0 0 (xA E) := by
  refine x_of (C := RX0) (n := "wipe") (d := "()I") (r := (some .int)) (by decide) rfl (by first | decide | exact Nat.le_of_ble_eq_true rfl) ?_
  intro p e s m below meth c ls F hr hlk hW hS hl
  have hl : lv_has ls 2 [(0, .ref (xa E 0))] := hl
  obtain ⟨hx, hb, hml, hown, hts⟩ := id F.1
  have hK := F.2.1.1
  unfold fX0_wipe at h
  refine lv_aload_n hx hb dX0_wipe_0 rfl (lv_at hl 0 rfl) ?_
  refine va_get (D := xD E) (ci := 0) (v := .int (σ 6 0)) (C := RX0) (T := TX0) (N := 15) hx hb hts in_X0 hown hK (xO_X hW) 0 rfl rfl 2 (by decide) (hts _ q413) (fun _ h9 => h9) rfl dX0_wipe_1 ?_
  refine lv_istore_n (lv' := [(1, .int (σ 6 0)), (0, .ref (xa E 0))]) hx hb dX0_wipe_4 rfl hl (by decide) rfl (fun ls hl => ?_)
  refine lv_aload_n hx hb dX0_wipe_5 rfl (lv_at hl 1 rfl) ?_
  refine lv_iconst (v := 0) hx hb dX0_wipe_6 (by decide) ?_
  refine x_put (C := RX0) (T := TX0) (N := 15) (ci := 0) (ty := .int) F hW hS in_X0 tyX0 tyX0_ok nmX0 rfl 0 2 6 0 (by decide) rfl (by decide) rfl (by decide) (hts _ q413) (fun _ h9 => h9) rfl (by decide +kernel) rfl rfl dX0_wipe_7 (fun H locs hW hS => ?_)
  refine lv_iload_n hx hb dX0_wipe_10 rfl (lv_at hl 0 rfl) ?_
  obtain ⟨h1, h2⟩ := Prod.mk.inj (Option.some.inj h); subst h1; subst h2
  exact x_iret F hr hlk hW hS dX0_wipe_11
/-! WildBells.holding()I -/
def gX0_holding_16 (σ : xM) (b3 : Int32) : Nat → Int32 → Int32 → Option (Int32 × Int32)
  | 0, _, _ => none
  | n + 1, x1, x4 => if b3 ≤ x4 then (some (x1, x4)) else (if xin x4 10 then (if (σ 0 (4 + x4.toNatClampNeg)) = (-1) then (gX0_holding_16 σ b3 n (x1 + 0) (x4 + 1)) else (gX0_holding_16 σ b3 n (x1 + 1) (x4 + 1))) else none)
def fX0_holding (σ : xM) : Option Int32 :=
  (gX0_holding_16 σ 10 xfu 0 0).bind (fun q5 => some q5.1)
set_option maxHeartbeats 4000000 in
theorem lX0_holding_16 {p : Program} {l : Launch} {e : Env} {s : State} {m : MethodId} {av : Array Value} {below : List Frame} {meth : Method} {c : Code} {Q : State → Prop} {E : xE} {σ : xM} {b3 : Int32} (F : xFx p m c cX0_holding 6 s av RX0 E) : ∀ (n : Nat) (x1 : Int32) (x4 : Int32) (q : (Int32 × Int32)), gX0_holding_16 σ b3 n x1 x4 = some q → ∀ (H : Heap) (locs : List Loc) (ls : Array Slot), xW E σ H → va_S (xA E) s.heap H locs → lv_has ls 6 [(4, .int x4), (3, .int b3), (2, .ref (xa E (xwc 0 11))), (1, .int x1), (0, .ref (xa E 0))] → (∀ (H : Heap) (locs : List Loc) (ls : Array Slot), xW E σ H → va_S (xA E) s.heap H locs → lv_has ls 6 [(4, .int q.2), (3, .int b3), (2, .ref (xa E (xwc 0 11))), (1, .int q.1), (0, .ref (xa E 0))] → W p l e ({ frames := 0, cells := 0, slots := 0, locals := 0 } : Room) s m av below meth c H locs 0 0 Q (F0 m 48 ls [])) → W p l e ({ frames := 0, cells := 0, slots := 0, locals := 0 } : Room) s m av below meth c H locs 0 0 Q (F0 m 16 ls []) := by
  obtain ⟨hx, hb, hml, hown, hts⟩ := id F.1
  have hK := F.2.1.1
  intro n
  induction n with
  | zero =>
    intro x1 x4 q h
    cases h
  | succ n ih =>
    intro x1 x4 q h H locs ls hW hS hl kk
    rw [gX0_holding_16] at h
    refine lv_iload hx hb dX0_holding_16 (lv_at hl 0 rfl) ?_
    refine lv_iload_n hx hb dX0_holding_18 rfl (lv_at hl 1 rfl) ?_
    refine lv_icmp_ge (tgt := 48) hx hb dX0_holding_19 (by decide) (fun c1 => ?_) (fun c1 => ?_)
    · rw [if_pos c1] at h
      have h := Option.some.inj h; subst h
      exact kk _ _ _ hW hS (lv_sub hl [0, 1, 2, 3, 4] rfl)
    · rw [if_neg c1] at h
      refine lv_aload_n hx hb dX0_holding_22 rfl (lv_at hl 2 rfl) ?_
      refine lv_iload hx hb dX0_holding_23 (lv_at hl 0 rfl) ?_
      by_cases hi2 : xin x4 10
      · rw [if_pos hi2] at h
        refine va_iald hx hb hK (xV_11 hW 0 (by decide)) 0 0 rfl rfl hi2 dX0_holding_25 ?_
        refine lv_istore (lv' := [(5, .int (σ 0 (4 + x4.toNatClampNeg))), (4, .int x4), (3, .int b3), (2, .ref (xa E (xwc 0 11))), (1, .int x1), (0, .ref (xa E 0))]) hx hb dX0_holding_26 hl (by decide) rfl (fun ls hl => ?_)
        refine lv_iload_n hx hb dX0_holding_28 rfl (lv_at hl 4 rfl) ?_
        refine lv_iload hx hb dX0_holding_29 (lv_at hl 0 rfl) ?_
        refine lv_iconst (v := (-1)) hx hb dX0_holding_31 (by decide) ?_
        refine lv_icmp_ne (tgt := 39) hx hb dX0_holding_32 (by decide) (fun c3 => ?_) (fun c3 => ?_)
        · rw [if_neg c3] at h
          refine lv_iconst (v := 1) hx hb dX0_holding_39 (by decide) ?_
          refine lv_iadd hx hb dX0_holding_40 ?_
          refine lv_istore_n (lv' := [(1, .int (x1 + 1)), (5, .int (σ 0 (4 + x4.toNatClampNeg))), (4, .int x4), (3, .int b3), (2, .ref (xa E (xwc 0 11))), (0, .ref (xa E 0))]) hx hb dX0_holding_41 rfl hl (by decide) rfl (fun ls hl => ?_)
          refine lv_iinc (k := 2) (v := (x4 + 1)) (lv' := [(4, .int (x4 + 1)), (1, .int (x1 + 1)), (5, .int (σ 0 (4 + x4.toNatClampNeg))), (3, .int b3), (2, .ref (xa E (xwc 0 11))), (0, .ref (xa E 0))]) hx hb dX0_holding_42 hl rfl rfl (by decide) rfl (fun ls hl => ?_)
          refine lv_goto (tgt := 16) hx hb dX0_holding_45 (by decide) ?_
          exact ih (x1 + 1) (x4 + 1) _ h _ _ _ hW hS (lv_sub hl [0, 3, 4, 1, 5] rfl) kk
        · rw [if_pos c3] at h
          refine lv_iconst (v := 0) hx hb dX0_holding_35 (by decide) ?_
          refine lv_goto (tgt := 40) hx hb dX0_holding_36 (by decide) ?_
          refine lv_iadd hx hb dX0_holding_40 ?_
          refine lv_istore_n (lv' := [(1, .int (x1 + 0)), (5, .int (σ 0 (4 + x4.toNatClampNeg))), (4, .int x4), (3, .int b3), (2, .ref (xa E (xwc 0 11))), (0, .ref (xa E 0))]) hx hb dX0_holding_41 rfl hl (by decide) rfl (fun ls hl => ?_)
          refine lv_iinc (k := 2) (v := (x4 + 1)) (lv' := [(4, .int (x4 + 1)), (1, .int (x1 + 0)), (5, .int (σ 0 (4 + x4.toNatClampNeg))), (3, .int b3), (2, .ref (xa E (xwc 0 11))), (0, .ref (xa E 0))]) hx hb dX0_holding_42 hl rfl rfl (by decide) rfl (fun ls hl => ?_)
          refine lv_goto (tgt := 16) hx hb dX0_holding_45 (by decide) ?_
          exact ih (x1 + 0) (x4 + 1) _ h _ _ _ hW hS (lv_sub hl [0, 3, 4, 1, 5] rfl) kk
      · rw [if_neg hi2] at h; cases h
set_option maxHeartbeats 4000000 in
theorem mX0_holding (l : Launch) (E : xE) (σ : xM) (r : Int32) (h : fX0_holding σ = some r) : Met l yX0_holding (ws_ yX0_holding cX0_holding 6 (some .int)) ({ frames := 0, cells := 0, slots := 0, locals := 0 } : Room) (xPc E σ [.ref (xa E 0)]) (xQc E (.returned (some (.int r))) σ) 0 0 (xA E) := by
  refine x_of (C := RX0) (n := "holding") (d := "()I") (r := (some .int)) (by decide) rfl (by first | decide | exact Nat.le_of_ble_eq_true rfl) ?_
  intro p e s m below meth c ls F hr hlk hW hS hl
  have hl : lv_has ls 6 [(0, .ref (xa E 0))] := hl
  obtain ⟨hx, hb, hml, hown, hts⟩ := id F.1
  have hK := F.2.1.1
  unfold fX0_holding at h
  refine lv_iconst (v := 0) hx hb dX0_holding_0 (by decide) ?_
  refine lv_istore_n (lv' := [(1, .int 0), (0, .ref (xa E 0))]) hx hb dX0_holding_1 rfl hl (by decide) rfl (fun ls hl => ?_)
  refine lv_aload_n hx hb dX0_holding_2 rfl (lv_at hl 1 rfl) ?_
  refine va_get (D := xD E) (ci := 0) (v := .ref (xa E (xwc 0 0))) (C := RX0) (T := TX0) (N := 15) hx hb hts in_X0 hown hK (xO_X hW) 0 rfl rfl 3 (by decide) (hts _ q416) (fun _ h9 => h9) rfl dX0_holding_3 ?_
  refine va_getN (D := xD E) (ci := 4) (v := .ref (xa E (xwc 0 11))) (C := RX4) (T := TX4) (N := 8) hx hb hts in_X4 hown hK (xO_W hW 0 (by decide)) 0 rfl rfl 7 (by decide) (va_Nw.use rfl (F.2.1.2.1 _ q250 rfl)) (fun _ h9 => h9) rfl dX0_holding_6 ?_
  refine lv_astore_n (lv' := [(2, .ref (xa E (xwc 0 11))), (1, .int 0), (0, .ref (xa E 0))]) hx hb dX0_holding_9 rfl hl (by decide) rfl (fun ls hl => ?_)
  refine lv_aload_n hx hb dX0_holding_10 rfl (lv_at hl 0 rfl) ?_
  refine va_alen (v := 10) hx hb hK (xV_11 hW 0 (by decide)) 0 0 rfl rfl rfl dX0_holding_11 ?_
  refine lv_istore_n (lv' := [(3, .int 10), (2, .ref (xa E (xwc 0 11))), (1, .int 0), (0, .ref (xa E 0))]) hx hb dX0_holding_12 rfl hl (by decide) rfl (fun ls hl => ?_)
  refine lv_iconst (v := 0) hx hb dX0_holding_13 (by decide) ?_
  refine lv_istore (lv' := [(4, .int 0), (3, .int 10), (2, .ref (xa E (xwc 0 11))), (1, .int 0), (0, .ref (xa E 0))]) hx hb dX0_holding_14 hl (by decide) rfl (fun ls hl => ?_)
  cases g4 : gX0_holding_16 σ 10 xfu 0 0 with
  | none => rw [g4] at h; cases h
  | some q5 =>
    rw [g4, Option.bind_some] at h
    refine lX0_holding_16 F xfu 0 0 q5 g4 _ _ _ hW hS (lv_sub hl [0, 1, 2, 3, 4] rfl) (fun H locs ls hW hS hl => ?_)
    refine lv_iload_n hx hb dX0_holding_48 rfl (lv_at hl 3 rfl) ?_
    have h := Option.some.inj h; subst h
    exact x_iret F hr hlk hW hS dX0_holding_49
/-! WildBells.hold(II)I -/
def fX0_hold (σ : xM) (a1 : Int32) (a2 : Int32) : Option (Int32 × xM) :=
  if (fX0_isSpot a1) = 0 then ((fX0_finding σ 0).bind (fun r3 => some (r3.1, r3.2))) else (if a2 = (-1) then (if xin a1 10 then (some (1, (xup σ 0 (4 + a1.toNatClampNeg) a2))) else none) else (if (fX0_isBell σ a2) = 0 then ((fX0_finding σ 0).bind (fun r9 => some (r9.1, r9.2))) else (if xin a1 10 then (some (1, (xup σ 0 (4 + a1.toNatClampNeg) a2))) else none)))
set_option maxHeartbeats 4000000 in
theorem mX0_hold (l : Launch) (E : xE) (σ : xM) (a1 : Int32) (a2 : Int32) (r : Int32) (σ' : xM) (h : fX0_hold σ a1 a2 = some (r, σ')) : Met l yX0_hold (ws_ yX0_hold cX0_hold 3 (some .int)) ({ frames := 2, cells := 0, slots := 0, locals := 43 } : Room) (xPc E σ [.ref (xa E 0), .int a1, .int a2]) (xQc E (.returned (some (.int r))) σ') 0 0 (xA E) := by
  refine x_of (C := RX0) (n := "hold") (d := "(II)I") (r := (some .int)) (by decide) rfl (by first | decide | exact Nat.le_of_ble_eq_true rfl) ?_
  intro p e s m below meth c ls F hr hlk hW hS hl
  have hl : lv_has ls 3 [(0, .ref (xa E 0)), (1, .int a1), (2, .int a2)] := hl
  obtain ⟨hx, hb, hml, hown, hts⟩ := id F.1
  have hK := F.2.1.1
  unfold fX0_hold at h
  refine lv_iload_n hx hb dX0_hold_0 rfl (lv_at hl 1 rfl) ?_
  refine x_backi (va_runS (As := [.int a1]) (rest := []) F.1 (mX0_isSpot l E σ a1) (va_cwS 1 hts (lw_S q1104 q1105 q99 q1106) rfl rfl rfl (by decide +kernel) ⟨Nat.le_of_ble_eq_true rfl, Nat.le_of_ble_eq_true rfl⟩) ⟨xPc.blind, F.pre hW hS [.int a1]⟩ rfl rfl hl.1 rfl (lv_room (Nat.le_of_ble_eq_true rfl)) dX0_hold_1 ⟨Nat.le_refl _, Nat.le_refl _⟩) hS (fun H locs hW hS => ?_)
  refine lv_if_eq (tgt := 20) hx hb dX0_hold_4 (by decide) (fun c1 => ?_) (fun c1 => ?_)
  · rw [if_pos c1] at h
    refine lv_aload_n hx hb dX0_hold_20 rfl (lv_at hl 0 rfl) ?_
    refine lv_iconst (v := 0) hx hb dX0_hold_21 (by decide) ?_
    cases g2 : fX0_finding σ 0 with
    | none => rw [g2] at h; cases h
    | some r3 =>
      rw [g2, Option.bind_some] at h
      refine x_backi (va_runV (C := RX0) (b := (xa E 0)) (As := [.int 0]) (rest := []) F.1 (mX0_finding l E σ 0 r3.1 r3.2 g2) (cwV 1 hts (lw_V q469 q471 qs2 q99 q472) rfl rfl rfl (by decide +kernel) ⟨Nat.le_of_ble_eq_true rfl, Nat.le_of_ble_eq_true rfl⟩) ⟨xPc.blind, va_recv hK (xO_X hW) (ci := 0) (q0 := 0) rfl rfl, F.pre hW hS (.ref (xa E 0) :: [.int 0])⟩ rfl rfl hl.1 rfl (lv_room (Nat.le_of_ble_eq_true rfl)) dX0_hold_22 ⟨Nat.le_refl _, Nat.le_refl _⟩) hS (fun H locs hW hS => ?_)
      obtain ⟨h1, h2⟩ := Prod.mk.inj (Option.some.inj h); subst h1; subst h2
      exact x_iret F hr hlk hW hS dX0_hold_25
  · rw [if_neg c1] at h
    refine lv_iload_n hx hb dX0_hold_7 rfl (lv_at hl 2 rfl) ?_
    refine lv_iconst (v := (-1)) hx hb dX0_hold_8 (by decide) ?_
    refine lv_icmp_eq (tgt := 26) hx hb dX0_hold_9 (by decide) (fun c4 => ?_) (fun c4 => ?_)
    · rw [if_pos c4] at h
      refine lv_aload_n hx hb dX0_hold_26 rfl (lv_at hl 0 rfl) ?_
      refine va_get (D := xD E) (ci := 0) (v := .ref (xa E (xwc 0 0))) (C := RX0) (T := TX0) (N := 15) hx hb hts in_X0 hown hK (xO_X hW) 0 rfl rfl 3 (by decide) (hts _ q416) (fun _ h9 => h9) rfl dX0_hold_27 ?_
      refine va_getN (D := xD E) (ci := 4) (v := .ref (xa E (xwc 0 11))) (C := RX4) (T := TX4) (N := 8) hx hb hts in_X4 hown hK (xO_W hW 0 (by decide)) 0 rfl rfl 7 (by decide) (va_Nw.use rfl (F.2.1.2.1 _ q250 rfl)) (fun _ h9 => h9) rfl dX0_hold_30 ?_
      refine lv_iload_n hx hb dX0_hold_33 rfl (lv_at hl 1 rfl) ?_
      refine lv_iload_n hx hb dX0_hold_34 rfl (lv_at hl 2 rfl) ?_
      by_cases hi5 : xin a1 10
      · rw [if_pos hi5] at h
        refine x_iast F hW hS (xwc 0 11) 10 0 (fun j => 4 + j) (xw_lt 0 (by decide) 11 (by decide)) (xw_11 0 (by decide)).1 (xw_11 0 (by decide)).2 (by decide) hi5 dX0_hold_35 (fun H locs hW hS => ?_)
        refine lv_iconst (v := 1) hx hb dX0_hold_36 (by decide) ?_
        obtain ⟨h1, h2⟩ := Prod.mk.inj (Option.some.inj h); subst h1; subst h2
        exact x_iret F hr hlk hW hS dX0_hold_37
      · rw [if_neg hi5] at h; cases h
    · rw [if_neg c4] at h
      refine lv_aload_n hx hb dX0_hold_12 rfl (lv_at hl 0 rfl) ?_
      refine lv_iload_n hx hb dX0_hold_13 rfl (lv_at hl 2 rfl) ?_
      refine x_backi (va_runV (C := RX0) (b := (xa E 0)) (As := [.int a2]) (rest := []) F.1 (mX0_isBell l E σ a2) (cwV 1 hts (lw_V q537 q539 qs3 q99 q540) rfl rfl rfl (by decide +kernel) ⟨Nat.le_of_ble_eq_true rfl, Nat.le_of_ble_eq_true rfl⟩) ⟨xPc.blind, va_recv hK (xO_X hW) (ci := 0) (q0 := 0) rfl rfl, F.pre hW hS (.ref (xa E 0) :: [.int a2])⟩ rfl rfl hl.1 rfl (lv_room (Nat.le_of_ble_eq_true rfl)) dX0_hold_14 ⟨Nat.le_refl _, Nat.le_refl _⟩) hS (fun H locs hW hS => ?_)
      refine lv_if_ne (tgt := 26) hx hb dX0_hold_17 (by decide) (fun c6 => ?_) (fun c6 => ?_)
      · rw [if_neg c6] at h
        refine lv_aload_n hx hb dX0_hold_26 rfl (lv_at hl 0 rfl) ?_
        refine va_get (D := xD E) (ci := 0) (v := .ref (xa E (xwc 0 0))) (C := RX0) (T := TX0) (N := 15) hx hb hts in_X0 hown hK (xO_X hW) 0 rfl rfl 3 (by decide) (hts _ q416) (fun _ h9 => h9) rfl dX0_hold_27 ?_
        refine va_getN (D := xD E) (ci := 4) (v := .ref (xa E (xwc 0 11))) (C := RX4) (T := TX4) (N := 8) hx hb hts in_X4 hown hK (xO_W hW 0 (by decide)) 0 rfl rfl 7 (by decide) (va_Nw.use rfl (F.2.1.2.1 _ q250 rfl)) (fun _ h9 => h9) rfl dX0_hold_30 ?_
        refine lv_iload_n hx hb dX0_hold_33 rfl (lv_at hl 1 rfl) ?_
        refine lv_iload_n hx hb dX0_hold_34 rfl (lv_at hl 2 rfl) ?_
        by_cases hi7 : xin a1 10
        · rw [if_pos hi7] at h
          refine x_iast F hW hS (xwc 0 11) 10 0 (fun j => 4 + j) (xw_lt 0 (by decide) 11 (by decide)) (xw_11 0 (by decide)).1 (xw_11 0 (by decide)).2 (by decide) hi7 dX0_hold_35 (fun H locs hW hS => ?_)
          refine lv_iconst (v := 1) hx hb dX0_hold_36 (by decide) ?_
          obtain ⟨h1, h2⟩ := Prod.mk.inj (Option.some.inj h); subst h1; subst h2
          exact x_iret F hr hlk hW hS dX0_hold_37
        · rw [if_neg hi7] at h; cases h
      · rw [if_pos c6] at h
        refine lv_aload_n hx hb dX0_hold_20 rfl (lv_at hl 0 rfl) ?_
        refine lv_iconst (v := 0) hx hb dX0_hold_21 (by decide) ?_
        cases g8 : fX0_finding σ 0 with
        | none => rw [g8] at h; cases h
        | some r9 =>
          rw [g8, Option.bind_some] at h
          refine x_backi (va_runV (C := RX0) (b := (xa E 0)) (As := [.int 0]) (rest := []) F.1 (mX0_finding l E σ 0 r9.1 r9.2 g8) (cwV 1 hts (lw_V q469 q471 qs2 q99 q472) rfl rfl rfl (by decide +kernel) ⟨Nat.le_of_ble_eq_true rfl, Nat.le_of_ble_eq_true rfl⟩) ⟨xPc.blind, va_recv hK (xO_X hW) (ci := 0) (q0 := 0) rfl rfl, F.pre hW hS (.ref (xa E 0) :: [.int 0])⟩ rfl rfl hl.1 rfl (lv_room (Nat.le_of_ble_eq_true rfl)) dX0_hold_22 ⟨Nat.le_refl _, Nat.le_refl _⟩) hS (fun H locs hW hS => ?_)
          obtain ⟨h1, h2⟩ := Prod.mk.inj (Option.some.inj h); subst h1; subst h2
          exact x_iret F hr hlk hW hS dX0_hold_25
/-! WildBells.image()I -/
def fX0_image (σ : xM) : Option (Int32 × xM) :=
  (fX4_become σ 1 0).bind (fun r2 => some (1, (xup r2 6 1 1)))
set_option maxHeartbeats 4000000 in
theorem mX0_image (l : Launch) (E : xE) (σ : xM) (r : Int32) (σ' : xM) (h : fX0_image σ = some (r, σ')) : Met l yX0_image (ws_ yX0_image cX0_image 1 (some .int)) ({ frames := 4, cells := 0, slots := 0, locals := 104 } : Room) (xPc E σ [.ref (xa E 0)]) (xQc E (.returned (some (.int r))) σ') 0 0 (xA E) := by
  refine x_of (C := RX0) (n := "image") (d := "()I") (r := (some .int)) (by decide) rfl (by first | decide | exact Nat.le_of_ble_eq_true rfl) ?_
  intro p e s m below meth c ls F hr hlk hW hS hl
  have hl : lv_has ls 1 [(0, .ref (xa E 0))] := hl
  obtain ⟨hx, hb, hml, hown, hts⟩ := id F.1
  have hK := F.2.1.1
  unfold fX0_image at h
  refine lv_aload_n hx hb dX0_image_0 rfl (lv_at hl 0 rfl) ?_
  refine va_get (D := xD E) (ci := 0) (v := .ref (xa E (xwc 1 0))) (C := RX0) (T := TX0) (N := 15) hx hb hts in_X0 hown hK (xO_X hW) 0 rfl rfl 4 (by decide) (hts _ q417) (fun _ h9 => h9) rfl dX0_image_1 ?_
  refine lv_aload_n hx hb dX0_image_4 rfl (lv_at hl 0 rfl) ?_
  refine va_get (D := xD E) (ci := 0) (v := .ref (xa E (xwc 0 0))) (C := RX0) (T := TX0) (N := 15) hx hb hts in_X0 hown hK (xO_X hW) 0 rfl rfl 3 (by decide) (hts _ q416) (fun _ h9 => h9) rfl dX0_image_5 ?_
  cases g1 : fX4_become σ 1 0 with
  | none => rw [g1] at h; cases h
  | some r2 =>
    rw [g1, Option.bind_some] at h
    refine x_backv (va_runV (C := RX4) (b := (xa E (xwc 1 0))) (As := [.ref (xa E (xwc 0 0))]) (rest := []) F.1 (mX4_become l E σ 1 (by decide) 0 (by decide) (by decide) r2 g1) (cwV 1 hts (lw_V q751 q752 q753 q106 q754) rfl rfl rfl (by decide +kernel) ⟨Nat.le_of_ble_eq_true rfl, Nat.le_of_ble_eq_true rfl⟩) ⟨xPc.blind, va_recv hK (xO_W hW 1 (by decide)) (ci := 4) (q0 := 0) rfl rfl, F.pre hW hS (.ref (xa E (xwc 1 0)) :: [.ref (xa E (xwc 0 0))])⟩ rfl rfl hl.1 rfl (lv_room (Nat.le_of_ble_eq_true rfl)) dX0_image_8 ⟨Nat.le_refl _, Nat.le_refl _⟩) hS (fun H locs hW hS => ?_)
    refine lv_aload_n hx hb dX0_image_11 rfl (lv_at hl 0 rfl) ?_
    refine lv_iconst (v := 1) hx hb dX0_image_12 (by decide) ?_
    refine x_put (C := RX0) (T := TX0) (N := 15) (ci := 0) (ty := .boolean) F hW hS in_X0 tyX0 tyX0_ok nmX0 rfl 0 6 6 1 (by decide) rfl (by decide) rfl (by decide) (hts _ q419) (fun _ h9 => h9) rfl (by decide +kernel) rfl rfl dX0_image_13 (fun H locs hW hS => ?_)
    refine lv_iconst (v := 1) hx hb dX0_image_16 (by decide) ?_
    obtain ⟨h1, h2⟩ := Prod.mk.inj (Option.some.inj h); subst h1; subst h2
    exact x_iret F hr hlk hW hS dX0_image_17
/-! WildBells.undo()I -/
def fX0_undo (σ : xM) : Option (Int32 × xM) :=
  if (σ 6 1) = 0 then ((fX0_finding σ 3).bind (fun r5 => some (r5.1, r5.2))) else ((fX4_become σ 0 1).bind (fun r3 => some ((r3 0 0), r3)))
set_option maxHeartbeats 4000000 in
theorem mX0_undo (l : Launch) (E : xE) (σ : xM) (r : Int32) (σ' : xM) (h : fX0_undo σ = some (r, σ')) : Met l yX0_undo (ws_ yX0_undo cX0_undo 1 (some .int)) ({ frames := 4, cells := 0, slots := 0, locals := 104 } : Room) (xPc E σ [.ref (xa E 0)]) (xQc E (.returned (some (.int r))) σ') 0 0 (xA E) := by
  refine x_of (C := RX0) (n := "undo") (d := "()I") (r := (some .int)) (by decide) rfl (by first | decide | exact Nat.le_of_ble_eq_true rfl) ?_
  intro p e s m below meth c ls F hr hlk hW hS hl
  have hl : lv_has ls 1 [(0, .ref (xa E 0))] := hl
  obtain ⟨hx, hb, hml, hown, hts⟩ := id F.1
  have hK := F.2.1.1
  unfold fX0_undo at h
  refine lv_aload_n hx hb dX0_undo_0 rfl (lv_at hl 0 rfl) ?_
  refine va_get (D := xD E) (ci := 0) (v := .int (σ 6 1)) (C := RX0) (T := TX0) (N := 15) hx hb hts in_X0 hown hK (xO_X hW) 0 rfl rfl 6 (by decide) (hts _ q419) (fun _ h9 => h9) rfl dX0_undo_1 ?_
  refine lv_if_ne (tgt := 13) hx hb dX0_undo_4 (by decide) (fun c1 => ?_) (fun c1 => ?_)
  · rw [if_neg c1] at h
    refine lv_aload_n hx hb dX0_undo_13 rfl (lv_at hl 0 rfl) ?_
    refine va_get (D := xD E) (ci := 0) (v := .ref (xa E (xwc 0 0))) (C := RX0) (T := TX0) (N := 15) hx hb hts in_X0 hown hK (xO_X hW) 0 rfl rfl 3 (by decide) (hts _ q416) (fun _ h9 => h9) rfl dX0_undo_14 ?_
    refine lv_aload_n hx hb dX0_undo_17 rfl (lv_at hl 0 rfl) ?_
    refine va_get (D := xD E) (ci := 0) (v := .ref (xa E (xwc 1 0))) (C := RX0) (T := TX0) (N := 15) hx hb hts in_X0 hown hK (xO_X hW) 0 rfl rfl 4 (by decide) (hts _ q417) (fun _ h9 => h9) rfl dX0_undo_18 ?_
    cases g2 : fX4_become σ 0 1 with
    | none => rw [g2] at h; cases h
    | some r3 =>
      rw [g2, Option.bind_some] at h
      refine x_backv (va_runV (C := RX4) (b := (xa E (xwc 0 0))) (As := [.ref (xa E (xwc 1 0))]) (rest := []) F.1 (mX4_become l E σ 0 (by decide) 1 (by decide) (by decide) r3 g2) (cwV 1 hts (lw_V q751 q752 q753 q106 q754) rfl rfl rfl (by decide +kernel) ⟨Nat.le_of_ble_eq_true rfl, Nat.le_of_ble_eq_true rfl⟩) ⟨xPc.blind, va_recv hK (xO_W hW 0 (by decide)) (ci := 4) (q0 := 0) rfl rfl, F.pre hW hS (.ref (xa E (xwc 0 0)) :: [.ref (xa E (xwc 1 0))])⟩ rfl rfl hl.1 rfl (lv_room (Nat.le_of_ble_eq_true rfl)) dX0_undo_21 ⟨Nat.le_refl _, Nat.le_refl _⟩) hS (fun H locs hW hS => ?_)
      refine lv_aload_n hx hb dX0_undo_24 rfl (lv_at hl 0 rfl) ?_
      refine va_get (D := xD E) (ci := 0) (v := .ref (xa E (xwc 0 0))) (C := RX0) (T := TX0) (N := 15) hx hb hts in_X0 hown hK (xO_X hW) 0 rfl rfl 3 (by decide) (hts _ q416) (fun _ h9 => h9) rfl dX0_undo_25 ?_
      refine va_getN (D := xD E) (ci := 4) (v := .int (r3 0 0)) (C := RX4) (T := TX4) (N := 8) hx hb hts in_X4 hown hK (xO_W hW 0 (by decide)) 0 rfl rfl 5 (by decide) (va_Nw.use rfl (F.2.1.2.1 _ q246 rfl)) (fun _ h9 => h9) rfl dX0_undo_28 ?_
      obtain ⟨h1, h2⟩ := Prod.mk.inj (Option.some.inj h); subst h1; subst h2
      exact x_iret F hr hlk hW hS dX0_undo_31
  · rw [if_pos c1] at h
    refine lv_aload_n hx hb dX0_undo_7 rfl (lv_at hl 0 rfl) ?_
    refine lv_iconst (v := 3) hx hb dX0_undo_8 (by decide) ?_
    cases g4 : fX0_finding σ 3 with
    | none => rw [g4] at h; cases h
    | some r5 =>
      rw [g4, Option.bind_some] at h
      refine x_backi (va_runV (C := RX0) (b := (xa E 0)) (As := [.int 3]) (rest := []) F.1 (mX0_finding l E σ 3 r5.1 r5.2 g4) (cwV 1 hts (lw_V q469 q471 qs2 q99 q472) rfl rfl rfl (by decide +kernel) ⟨Nat.le_of_ble_eq_true rfl, Nat.le_of_ble_eq_true rfl⟩) ⟨xPc.blind, va_recv hK (xO_X hW) (ci := 0) (q0 := 0) rfl rfl, F.pre hW hS (.ref (xa E 0) :: [.int 3])⟩ rfl rfl hl.1 rfl (lv_room (Nat.le_of_ble_eq_true rfl)) dX0_undo_9 ⟨Nat.le_refl _, Nat.le_refl _⟩) hS (fun H locs hW hS => ?_)
      obtain ⟨h1, h2⟩ := Prod.mk.inj (Option.some.inj h); subst h1; subst h2
      exact x_iret F hr hlk hW hS dX0_undo_12
/-! WildBells.tear()I -/
def fX0_tear (σ : xM) : Option (Int32 × xM) :=
  if (σ 6 1) = 0 then (some (0, (xup σ 6 1 0))) else (some (1, (xup σ 6 1 0)))
set_option maxHeartbeats 4000000 in
theorem mX0_tear (l : Launch) (E : xE) (σ : xM) (r : Int32) (σ' : xM) (h : fX0_tear σ = some (r, σ')) : Met l yX0_tear (ws_ yX0_tear cX0_tear 2 (some .int)) ({ frames := 0, cells := 0, slots := 0, locals := 0 } : Room) (xPc E σ [.ref (xa E 0)]) (xQc E (.returned (some (.int r))) σ') 0 0 (xA E) := by
  refine x_of (C := RX0) (n := "tear") (d := "()I") (r := (some .int)) (by decide) rfl (by first | decide | exact Nat.le_of_ble_eq_true rfl) ?_
  intro p e s m below meth c ls F hr hlk hW hS hl
  have hl : lv_has ls 2 [(0, .ref (xa E 0))] := hl
  obtain ⟨hx, hb, hml, hown, hts⟩ := id F.1
  have hK := F.2.1.1
  unfold fX0_tear at h
  refine lv_aload_n hx hb dX0_tear_0 rfl (lv_at hl 0 rfl) ?_
  refine va_get (D := xD E) (ci := 0) (v := .int (σ 6 1)) (C := RX0) (T := TX0) (N := 15) hx hb hts in_X0 hown hK (xO_X hW) 0 rfl rfl 6 (by decide) (hts _ q419) (fun _ h9 => h9) rfl dX0_tear_1 ?_
  refine lv_if_eq (tgt := 11) hx hb dX0_tear_4 (by decide) (fun c1 => ?_) (fun c1 => ?_)
  · rw [if_pos c1] at h
    refine lv_iconst (v := 0) hx hb dX0_tear_11 (by decide) ?_
    refine lv_istore_n (lv' := [(1, .int 0), (0, .ref (xa E 0))]) hx hb dX0_tear_12 rfl hl (by decide) rfl (fun ls hl => ?_)
    refine lv_aload_n hx hb dX0_tear_13 rfl (lv_at hl 1 rfl) ?_
    refine lv_iconst (v := 0) hx hb dX0_tear_14 (by decide) ?_
    refine x_put (C := RX0) (T := TX0) (N := 15) (ci := 0) (ty := .boolean) F hW hS in_X0 tyX0 tyX0_ok nmX0 rfl 0 6 6 1 (by decide) rfl (by decide) rfl (by decide) (hts _ q419) (fun _ h9 => h9) rfl (by decide +kernel) rfl rfl dX0_tear_15 (fun H locs hW hS => ?_)
    refine lv_iload_n hx hb dX0_tear_18 rfl (lv_at hl 0 rfl) ?_
    obtain ⟨h1, h2⟩ := Prod.mk.inj (Option.some.inj h); subst h1; subst h2
    exact x_iret F hr hlk hW hS dX0_tear_19
  · rw [if_neg c1] at h
    refine lv_iconst (v := 1) hx hb dX0_tear_7 (by decide) ?_
    refine lv_goto (tgt := 12) hx hb dX0_tear_8 (by decide) ?_
    refine lv_istore_n (lv' := [(1, .int 1), (0, .ref (xa E 0))]) hx hb dX0_tear_12 rfl hl (by decide) rfl (fun ls hl => ?_)
    refine lv_aload_n hx hb dX0_tear_13 rfl (lv_at hl 1 rfl) ?_
    refine lv_iconst (v := 0) hx hb dX0_tear_14 (by decide) ?_
    refine x_put (C := RX0) (T := TX0) (N := 15) (ci := 0) (ty := .boolean) F hW hS in_X0 tyX0 tyX0_ok nmX0 rfl 0 6 6 1 (by decide) rfl (by decide) rfl (by decide) (hts _ q419) (fun _ h9 => h9) rfl (by decide +kernel) rfl rfl dX0_tear_15 (fun H locs hW hS => ?_)
    refine lv_iload_n hx hb dX0_tear_18 rfl (lv_at hl 0 rfl) ?_
    obtain ⟨h1, h2⟩ := Prod.mk.inj (Option.some.inj h); subst h1; subst h2
    exact x_iret F hr hlk hW hS dX0_tear_19
/-! WildBells.count(I)I -/
def fX0_count (σ : xM) (a1 : Int32) : Option (Int32 × xM) :=
  (if a1 = 0 then (some ((σ 0 0), σ)) else (if a1 = 1 then (some ((σ 0 2), σ)) else (if a1 = 2 then ((fX4_whoIsCaught σ 0).bind (fun r5 => some ((fX0_ones r5), σ))) else (if a1 = 3 then ((fX4_nets σ 0).bind (fun r8 => some (r8, σ))) else (if a1 = 4 then ((fX4_weights σ 0 1).bind (fun r11 => some (r11, σ))) else (if a1 = 5 then (some ((σ 6 0), σ)) else (if a1 = 6 then (some ((σ 0 3), σ)) else (if a1 = 7 then ((fX0_holding σ).bind (fun r16 => some (r16, σ))) else ((fX0_finding σ 0).bind (fun r18 => some (r18.1, r18.2)))))))))))
set_option maxHeartbeats 4000000 in
theorem mX0_count (l : Launch) (E : xE) (σ : xM) (a1 : Int32) (r : Int32) (σ' : xM) (h : fX0_count σ a1 = some (r, σ')) : Met l yX0_count (ws_ yX0_count cX0_count 2 (some .int)) ({ frames := 2, cells := 0, slots := 0, locals := 44 } : Room) (xPc E σ [.ref (xa E 0), .int a1]) (xQc E (.returned (some (.int r))) σ') 0 0 (xA E) := by
  refine x_of (C := RX0) (n := "count") (d := "(I)I") (r := (some .int)) (by decide) rfl (by first | decide | exact Nat.le_of_ble_eq_true rfl) ?_
  intro p e s m below meth c ls F hr hlk hW hS hl
  have hl : lv_has ls 2 [(0, .ref (xa E 0)), (1, .int a1)] := hl
  obtain ⟨hx, hb, hml, hown, hts⟩ := id F.1
  have hK := F.2.1.1
  unfold fX0_count at h
  refine lv_iload_n hx hb dX0_count_0 rfl (lv_at hl 1 rfl) ?_
  by_cases c1 : a1 = 0
  · rw [if_pos c1] at h
    refine lv_tableIn (tgt := 48) hx hb dX0_count_1 (by rw [c1]; decide) (by rw [c1]; decide) (by rw [c1]; rfl) (by decide) ?_
    refine lv_aload_n hx hb dX0_count_48 rfl (lv_at hl 0 rfl) ?_
    refine va_get (D := xD E) (ci := 0) (v := .ref (xa E (xwc 0 0))) (C := RX0) (T := TX0) (N := 15) hx hb hts in_X0 hown hK (xO_X hW) 0 rfl rfl 3 (by decide) (hts _ q416) (fun _ h9 => h9) rfl dX0_count_49 ?_
    refine va_getN (D := xD E) (ci := 4) (v := .int (σ 0 0)) (C := RX4) (T := TX4) (N := 8) hx hb hts in_X4 hown hK (xO_W hW 0 (by decide)) 0 rfl rfl 5 (by decide) (va_Nw.use rfl (F.2.1.2.1 _ q246 rfl)) (fun _ h9 => h9) rfl dX0_count_52 ?_
    obtain ⟨h1, h2⟩ := Prod.mk.inj (Option.some.inj h); subst h1; subst h2
    exact x_iret F hr hlk hW hS dX0_count_55
  · rw [if_neg c1] at h
    by_cases c2 : a1 = 1
    · rw [if_pos c2] at h
      refine lv_tableIn (tgt := 56) hx hb dX0_count_1 (by rw [c2]; decide) (by rw [c2]; decide) (by rw [c2]; rfl) (by decide) ?_
      refine lv_aload_n hx hb dX0_count_56 rfl (lv_at hl 0 rfl) ?_
      refine va_get (D := xD E) (ci := 0) (v := .ref (xa E (xwc 0 0))) (C := RX0) (T := TX0) (N := 15) hx hb hts in_X0 hown hK (xO_X hW) 0 rfl rfl 3 (by decide) (hts _ q416) (fun _ h9 => h9) rfl dX0_count_57 ?_
      refine va_getN (D := xD E) (ci := 4) (v := .int (σ 0 2)) (C := RX4) (T := TX4) (N := 8) hx hb hts in_X4 hown hK (xO_W hW 0 (by decide)) 0 rfl rfl 3 (by decide) (va_Nw.use rfl (F.2.1.2.1 _ q241 rfl)) (fun _ h9 => h9) rfl dX0_count_60 ?_
      obtain ⟨h1, h2⟩ := Prod.mk.inj (Option.some.inj h); subst h1; subst h2
      exact x_iret F hr hlk hW hS dX0_count_63
    · rw [if_neg c2] at h
      by_cases c3 : a1 = 2
      · rw [if_pos c3] at h
        refine lv_tableIn (tgt := 64) hx hb dX0_count_1 (by rw [c3]; decide) (by rw [c3]; decide) (by rw [c3]; rfl) (by decide) ?_
        refine lv_aload_n hx hb dX0_count_64 rfl (lv_at hl 0 rfl) ?_
        refine va_get (D := xD E) (ci := 0) (v := .ref (xa E (xwc 0 0))) (C := RX0) (T := TX0) (N := 15) hx hb hts in_X0 hown hK (xO_X hW) 0 rfl rfl 3 (by decide) (hts _ q416) (fun _ h9 => h9) rfl dX0_count_65 ?_
        cases g4 : fX4_whoIsCaught σ 0 with
        | none => rw [g4] at h; cases h
        | some r5 =>
          rw [g4, Option.bind_some] at h
          refine x_backi (va_runV (C := RX4) (b := (xa E (xwc 0 0))) (As := []) (rest := []) F.1 (mX4_whoIsCaught l E σ 0 (by decide) r5 g4) (cwV 0 hts (lw_V q717 q718 q719 q106 q720) rfl rfl rfl (by decide +kernel) ⟨Nat.le_of_ble_eq_true rfl, Nat.le_of_ble_eq_true rfl⟩) ⟨xPc.blind, va_recv hK (xO_W hW 0 (by decide)) (ci := 4) (q0 := 0) rfl rfl, F.pre hW hS (.ref (xa E (xwc 0 0)) :: [])⟩ rfl rfl hl.1 rfl (lv_room (Nat.le_of_ble_eq_true rfl)) dX0_count_68 ⟨Nat.le_refl _, Nat.le_refl _⟩) hS (fun H locs hW hS => ?_)
          refine x_backi (va_runS (As := [.int r5]) (rest := []) F.1 (mX0_ones l E σ r5) (va_cwS 1 hts (lw_S q721 q722 q99 q723) rfl rfl rfl (by decide +kernel) ⟨Nat.le_of_ble_eq_true rfl, Nat.le_of_ble_eq_true rfl⟩) ⟨xPc.blind, F.pre hW hS [.int r5]⟩ rfl rfl hl.1 rfl (lv_room (Nat.le_of_ble_eq_true rfl)) dX0_count_71 ⟨Nat.le_refl _, Nat.le_refl _⟩) hS (fun H locs hW hS => ?_)
          obtain ⟨h1, h2⟩ := Prod.mk.inj (Option.some.inj h); subst h1; subst h2
          exact x_iret F hr hlk hW hS dX0_count_74
      · rw [if_neg c3] at h
        by_cases c6 : a1 = 3
        · rw [if_pos c6] at h
          refine lv_tableIn (tgt := 75) hx hb dX0_count_1 (by rw [c6]; decide) (by rw [c6]; decide) (by rw [c6]; rfl) (by decide) ?_
          refine lv_aload_n hx hb dX0_count_75 rfl (lv_at hl 0 rfl) ?_
          refine va_get (D := xD E) (ci := 0) (v := .ref (xa E (xwc 0 0))) (C := RX0) (T := TX0) (N := 15) hx hb hts in_X0 hown hK (xO_X hW) 0 rfl rfl 3 (by decide) (hts _ q416) (fun _ h9 => h9) rfl dX0_count_76 ?_
          cases g7 : fX4_nets σ 0 with
          | none => rw [g7] at h; cases h
          | some r8 =>
            rw [g7, Option.bind_some] at h
            refine x_backi (va_runV (C := RX4) (b := (xa E (xwc 0 0))) (As := []) (rest := []) F.1 (mX4_nets l E σ 0 (by decide) r8 g7) (cwV 0 hts (lw_V q734 q735 q736 q106 q737) rfl rfl rfl (by decide +kernel) ⟨Nat.le_of_ble_eq_true rfl, Nat.le_of_ble_eq_true rfl⟩) ⟨xPc.blind, va_recv hK (xO_W hW 0 (by decide)) (ci := 4) (q0 := 0) rfl rfl, F.pre hW hS (.ref (xa E (xwc 0 0)) :: [])⟩ rfl rfl hl.1 rfl (lv_room (Nat.le_of_ble_eq_true rfl)) dX0_count_79 ⟨Nat.le_refl _, Nat.le_refl _⟩) hS (fun H locs hW hS => ?_)
            obtain ⟨h1, h2⟩ := Prod.mk.inj (Option.some.inj h); subst h1; subst h2
            exact x_iret F hr hlk hW hS dX0_count_82
        · rw [if_neg c6] at h
          by_cases c9 : a1 = 4
          · rw [if_pos c9] at h
            refine lv_tableIn (tgt := 83) hx hb dX0_count_1 (by rw [c9]; decide) (by rw [c9]; decide) (by rw [c9]; rfl) (by decide) ?_
            refine lv_aload_n hx hb dX0_count_83 rfl (lv_at hl 0 rfl) ?_
            refine va_get (D := xD E) (ci := 0) (v := .ref (xa E (xwc 0 0))) (C := RX0) (T := TX0) (N := 15) hx hb hts in_X0 hown hK (xO_X hW) 0 rfl rfl 3 (by decide) (hts _ q416) (fun _ h9 => h9) rfl dX0_count_84 ?_
            refine lv_iconst (v := 1) hx hb dX0_count_87 (by decide) ?_
            cases g10 : fX4_weights σ 0 1 with
            | none => rw [g10] at h; cases h
            | some r11 =>
              rw [g10, Option.bind_some] at h
              refine x_backi (va_runV (C := RX4) (b := (xa E (xwc 0 0))) (As := [.int 1]) (rest := []) F.1 (mX4_weights l E σ 0 (by decide) 1 r11 g10) (cwV 1 hts (lw_V q738 q739 q740 q106 q741) rfl rfl rfl (by decide +kernel) ⟨Nat.le_of_ble_eq_true rfl, Nat.le_of_ble_eq_true rfl⟩) ⟨xPc.blind, va_recv hK (xO_W hW 0 (by decide)) (ci := 4) (q0 := 0) rfl rfl, F.pre hW hS (.ref (xa E (xwc 0 0)) :: [.int 1])⟩ rfl rfl hl.1 rfl (lv_room (Nat.le_of_ble_eq_true rfl)) dX0_count_88 ⟨Nat.le_refl _, Nat.le_refl _⟩) hS (fun H locs hW hS => ?_)
              obtain ⟨h1, h2⟩ := Prod.mk.inj (Option.some.inj h); subst h1; subst h2
              exact x_iret F hr hlk hW hS dX0_count_91
          · rw [if_neg c9] at h
            by_cases c12 : a1 = 5
            · rw [if_pos c12] at h
              refine lv_tableIn (tgt := 92) hx hb dX0_count_1 (by rw [c12]; decide) (by rw [c12]; decide) (by rw [c12]; rfl) (by decide) ?_
              refine lv_aload_n hx hb dX0_count_92 rfl (lv_at hl 0 rfl) ?_
              refine va_get (D := xD E) (ci := 0) (v := .int (σ 6 0)) (C := RX0) (T := TX0) (N := 15) hx hb hts in_X0 hown hK (xO_X hW) 0 rfl rfl 2 (by decide) (hts _ q413) (fun _ h9 => h9) rfl dX0_count_93 ?_
              obtain ⟨h1, h2⟩ := Prod.mk.inj (Option.some.inj h); subst h1; subst h2
              exact x_iret F hr hlk hW hS dX0_count_96
            · rw [if_neg c12] at h
              by_cases c13 : a1 = 6
              · rw [if_pos c13] at h
                refine lv_tableIn (tgt := 97) hx hb dX0_count_1 (by rw [c13]; decide) (by rw [c13]; decide) (by rw [c13]; rfl) (by decide) ?_
                refine lv_aload_n hx hb dX0_count_97 rfl (lv_at hl 0 rfl) ?_
                refine va_get (D := xD E) (ci := 0) (v := .ref (xa E (xwc 0 0))) (C := RX0) (T := TX0) (N := 15) hx hb hts in_X0 hown hK (xO_X hW) 0 rfl rfl 3 (by decide) (hts _ q416) (fun _ h9 => h9) rfl dX0_count_98 ?_
                refine va_getN (D := xD E) (ci := 4) (v := .int (σ 0 3)) (C := RX4) (T := TX4) (N := 8) hx hb hts in_X4 hown hK (xO_W hW 0 (by decide)) 0 rfl rfl 6 (by decide) (va_Nw.use rfl (F.2.1.2.1 _ q248 rfl)) (fun _ h9 => h9) rfl dX0_count_101 ?_
                obtain ⟨h1, h2⟩ := Prod.mk.inj (Option.some.inj h); subst h1; subst h2
                exact x_iret F hr hlk hW hS dX0_count_104
              · rw [if_neg c13] at h
                by_cases c14 : a1 = 7
                · rw [if_pos c14] at h
                  refine lv_tableIn (tgt := 105) hx hb dX0_count_1 (by rw [c14]; decide) (by rw [c14]; decide) (by rw [c14]; rfl) (by decide) ?_
                  refine lv_aload_n hx hb dX0_count_105 rfl (lv_at hl 0 rfl) ?_
                  cases g15 : fX0_holding σ with
                  | none => rw [g15] at h; cases h
                  | some r16 =>
                    rw [g15, Option.bind_some] at h
                    refine x_backi (va_runV (C := RX0) (b := (xa E 0)) (As := []) (rest := []) F.1 (mX0_holding l E σ r16 g15) (cwV 0 hts (lw_V q1173 q1175 qs51 q99 q1176) rfl rfl rfl (by decide +kernel) ⟨Nat.le_of_ble_eq_true rfl, Nat.le_of_ble_eq_true rfl⟩) ⟨xPc.blind, va_recv hK (xO_X hW) (ci := 0) (q0 := 0) rfl rfl, F.pre hW hS (.ref (xa E 0) :: [])⟩ rfl rfl hl.1 rfl (lv_room (Nat.le_of_ble_eq_true rfl)) dX0_count_106 ⟨Nat.le_refl _, Nat.le_refl _⟩) hS (fun H locs hW hS => ?_)
                    obtain ⟨h1, h2⟩ := Prod.mk.inj (Option.some.inj h); subst h1; subst h2
                    exact x_iret F hr hlk hW hS dX0_count_109
                · rw [if_neg c14] at h
                  refine lv_tableOut (tgt := 110) hx hb dX0_count_1 (by have := lv_neT (a := 0) c1 rfl; have := lv_neT (a := 1) c2 rfl; have := lv_neT (a := 2) c3 rfl; have := lv_neT (a := 3) c6 rfl; have := lv_neT (a := 4) c9 rfl; have := lv_neT (a := 5) c12 rfl; have := lv_neT (a := 6) c13 rfl; have := lv_neT (a := 7) c14 rfl; omega) (by decide) ?_
                  refine lv_aload_n hx hb dX0_count_110 rfl (lv_at hl 0 rfl) ?_
                  refine lv_iconst (v := 0) hx hb dX0_count_111 (by decide) ?_
                  cases g17 : fX0_finding σ 0 with
                  | none => rw [g17] at h; cases h
                  | some r18 =>
                    rw [g17, Option.bind_some] at h
                    refine x_backi (va_runV (C := RX0) (b := (xa E 0)) (As := [.int 0]) (rest := []) F.1 (mX0_finding l E σ 0 r18.1 r18.2 g17) (cwV 1 hts (lw_V q469 q471 qs2 q99 q472) rfl rfl rfl (by decide +kernel) ⟨Nat.le_of_ble_eq_true rfl, Nat.le_of_ble_eq_true rfl⟩) ⟨xPc.blind, va_recv hK (xO_X hW) (ci := 0) (q0 := 0) rfl rfl, F.pre hW hS (.ref (xa E 0) :: [.int 0])⟩ rfl rfl hl.1 rfl (lv_room (Nat.le_of_ble_eq_true rfl)) dX0_count_112 ⟨Nat.le_refl _, Nat.le_refl _⟩) hS (fun H locs hW hS => ?_)
                    obtain ⟨h1, h2⟩ := Prod.mk.inj (Option.some.inj h); subst h1; subst h2
                    exact x_iret F hr hlk hW hS dX0_count_115
/-! WildBells.status(I)I -/
def gX0_status_20 (σ : xM) (b1 : Int32) : Nat → Int32 → Int32 → Option (Int32 × Int32)
  | 0, _, _ => none
  | n + 1, x2, x3 => if 7 ≤ x3 then (some (x2, x3)) else (if b1 = (-1) then (if xin x3 7 then (gX0_status_20 σ b1 n (x2 + (σ 7 (x3.toNatClampNeg))) (x3 + 1)) else none) else (if b1 = x3 then (if xin x3 7 then (gX0_status_20 σ b1 n (x2 + (σ 7 (x3.toNatClampNeg))) (x3 + 1)) else none) else (gX0_status_20 σ b1 n (x2 + 0) (x3 + 1))))
def fX0_status (σ : xM) (a1 : Int32) : Option (Int32 × xM) :=
  if (fX0_in a1 (-1) 6) = 0 then ((fX0_finding σ 0).bind (fun r10 => some (r10.1, r10.2))) else ((gX0_status_20 σ a1 xfu 0 0).bind (fun q8 => some (q8.1, σ)))
set_option maxHeartbeats 4000000 in
theorem lX0_status_20 {p : Program} {l : Launch} {e : Env} {s : State} {m : MethodId} {av : Array Value} {below : List Frame} {meth : Method} {c : Code} {Q : State → Prop} {E : xE} {σ : xM} {b1 : Int32} (F : xFx p m c cX0_status 4 s av RX0 E) : ∀ (n : Nat) (x2 : Int32) (x3 : Int32) (q : (Int32 × Int32)), gX0_status_20 σ b1 n x2 x3 = some q → ∀ (H : Heap) (locs : List Loc) (ls : Array Slot), xW E σ H → va_S (xA E) s.heap H locs → lv_has ls 4 [(3, .int x3), (2, .int x2), (0, .ref (xa E 0)), (1, .int b1)] → (∀ (H : Heap) (locs : List Loc) (ls : Array Slot), xW E σ H → va_S (xA E) s.heap H locs → lv_has ls 4 [(3, .int q.2), (2, .int q.1), (0, .ref (xa E 0)), (1, .int b1)] → W p l e ({ frames := 1, cells := 0, slots := 0, locals := 22 } : Room) s m av below meth c H locs 0 0 Q (F0 m 58 ls [])) → W p l e ({ frames := 1, cells := 0, slots := 0, locals := 22 } : Room) s m av below meth c H locs 0 0 Q (F0 m 20 ls []) := by
  obtain ⟨hx, hb, hml, hown, hts⟩ := id F.1
  have hK := F.2.1.1
  intro n
  induction n with
  | zero =>
    intro x2 x3 q h
    cases h
  | succ n ih =>
    intro x2 x3 q h H locs ls hW hS hl kk
    rw [gX0_status_20] at h
    refine lv_iload_n hx hb dX0_status_20 rfl (lv_at hl 0 rfl) ?_
    refine lv_aload_n hx hb dX0_status_21 rfl (lv_at hl 2 rfl) ?_
    refine va_get (D := xD E) (ci := 0) (v := .ref (xa E 56)) (C := RX0) (T := TX0) (N := 15) hx hb hts in_X0 hown hK (xO_X hW) 0 rfl rfl 10 (by decide) (hts _ q423) (fun _ h9 => h9) rfl dX0_status_22 ?_
    refine va_alen (v := 7) hx hb hK (xV_p hW xp_56) 0 0 rfl rfl rfl dX0_status_25 ?_
    refine lv_icmp_ge (tgt := 58) hx hb dX0_status_26 (by decide) (fun c2 => ?_) (fun c2 => ?_)
    · rw [if_pos c2] at h
      have h := Option.some.inj h; subst h
      exact kk _ _ _ hW hS (lv_sub hl [0, 1, 2, 3] rfl)
    · rw [if_neg c2] at h
      refine lv_iload_n hx hb dX0_status_29 rfl (lv_at hl 1 rfl) ?_
      refine lv_iload_n hx hb dX0_status_30 rfl (lv_at hl 3 rfl) ?_
      refine lv_iconst (v := (-1)) hx hb dX0_status_31 (by decide) ?_
      refine lv_icmp_eq (tgt := 40) hx hb dX0_status_32 (by decide) (fun c3 => ?_) (fun c3 => ?_)
      · rw [if_pos c3] at h
        refine lv_aload_n hx hb dX0_status_40 rfl (lv_at hl 2 rfl) ?_
        refine va_get (D := xD E) (ci := 0) (v := .ref (xa E 56)) (C := RX0) (T := TX0) (N := 15) hx hb hts in_X0 hown hK (xO_X hW) 0 rfl rfl 10 (by decide) (hts _ q423) (fun _ h9 => h9) rfl dX0_status_41 ?_
        refine lv_iload_n hx hb dX0_status_44 rfl (lv_at hl 0 rfl) ?_
        by_cases hi4 : xin x3 7
        · rw [if_pos hi4] at h
          refine va_iald hx hb hK (xV_p hW xp_56) 0 0 rfl rfl hi4 dX0_status_45 ?_
          refine lv_goto (tgt := 50) hx hb dX0_status_46 (by decide) ?_
          refine lv_iadd hx hb dX0_status_50 ?_
          refine lv_istore_n (lv' := [(2, .int (x2 + (σ 7 (x3.toNatClampNeg)))), (3, .int x3), (0, .ref (xa E 0)), (1, .int b1)]) hx hb dX0_status_51 rfl hl (by decide) rfl (fun ls hl => ?_)
          refine lv_iinc (k := 1) (v := (x3 + 1)) (lv' := [(3, .int (x3 + 1)), (2, .int (x2 + (σ 7 (x3.toNatClampNeg)))), (0, .ref (xa E 0)), (1, .int b1)]) hx hb dX0_status_52 hl rfl rfl (by decide) rfl (fun ls hl => ?_)
          refine lv_goto (tgt := 20) hx hb dX0_status_55 (by decide) ?_
          exact ih (x2 + (σ 7 (x3.toNatClampNeg))) (x3 + 1) _ h _ _ _ hW hS (lv_sub hl [0, 1, 2, 3] rfl) kk
        · rw [if_neg hi4] at h; cases h
      · rw [if_neg c3] at h
        refine lv_iload_n hx hb dX0_status_35 rfl (lv_at hl 3 rfl) ?_
        refine lv_iload_n hx hb dX0_status_36 rfl (lv_at hl 0 rfl) ?_
        refine lv_icmp_ne (tgt := 49) hx hb dX0_status_37 (by decide) (fun c5 => ?_) (fun c5 => ?_)
        · rw [if_neg c5] at h
          refine lv_iconst (v := 0) hx hb dX0_status_49 (by decide) ?_
          refine lv_iadd hx hb dX0_status_50 ?_
          refine lv_istore_n (lv' := [(2, .int (x2 + 0)), (3, .int x3), (0, .ref (xa E 0)), (1, .int b1)]) hx hb dX0_status_51 rfl hl (by decide) rfl (fun ls hl => ?_)
          refine lv_iinc (k := 1) (v := (x3 + 1)) (lv' := [(3, .int (x3 + 1)), (2, .int (x2 + 0)), (0, .ref (xa E 0)), (1, .int b1)]) hx hb dX0_status_52 hl rfl rfl (by decide) rfl (fun ls hl => ?_)
          refine lv_goto (tgt := 20) hx hb dX0_status_55 (by decide) ?_
          exact ih (x2 + 0) (x3 + 1) _ h _ _ _ hW hS (lv_sub hl [0, 1, 2, 3] rfl) kk
        · rw [if_pos c5] at h
          refine lv_aload_n hx hb dX0_status_40 rfl (lv_at hl 2 rfl) ?_
          refine va_get (D := xD E) (ci := 0) (v := .ref (xa E 56)) (C := RX0) (T := TX0) (N := 15) hx hb hts in_X0 hown hK (xO_X hW) 0 rfl rfl 10 (by decide) (hts _ q423) (fun _ h9 => h9) rfl dX0_status_41 ?_
          refine lv_iload_n hx hb dX0_status_44 rfl (lv_at hl 0 rfl) ?_
          by_cases hi6 : xin x3 7
          · rw [if_pos hi6] at h
            refine va_iald hx hb hK (xV_p hW xp_56) 0 0 rfl rfl hi6 dX0_status_45 ?_
            refine lv_goto (tgt := 50) hx hb dX0_status_46 (by decide) ?_
            refine lv_iadd hx hb dX0_status_50 ?_
            refine lv_istore_n (lv' := [(2, .int (x2 + (σ 7 (x3.toNatClampNeg)))), (3, .int x3), (0, .ref (xa E 0)), (1, .int b1)]) hx hb dX0_status_51 rfl hl (by decide) rfl (fun ls hl => ?_)
            refine lv_iinc (k := 1) (v := (x3 + 1)) (lv' := [(3, .int (x3 + 1)), (2, .int (x2 + (σ 7 (x3.toNatClampNeg)))), (0, .ref (xa E 0)), (1, .int b1)]) hx hb dX0_status_52 hl rfl rfl (by decide) rfl (fun ls hl => ?_)
            refine lv_goto (tgt := 20) hx hb dX0_status_55 (by decide) ?_
            exact ih (x2 + (σ 7 (x3.toNatClampNeg))) (x3 + 1) _ h _ _ _ hW hS (lv_sub hl [0, 1, 2, 3] rfl) kk
          · rw [if_neg hi6] at h; cases h
set_option maxHeartbeats 4000000 in
theorem mX0_status (l : Launch) (E : xE) (σ : xM) (a1 : Int32) (r : Int32) (σ' : xM) (h : fX0_status σ a1 = some (r, σ')) : Met l yX0_status (ws_ yX0_status cX0_status 4 (some .int)) ({ frames := 1, cells := 0, slots := 0, locals := 22 } : Room) (xPc E σ [.ref (xa E 0), .int a1]) (xQc E (.returned (some (.int r))) σ') 0 0 (xA E) := by
  refine x_of (C := RX0) (n := "status") (d := "(I)I") (r := (some .int)) (by decide) rfl (by first | decide | exact Nat.le_of_ble_eq_true rfl) ?_
  intro p e s m below meth c ls F hr hlk hW hS hl
  have hl : lv_has ls 4 [(0, .ref (xa E 0)), (1, .int a1)] := hl
  obtain ⟨hx, hb, hml, hown, hts⟩ := id F.1
  have hK := F.2.1.1
  unfold fX0_status at h
  refine lv_iload_n hx hb dX0_status_0 rfl (lv_at hl 1 rfl) ?_
  refine lv_iconst (v := (-1)) hx hb dX0_status_1 (by decide) ?_
  refine lv_bipush (v := 6) hx hb dX0_status_2 (by decide) ?_
  refine x_backi (va_runS (As := [.int a1, .int (-1), .int 6]) (rest := []) F.1 (mX0_in l E σ a1 (-1) 6) (va_cwS 3 hts (lw_S q466 q467 q99 q468) rfl rfl rfl (by decide +kernel) ⟨Nat.le_of_ble_eq_true rfl, Nat.le_of_ble_eq_true rfl⟩) ⟨xPc.blind, F.pre hW hS [.int a1, .int (-1), .int 6]⟩ rfl rfl hl.1 rfl (lv_room (Nat.le_of_ble_eq_true rfl)) dX0_status_4 ⟨Nat.le_refl _, Nat.le_refl _⟩) hS (fun H locs hW hS => ?_)
  refine lv_if_ne (tgt := 16) hx hb dX0_status_7 (by decide) (fun c1 => ?_) (fun c1 => ?_)
  · rw [if_neg c1] at h
    refine lv_iconst (v := 0) hx hb dX0_status_16 (by decide) ?_
    refine lv_istore_n (lv' := [(2, .int 0), (0, .ref (xa E 0)), (1, .int a1)]) hx hb dX0_status_17 rfl hl (by decide) rfl (fun ls hl => ?_)
    refine lv_iconst (v := 0) hx hb dX0_status_18 (by decide) ?_
    refine lv_istore_n (lv' := [(3, .int 0), (2, .int 0), (0, .ref (xa E 0)), (1, .int a1)]) hx hb dX0_status_19 rfl hl (by decide) rfl (fun ls hl => ?_)
    cases g7 : gX0_status_20 σ a1 xfu 0 0 with
    | none => rw [g7] at h; cases h
    | some q8 =>
      rw [g7, Option.bind_some] at h
      refine lX0_status_20 F xfu 0 0 q8 g7 _ _ _ hW hS (lv_sub hl [0, 1, 2, 3] rfl) (fun H locs ls hW hS hl => ?_)
      refine lv_iload_n hx hb dX0_status_58 rfl (lv_at hl 1 rfl) ?_
      obtain ⟨h1, h2⟩ := Prod.mk.inj (Option.some.inj h); subst h1; subst h2
      exact x_iret F hr hlk hW hS dX0_status_59
  · rw [if_pos c1] at h
    refine lv_aload_n hx hb dX0_status_10 rfl (lv_at hl 0 rfl) ?_
    refine lv_iconst (v := 0) hx hb dX0_status_11 (by decide) ?_
    cases g9 : fX0_finding σ 0 with
    | none => rw [g9] at h; cases h
    | some r10 =>
      rw [g9, Option.bind_some] at h
      refine x_backi (va_runV (C := RX0) (b := (xa E 0)) (As := [.int 0]) (rest := []) F.1 (mX0_finding l E σ 0 r10.1 r10.2 g9) (cwV 1 hts (lw_V q469 q471 qs2 q99 q472) rfl rfl rfl (by decide +kernel) ⟨Nat.le_of_ble_eq_true rfl, Nat.le_of_ble_eq_true rfl⟩) ⟨xPc.blind, va_recv hK (xO_X hW) (ci := 0) (q0 := 0) rfl rfl, F.pre hW hS (.ref (xa E 0) :: [.int 0])⟩ rfl rfl hl.1 rfl (lv_room (Nat.le_of_ble_eq_true rfl)) dX0_status_12 ⟨Nat.le_refl _, Nat.le_refl _⟩) hS (fun H locs hW hS => ?_)
      obtain ⟨h1, h2⟩ := Prod.mk.inj (Option.some.inj h); subst h1; subst h2
      exact x_iret F hr hlk hW hS dX0_status_15
