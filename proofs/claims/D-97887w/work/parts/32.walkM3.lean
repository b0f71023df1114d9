set_option maxRecDepth 100000
/-! WildBellsModel.greatest()I -/
def gX13_greatest_4 (σ : xM) : Nat → Int32 → Int32 → Option (Int32 × Int32)
  | 0, _, _ => none
  | n + 1, x1, x2 => if (1 <<< ((σ 20 ((2 : Int32).toNatClampNeg)) &&& 31)) ≤ x2 then (some (x1, x2)) else ((fX13_bits x2).bind (fun r3 => (fX13_bits x1).bind (fun r5 => if r3 ≤ r5 then (gX13_greatest_4 σ n x1 (x2 + 1)) else ((fX13_areRing σ x2).bind (fun r8 => if r8 = 0 then (gX13_greatest_4 σ n x1 (x2 + 1)) else (gX13_greatest_4 σ n x2 (x2 + 1)))))))
def fX13_greatest (σ : xM) : Option Int32 :=
  (gX13_greatest_4 σ xfu 0 1).bind (fun q11 => some q11.1)
set_option maxHeartbeats 4000000 in
theorem lX13_greatest_4 {p : Program} {l : Launch} {e : Env} {s : State} {m : MethodId} {av : Array Value} {below : List Frame} {meth : Method} {c : Code} {Q : State → Prop} {E : xE} {σ : xM} (F : xFx p m c cX13_greatest 3 s av RX13 E) : ∀ (n : Nat) (x1 : Int32) (x2 : Int32) (q : (Int32 × Int32)), gX13_greatest_4 σ n x1 x2 = some q → ∀ (H : Heap) (locs : List Loc) (ls : Array Slot), xW E σ H → va_S (xA E) s.heap H locs → lv_has ls 3 [(2, .int x2), (1, .int x1), (0, .ref (xa E 186))] → (∀ (H : Heap) (locs : List Loc) (ls : Array Slot), xW E σ H → va_S (xA E) s.heap H locs → lv_has ls 3 [(2, .int q.2), (1, .int q.1), (0, .ref (xa E 186))] → W p l e ({ frames := 3, cells := 0, slots := 0, locals := 69 } : Room) s m av below meth c H locs 0 0 Q (F0 m 47 ls [])) → W p l e ({ frames := 3, cells := 0, slots := 0, locals := 69 } : Room) s m av below meth c H locs 0 0 Q (F0 m 4 ls []) := by
  obtain ⟨hx, hb, hml, hown, hts⟩ := id F.1
  have hK := F.2.1.1
  intro n
  induction n with
  | zero =>
    intro x1 x2 q h
    cases h
  | succ n ih =>
    intro x1 x2 q h H locs ls hW hS hl kk
    rw [gX13_greatest_4] at h
    refine lv_iload_n hx hb dX13_greatest_4 rfl (lv_at hl 0 rfl) ?_
    refine lv_iconst (v := 1) hx hb dX13_greatest_5 (by decide) ?_
    refine lv_aload_n hx hb dX13_greatest_6 rfl (lv_at hl 2 rfl) ?_
    refine va_get (D := xD E) (ci := 13) (v := .ref (xa E 187)) (C := RX13) (T := TX13) (N := 24) hx hb hts in_X13 hown hK (xO_M hW) 0 rfl rfl 0 (by decide) (hts _ q1196) (fun _ h9 => h9) rfl dX13_greatest_7 ?_
    refine lv_iconst (v := 2) hx hb dX13_greatest_10 (by decide) ?_
    refine va_iald hx hb hK (xV_p hW xp_187) 0 0 rfl rfl (x_lit (by decide)) dX13_greatest_11 ?_
    refine lv_ishl hx hb dX13_greatest_12 ?_
    refine lv_icmp_ge (tgt := 47) hx hb dX13_greatest_13 (by decide) (fun c1 => ?_) (fun c1 => ?_)
    · rw [if_pos c1] at h
      have h := Option.some.inj h; subst h
      exact kk _ _ _ hW hS (lv_sub hl [0, 1, 2] rfl)
    · rw [if_neg c1] at h
      refine lv_iload_n hx hb dX13_greatest_16 rfl (lv_at hl 0 rfl) ?_
      cases g2 : fX13_bits x2 with
      | none => rw [g2] at h; cases h
      | some r3 =>
        rw [g2, Option.bind_some] at h
        refine x_backi (va_runS (As := [.int x2]) (rest := []) F.1 (mX13_bits l E σ x2 r3 g2) (va_cwS 1 hts (lw_S q1415 q1416 q115 q1417) rfl rfl rfl (by decide +kernel) ⟨Nat.le_of_ble_eq_true rfl, Nat.le_of_ble_eq_true rfl⟩) ⟨xPc.blind, F.pre hW hS [.int x2]⟩ rfl rfl hl.1 rfl (lv_room (Nat.le_of_ble_eq_true rfl)) dX13_greatest_17 ⟨Nat.le_refl _, Nat.le_refl _⟩) hS (fun H locs hW hS => ?_)
        refine lv_iload_n hx hb dX13_greatest_20 rfl (lv_at hl 1 rfl) ?_
        cases g4 : fX13_bits x1 with
        | none => rw [g4] at h; cases h
        | some r5 =>
          rw [g4, Option.bind_some] at h
          refine x_backi (va_runS (As := [.int x1]) (rest := [.int r3]) F.1 (mX13_bits l E σ x1 r5 g4) (va_cwS 1 hts (lw_S q1415 q1416 q115 q1417) rfl rfl rfl (by decide +kernel) ⟨Nat.le_of_ble_eq_true rfl, Nat.le_of_ble_eq_true rfl⟩) ⟨xPc.blind, F.pre hW hS [.int x1]⟩ rfl rfl hl.1 rfl (lv_room (Nat.le_of_ble_eq_true rfl)) dX13_greatest_21 ⟨Nat.le_refl _, Nat.le_refl _⟩) hS (fun H locs hW hS => ?_)
          refine lv_icmp_le (tgt := 39) hx hb dX13_greatest_24 (by decide) (fun c6 => ?_) (fun c6 => ?_)
          · rw [if_pos c6] at h
            refine lv_iload_n hx hb dX13_greatest_39 rfl (lv_at hl 1 rfl) ?_
            refine lv_istore_n (lv' := [(1, .int x1), (2, .int x2), (0, .ref (xa E 186))]) hx hb dX13_greatest_40 rfl hl (by decide) rfl (fun ls hl => ?_)
            refine lv_iinc (k := 1) (v := (x2 + 1)) (lv' := [(2, .int (x2 + 1)), (1, .int x1), (0, .ref (xa E 186))]) hx hb dX13_greatest_41 hl rfl rfl (by decide) rfl (fun ls hl => ?_)
            refine lv_goto (tgt := 4) hx hb dX13_greatest_44 (by decide) ?_
            exact ih x1 (x2 + 1) _ h _ _ _ hW hS (lv_sub hl [0, 1, 2] rfl) kk
          · rw [if_neg c6] at h
            refine lv_aload_n hx hb dX13_greatest_27 rfl (lv_at hl 2 rfl) ?_
            refine lv_iload_n hx hb dX13_greatest_28 rfl (lv_at hl 0 rfl) ?_
            cases g7 : fX13_areRing σ x2 with
            | none => rw [g7] at h; cases h
            | some r8 =>
              rw [g7, Option.bind_some] at h
              refine x_backi (va_runV (C := RX13) (b := (xa E 186)) (As := [.int x2]) (rest := []) F.1 (mX13_areRing l E σ x2 r8 g7) (cwV 1 hts (lw_V q1562 q1564 qs86 q115 q1565) rfl rfl rfl (by decide +kernel) ⟨Nat.le_of_ble_eq_true rfl, Nat.le_of_ble_eq_true rfl⟩) ⟨xPc.blind, va_recv hK (xO_M hW) (ci := 13) (q0 := 0) rfl rfl, F.pre hW hS (.ref (xa E 186) :: [.int x2])⟩ rfl rfl hl.1 rfl (lv_room (Nat.le_of_ble_eq_true rfl)) dX13_greatest_29 ⟨Nat.le_refl _, Nat.le_refl _⟩) hS (fun H locs hW hS => ?_)
              refine lv_if_eq (tgt := 39) hx hb dX13_greatest_32 (by decide) (fun c9 => ?_) (fun c9 => ?_)
              · rw [if_pos c9] at h
                refine lv_iload_n hx hb dX13_greatest_39 rfl (lv_at hl 1 rfl) ?_
                refine lv_istore_n (lv' := [(1, .int x1), (2, .int x2), (0, .ref (xa E 186))]) hx hb dX13_greatest_40 rfl hl (by decide) rfl (fun ls hl => ?_)
                refine lv_iinc (k := 1) (v := (x2 + 1)) (lv' := [(2, .int (x2 + 1)), (1, .int x1), (0, .ref (xa E 186))]) hx hb dX13_greatest_41 hl rfl rfl (by decide) rfl (fun ls hl => ?_)
                refine lv_goto (tgt := 4) hx hb dX13_greatest_44 (by decide) ?_
                exact ih x1 (x2 + 1) _ h _ _ _ hW hS (lv_sub hl [0, 1, 2] rfl) kk
              · rw [if_neg c9] at h
                refine lv_iload_n hx hb dX13_greatest_35 rfl (lv_at hl 0 rfl) ?_
                refine lv_goto (tgt := 40) hx hb dX13_greatest_36 (by decide) ?_
                refine lv_istore_n (lv' := [(1, .int x2), (2, .int x2), (0, .ref (xa E 186))]) hx hb dX13_greatest_40 rfl hl (by decide) rfl (fun ls hl => ?_)
                refine lv_iinc (k := 1) (v := (x2 + 1)) (lv' := [(2, .int (x2 + 1)), (1, .int x2), (0, .ref (xa E 186))]) hx hb dX13_greatest_41 hl rfl rfl (by decide) rfl (fun ls hl => ?_)
                refine lv_goto (tgt := 4) hx hb dX13_greatest_44 (by decide) ?_
                exact ih x2 (x2 + 1) _ h _ _ _ hW hS (lv_sub hl [0, 1, 2] rfl) kk
set_option maxHeartbeats 4000000 in
theorem mX13_greatest (l : Launch) (E : xE) (σ : xM) (r : Int32) (h : fX13_greatest σ = some r) : Met l yX13_greatest (ws_ yX13_greatest cX13_greatest 3 (some .int)) ({ frames := 3, cells := 0, slots := 0, locals := 69 } : Room) (xPc E σ [.ref (xa E 186)]) (xQc E (.returned (some (.int r))) σ) 0 0 (xA E) := by
  refine x_of (C := RX13) (n := "greatest") (d := "()I") (r := (some .int)) (by decide) rfl (by first | decide | exact Nat.le_of_ble_eq_true rfl) ?_
  intro p e s m below meth c ls F hr hlk hW hS hl
  have hl : lv_has ls 3 [(0, .ref (xa E 186))] := hl
  obtain ⟨hx, hb, hml, hown, hts⟩ := id F.1
  have hK := F.2.1.1
  unfold fX13_greatest at h
  refine lv_iconst (v := 0) hx hb dX13_greatest_0 (by decide) ?_
  refine lv_istore_n (lv' := [(1, .int 0), (0, .ref (xa E 186))]) hx hb dX13_greatest_1 rfl hl (by decide) rfl (fun ls hl => ?_)
  refine lv_iconst (v := 1) hx hb dX13_greatest_2 (by decide) ?_
  refine lv_istore_n (lv' := [(2, .int 1), (1, .int 0), (0, .ref (xa E 186))]) hx hb dX13_greatest_3 rfl hl (by decide) rfl (fun ls hl => ?_)
  cases g10 : gX13_greatest_4 σ xfu 0 1 with
  | none => rw [g10] at h; cases h
  | some q11 =>
    rw [g10, Option.bind_some] at h
    refine lX13_greatest_4 F xfu 0 1 q11 g10 _ _ _ hW hS (lv_sub hl [0, 1, 2] rfl) (fun H locs ls hW hS hl => ?_)
    refine lv_iload_n hx hb dX13_greatest_47 rfl (lv_at hl 1 rfl) ?_
    have h := Option.some.inj h; subst h
    exact x_iret F hr hlk hW hS dX13_greatest_48
/-! WildBellsModel.ring()I -/
def fX13_ring (σ : xM) : Option Int32 :=
  (fX13_greatest σ).bind (fun r2 => (fX13_bits r2).bind (fun r4 => some r4))
set_option maxHeartbeats 4000000 in
theorem mX13_ring (l : Launch) (E : xE) (σ : xM) (r : Int32) (h : fX13_ring σ = some r) : Met l yX13_ring (ws_ yX13_ring cX13_ring 1 (some .int)) ({ frames := 4, cells := 0, slots := 0, locals := 91 } : Room) (xPc E σ [.ref (xa E 186)]) (xQc E (.returned (some (.int r))) σ) 0 0 (xA E) := by
  refine x_of (C := RX13) (n := "ring") (d := "()I") (r := (some .int)) (by decide) rfl (by first | decide | exact Nat.le_of_ble_eq_true rfl) ?_
  intro p e s m below meth c ls F hr hlk hW hS hl
  have hl : lv_has ls 1 [(0, .ref (xa E 186))] := hl
  obtain ⟨hx, hb, hml, hown, hts⟩ := id F.1
  have hK := F.2.1.1
  unfold fX13_ring at h
  refine lv_aload_n hx hb dX13_ring_0 rfl (lv_at hl 0 rfl) ?_
  cases g1 : fX13_greatest σ with
  | none => rw [g1] at h; cases h
  | some r2 =>
    rw [g1, Option.bind_some] at h
    refine x_backi (va_runV (C := RX13) (b := (xa E 186)) (As := []) (rest := []) F.1 (mX13_greatest l E σ r2 g1) (cwV 0 hts (lw_V q1558 q1560 qs85 q115 q1561) rfl rfl rfl (by decide +kernel) ⟨Nat.le_of_ble_eq_true rfl, Nat.le_of_ble_eq_true rfl⟩) ⟨xPc.blind, va_recv hK (xO_M hW) (ci := 13) (q0 := 0) rfl rfl, F.pre hW hS (.ref (xa E 186) :: [])⟩ rfl rfl hl.1 rfl (lv_room (Nat.le_of_ble_eq_true rfl)) dX13_ring_1 ⟨Nat.le_refl _, Nat.le_refl _⟩) hS (fun H locs hW hS => ?_)
    cases g3 : fX13_bits r2 with
    | none => rw [g3] at h; cases h
    | some r4 =>
      rw [g3, Option.bind_some] at h
      refine x_backi (va_runS (As := [.int r2]) (rest := []) F.1 (mX13_bits l E σ r2 r4 g3) (va_cwS 1 hts (lw_S q1415 q1416 q115 q1417) rfl rfl rfl (by decide +kernel) ⟨Nat.le_of_ble_eq_true rfl, Nat.le_of_ble_eq_true rfl⟩) ⟨xPc.blind, F.pre hW hS [.int r2]⟩ rfl rfl hl.1 rfl (lv_room (Nat.le_of_ble_eq_true rfl)) dX13_ring_4 ⟨Nat.le_refl _, Nat.le_refl _⟩) hS (fun H locs hW hS => ?_)
      have h := Option.some.inj h; subst h
      exact x_iret F hr hlk hW hS dX13_ring_7
/-! WildBellsModel.rings()I -/
def fX13_rings (σ : xM) : Option Int32 :=
  (fX13_greatest σ).bind (fun r2 => some r2)
set_option maxHeartbeats 4000000 in
theorem mX13_rings (l : Launch) (E : xE) (σ : xM) (r : Int32) (h : fX13_rings σ = some r) : Met l yX13_rings (ws_ yX13_rings cX13_rings 1 (some .int)) ({ frames := 4, cells := 0, slots := 0, locals := 91 } : Room) (xPc E σ [.ref (xa E 186)]) (xQc E (.returned (some (.int r))) σ) 0 0 (xA E) := by
  refine x_of (C := RX13) (n := "rings") (d := "()I") (r := (some .int)) (by decide) rfl (by first | decide | exact Nat.le_of_ble_eq_true rfl) ?_
  intro p e s m below meth c ls F hr hlk hW hS hl
  have hl : lv_has ls 1 [(0, .ref (xa E 186))] := hl
  obtain ⟨hx, hb, hml, hown, hts⟩ := id F.1
  have hK := F.2.1.1
  unfold fX13_rings at h
  refine lv_aload_n hx hb dX13_rings_0 rfl (lv_at hl 0 rfl) ?_
  cases g1 : fX13_greatest σ with
  | none => rw [g1] at h; cases h
  | some r2 =>
    rw [g1, Option.bind_some] at h
    refine x_backi (va_runV (C := RX13) (b := (xa E 186)) (As := []) (rest := []) F.1 (mX13_greatest l E σ r2 g1) (cwV 0 hts (lw_V q1558 q1560 qs85 q115 q1561) rfl rfl rfl (by decide +kernel) ⟨Nat.le_of_ble_eq_true rfl, Nat.le_of_ble_eq_true rfl⟩) ⟨xPc.blind, va_recv hK (xO_M hW) (ci := 13) (q0 := 0) rfl rfl, F.pre hW hS (.ref (xa E 186) :: [])⟩ rfl rfl hl.1 rfl (lv_room (Nat.le_of_ble_eq_true rfl)) dX13_rings_1 ⟨Nat.le_refl _, Nat.le_refl _⟩) hS (fun H locs hW hS => ?_)
    have h := Option.some.inj h; subst h
    exact x_iret F hr hlk hW hS dX13_rings_4
/-! WildBellsModel.peals()I -/
def gX13_peals_4 (σ : xM) : Nat → Int32 → Int32 → Option (Int32 × Int32)
  | 0, _, _ => none
  | n + 1, x1, x2 => if (1 <<< ((σ 20 ((2 : Int32).toNatClampNeg)) &&& 31)) ≤ x2 then (some (x1, x2)) else ((fX13_areRing σ x2).bind (fun r3 => if r3 = 0 then (gX13_peals_4 σ n (x1 + 0) (x2 + 1)) else (gX13_peals_4 σ n (x1 + 1) (x2 + 1))))
def fX13_peals (σ : xM) : Option Int32 :=
  (gX13_peals_4 σ xfu 0 1).bind (fun q6 => some q6.1)
set_option maxHeartbeats 4000000 in
theorem lX13_peals_4 {p : Program} {l : Launch} {e : Env} {s : State} {m : MethodId} {av : Array Value} {below : List Frame} {meth : Method} {c : Code} {Q : State → Prop} {E : xE} {σ : xM} (F : xFx p m c cX13_peals 3 s av RX13 E) : ∀ (n : Nat) (x1 : Int32) (x2 : Int32) (q : (Int32 × Int32)), gX13_peals_4 σ n x1 x2 = some q → ∀ (H : Heap) (locs : List Loc) (ls : Array Slot), xW E σ H → va_S (xA E) s.heap H locs → lv_has ls 3 [(2, .int x2), (1, .int x1), (0, .ref (xa E 186))] → (∀ (H : Heap) (locs : List Loc) (ls : Array Slot), xW E σ H → va_S (xA E) s.heap H locs → lv_has ls 3 [(2, .int q.2), (1, .int q.1), (0, .ref (xa E 186))] → W p l e ({ frames := 3, cells := 0, slots := 0, locals := 69 } : Room) s m av below meth c H locs 0 0 Q (F0 m 38 ls [])) → W p l e ({ frames := 3, cells := 0, slots := 0, locals := 69 } : Room) s m av below meth c H locs 0 0 Q (F0 m 4 ls []) := by
  obtain ⟨hx, hb, hml, hown, hts⟩ := id F.1
  have hK := F.2.1.1
  intro n
  induction n with
  | zero =>
    intro x1 x2 q h
    cases h
  | succ n ih =>
    intro x1 x2 q h H locs ls hW hS hl kk
    rw [gX13_peals_4] at h
    refine lv_iload_n hx hb dX13_peals_4 rfl (lv_at hl 0 rfl) ?_
    refine lv_iconst (v := 1) hx hb dX13_peals_5 (by decide) ?_
    refine lv_aload_n hx hb dX13_peals_6 rfl (lv_at hl 2 rfl) ?_
    refine va_get (D := xD E) (ci := 13) (v := .ref (xa E 187)) (C := RX13) (T := TX13) (N := 24) hx hb hts in_X13 hown hK (xO_M hW) 0 rfl rfl 0 (by decide) (hts _ q1196) (fun _ h9 => h9) rfl dX13_peals_7 ?_
    refine lv_iconst (v := 2) hx hb dX13_peals_10 (by decide) ?_
    refine va_iald hx hb hK (xV_p hW xp_187) 0 0 rfl rfl (x_lit (by decide)) dX13_peals_11 ?_
    refine lv_ishl hx hb dX13_peals_12 ?_
    refine lv_icmp_ge (tgt := 38) hx hb dX13_peals_13 (by decide) (fun c1 => ?_) (fun c1 => ?_)
    · rw [if_pos c1] at h
      have h := Option.some.inj h; subst h
      exact kk _ _ _ hW hS (lv_sub hl [0, 1, 2] rfl)
    · rw [if_neg c1] at h
      refine lv_iload_n hx hb dX13_peals_16 rfl (lv_at hl 1 rfl) ?_
      refine lv_aload_n hx hb dX13_peals_17 rfl (lv_at hl 2 rfl) ?_
      refine lv_iload_n hx hb dX13_peals_18 rfl (lv_at hl 0 rfl) ?_
      cases g2 : fX13_areRing σ x2 with
      | none => rw [g2] at h; cases h
      | some r3 =>
        rw [g2, Option.bind_some] at h
        refine x_backi (va_runV (C := RX13) (b := (xa E 186)) (As := [.int x2]) (rest := [.int x1]) F.1 (mX13_areRing l E σ x2 r3 g2) (cwV 1 hts (lw_V q1562 q1564 qs86 q115 q1565) rfl rfl rfl (by decide +kernel) ⟨Nat.le_of_ble_eq_true rfl, Nat.le_of_ble_eq_true rfl⟩) ⟨xPc.blind, va_recv hK (xO_M hW) (ci := 13) (q0 := 0) rfl rfl, F.pre hW hS (.ref (xa E 186) :: [.int x2])⟩ rfl rfl hl.1 rfl (lv_room (Nat.le_of_ble_eq_true rfl)) dX13_peals_19 ⟨Nat.le_refl _, Nat.le_refl _⟩) hS (fun H locs hW hS => ?_)
        refine lv_if_eq (tgt := 29) hx hb dX13_peals_22 (by decide) (fun c4 => ?_) (fun c4 => ?_)
        · rw [if_pos c4] at h
          refine lv_iconst (v := 0) hx hb dX13_peals_29 (by decide) ?_
          refine lv_iadd hx hb dX13_peals_30 ?_
          refine lv_istore_n (lv' := [(1, .int (x1 + 0)), (2, .int x2), (0, .ref (xa E 186))]) hx hb dX13_peals_31 rfl hl (by decide) rfl (fun ls hl => ?_)
          refine lv_iinc (k := 1) (v := (x2 + 1)) (lv' := [(2, .int (x2 + 1)), (1, .int (x1 + 0)), (0, .ref (xa E 186))]) hx hb dX13_peals_32 hl rfl rfl (by decide) rfl (fun ls hl => ?_)
          refine lv_goto (tgt := 4) hx hb dX13_peals_35 (by decide) ?_
          exact ih (x1 + 0) (x2 + 1) _ h _ _ _ hW hS (lv_sub hl [0, 1, 2] rfl) kk
        · rw [if_neg c4] at h
          refine lv_iconst (v := 1) hx hb dX13_peals_25 (by decide) ?_
          refine lv_goto (tgt := 30) hx hb dX13_peals_26 (by decide) ?_
          refine lv_iadd hx hb dX13_peals_30 ?_
          refine lv_istore_n (lv' := [(1, .int (x1 + 1)), (2, .int x2), (0, .ref (xa E 186))]) hx hb dX13_peals_31 rfl hl (by decide) rfl (fun ls hl => ?_)
          refine lv_iinc (k := 1) (v := (x2 + 1)) (lv' := [(2, .int (x2 + 1)), (1, .int (x1 + 1)), (0, .ref (xa E 186))]) hx hb dX13_peals_32 hl rfl rfl (by decide) rfl (fun ls hl => ?_)
          refine lv_goto (tgt := 4) hx hb dX13_peals_35 (by decide) ?_
          exact ih (x1 + 1) (x2 + 1) _ h _ _ _ hW hS (lv_sub hl [0, 1, 2] rfl) kk
set_option maxHeartbeats 4000000 in
theorem mX13_peals (l : Launch) (E : xE) (σ : xM) (r : Int32) (h : fX13_peals σ = some r) : Met l yX13_peals (ws_ yX13_peals cX13_peals 3 (some .int)) ({ frames := 3, cells := 0, slots := 0, locals := 69 } : Room) (xPc E σ [.ref (xa E 186)]) (xQc E (.returned (some (.int r))) σ) 0 0 (xA E) := by
  refine x_of (C := RX13) (n := "peals") (d := "()I") (r := (some .int)) (by decide) rfl (by first | decide | exact Nat.le_of_ble_eq_true rfl) ?_
  intro p e s m below meth c ls F hr hlk hW hS hl
  have hl : lv_has ls 3 [(0, .ref (xa E 186))] := hl
  obtain ⟨hx, hb, hml, hown, hts⟩ := id F.1
  have hK := F.2.1.1
  unfold fX13_peals at h
  refine lv_iconst (v := 0) hx hb dX13_peals_0 (by decide) ?_
  refine lv_istore_n (lv' := [(1, .int 0), (0, .ref (xa E 186))]) hx hb dX13_peals_1 rfl hl (by decide) rfl (fun ls hl => ?_)
  refine lv_iconst (v := 1) hx hb dX13_peals_2 (by decide) ?_
  refine lv_istore_n (lv' := [(2, .int 1), (1, .int 0), (0, .ref (xa E 186))]) hx hb dX13_peals_3 rfl hl (by decide) rfl (fun ls hl => ?_)
  cases g5 : gX13_peals_4 σ xfu 0 1 with
  | none => rw [g5] at h; cases h
  | some q6 =>
    rw [g5, Option.bind_some] at h
    refine lX13_peals_4 F xfu 0 1 q6 g5 _ _ _ hW hS (lv_sub hl [0, 1, 2] rfl) (fun H locs ls hW hS hl => ?_)
    refine lv_iload_n hx hb dX13_peals_38 rfl (lv_at hl 1 rfl) ?_
    have h := Option.some.inj h; subst h
    exact x_iret F hr hlk hW hS dX13_peals_39
/-! WildBellsModel.longest(I)I -/
def gX13_longest_10 (b0 : Int32) : Nat → Int32 → Int32 → Int32 → Int32 → Option (Int32 × Int32 × Int32 × Int32)
  | 0, _, _, _, _ => none
  | n + 1, x1, x2, x3, x4 => if 12 ≤ x4 then (some (x1, x2, x3, x4)) else (if (fX13_has b0 x4) = 0 then (gX13_longest_10 b0 n x1 x2 x3 (x4 + 1)) else (if 3 ≤ (x4 - x3) then (gX13_longest_10 b0 n (fJ3_max x1 1) 1 x4 (x4 + 1)) else (gX13_longest_10 b0 n (fJ3_max x1 (x2 + 1)) (x2 + 1) x4 (x4 + 1))))
def fX13_longest (a0 : Int32) : Option Int32 :=
  (gX13_longest_10 a0 xfu 0 0 (-3) 0).bind (fun q5 => some q5.1)
set_option maxHeartbeats 4000000 in
theorem lX13_longest_10 {p : Program} {l : Launch} {e : Env} {s : State} {m : MethodId} {av : Array Value} {below : List Frame} {meth : Method} {c : Code} {Q : State → Prop} {E : xE} {σ : xM} {b0 : Int32} (F : xFx p m c cX13_longest 5 s av RX13 E) : ∀ (n : Nat) (x1 : Int32) (x2 : Int32) (x3 : Int32) (x4 : Int32) (q : (Int32 × Int32 × Int32 × Int32)), gX13_longest_10 b0 n x1 x2 x3 x4 = some q → ∀ (H : Heap) (locs : List Loc) (ls : Array Slot), xW E σ H → va_S (xA E) s.heap H locs → lv_has ls 5 [(4, .int x4), (3, .int x3), (2, .int x2), (1, .int x1), (0, .int b0)] → (∀ (H : Heap) (locs : List Loc) (ls : Array Slot), xW E σ H → va_S (xA E) s.heap H locs → lv_has ls 5 [(4, .int q.2.2.2), (3, .int q.2.2.1), (2, .int q.2.1), (1, .int q.1), (0, .int b0)] → W p l e ({ frames := 1, cells := 0, slots := 0, locals := 21 } : Room) s m av below meth c H locs 0 0 Q (F0 m 57 ls [])) → W p l e ({ frames := 1, cells := 0, slots := 0, locals := 21 } : Room) s m av below meth c H locs 0 0 Q (F0 m 10 ls []) := by
  obtain ⟨hx, hb, hml, hown, hts⟩ := id F.1
  have hK := F.2.1.1
  intro n
  induction n with
  | zero =>
    intro x1 x2 x3 x4 q h
    cases h
  | succ n ih =>
    intro x1 x2 x3 x4 q h H locs ls hW hS hl kk
    rw [gX13_longest_10] at h
    refine lv_iload hx hb dX13_longest_10 (lv_at hl 0 rfl) ?_
    refine lv_bipush (v := 12) hx hb dX13_longest_12 (by decide) ?_
    refine lv_icmp_ge (tgt := 57) hx hb dX13_longest_14 (by decide) (fun c1 => ?_) (fun c1 => ?_)
    · rw [if_pos c1] at h
      have h := Option.some.inj h; subst h
      exact kk _ _ _ hW hS (lv_sub hl [0, 1, 2, 3, 4] rfl)
    · rw [if_neg c1] at h
      refine lv_iload_n hx hb dX13_longest_17 rfl (lv_at hl 4 rfl) ?_
      refine lv_iload hx hb dX13_longest_18 (lv_at hl 0 rfl) ?_
      refine x_backi (va_runS (As := [.int b0, .int x4]) (rest := []) F.1 (mX13_has l E σ b0 x4) (va_cwS 2 hts (lw_S q1566 q1567 q115 q1568) rfl rfl rfl (by decide +kernel) ⟨Nat.le_of_ble_eq_true rfl, Nat.le_of_ble_eq_true rfl⟩) ⟨xPc.blind, F.pre hW hS [.int b0, .int x4]⟩ rfl rfl hl.1 rfl (lv_room (Nat.le_of_ble_eq_true rfl)) dX13_longest_20 ⟨Nat.le_refl _, Nat.le_refl _⟩) hS (fun H locs hW hS => ?_)
      refine lv_if_eq (tgt := 51) hx hb dX13_longest_23 (by decide) (fun c2 => ?_) (fun c2 => ?_)
      · rw [if_pos c2] at h
        refine lv_iinc (k := 0) (v := (x4 + 1)) (lv' := [(4, .int (x4 + 1)), (3, .int x3), (2, .int x2), (1, .int x1), (0, .int b0)]) hx hb dX13_longest_51 hl rfl rfl (by decide) rfl (fun ls hl => ?_)
        refine lv_goto (tgt := 10) hx hb dX13_longest_54 (by decide) ?_
        exact ih x1 x2 x3 (x4 + 1) _ h _ _ _ hW hS (lv_sub hl [0, 1, 2, 3, 4] rfl) kk
      · rw [if_neg c2] at h
        refine lv_iload hx hb dX13_longest_26 (lv_at hl 0 rfl) ?_
        refine lv_iload_n hx hb dX13_longest_28 rfl (lv_at hl 1 rfl) ?_
        refine lv_isub hx hb dX13_longest_29 ?_
        refine lv_iconst (v := 3) hx hb dX13_longest_30 (by decide) ?_
        refine lv_icmp_ge (tgt := 40) hx hb dX13_longest_31 (by decide) (fun c3 => ?_) (fun c3 => ?_)
        · rw [if_pos c3] at h
          refine lv_iconst (v := 1) hx hb dX13_longest_40 (by decide) ?_
          refine lv_istore_n (lv' := [(2, .int 1), (4, .int x4), (3, .int x3), (1, .int x1), (0, .int b0)]) hx hb dX13_longest_41 rfl hl (by decide) rfl (fun ls hl => ?_)
          refine lv_iload hx hb dX13_longest_42 (lv_at hl 1 rfl) ?_
          refine lv_istore_n (lv' := [(3, .int x4), (2, .int 1), (4, .int x4), (1, .int x1), (0, .int b0)]) hx hb dX13_longest_44 rfl hl (by decide) rfl (fun ls hl => ?_)
          refine lv_iload_n hx hb dX13_longest_45 rfl (lv_at hl 3 rfl) ?_
          refine lv_iload_n hx hb dX13_longest_46 rfl (lv_at hl 1 rfl) ?_
          refine x_backi (va_runS (As := [.int x1, .int 1]) (rest := []) F.1 (mJ3_max l E σ x1 1) (va_cwS 2 hts (lw_S q1357 q504 q116 q505) rfl rfl rfl (by decide +kernel) ⟨Nat.le_of_ble_eq_true rfl, Nat.le_of_ble_eq_true rfl⟩) ⟨xPc.blind, F.pre hW hS [.int x1, .int 1]⟩ rfl rfl hl.1 rfl (lv_room (Nat.le_of_ble_eq_true rfl)) dX13_longest_47 ⟨Nat.le_refl _, Nat.le_refl _⟩) hS (fun H locs hW hS => ?_)
          refine lv_istore_n (lv' := [(1, .int (fJ3_max x1 1)), (3, .int x4), (2, .int 1), (4, .int x4), (0, .int b0)]) hx hb dX13_longest_50 rfl hl (by decide) rfl (fun ls hl => ?_)
          refine lv_iinc (k := 3) (v := (x4 + 1)) (lv' := [(4, .int (x4 + 1)), (1, .int (fJ3_max x1 1)), (3, .int x4), (2, .int 1), (0, .int b0)]) hx hb dX13_longest_51 hl rfl rfl (by decide) rfl (fun ls hl => ?_)
          refine lv_goto (tgt := 10) hx hb dX13_longest_54 (by decide) ?_
          exact ih (fJ3_max x1 1) 1 x4 (x4 + 1) _ h _ _ _ hW hS (lv_sub hl [0, 2, 3, 1, 4] rfl) kk
        · rw [if_neg c3] at h
          refine lv_iload_n hx hb dX13_longest_34 rfl (lv_at hl 2 rfl) ?_
          refine lv_iconst (v := 1) hx hb dX13_longest_35 (by decide) ?_
          refine lv_iadd hx hb dX13_longest_36 ?_
          refine lv_goto (tgt := 41) hx hb dX13_longest_37 (by decide) ?_
          refine lv_istore_n (lv' := [(2, .int (x2 + 1)), (4, .int x4), (3, .int x3), (1, .int x1), (0, .int b0)]) hx hb dX13_longest_41 rfl hl (by decide) rfl (fun ls hl => ?_)
          refine lv_iload hx hb dX13_longest_42 (lv_at hl 1 rfl) ?_
          refine lv_istore_n (lv' := [(3, .int x4), (2, .int (x2 + 1)), (4, .int x4), (1, .int x1), (0, .int b0)]) hx hb dX13_longest_44 rfl hl (by decide) rfl (fun ls hl => ?_)
          refine lv_iload_n hx hb dX13_longest_45 rfl (lv_at hl 3 rfl) ?_
          refine lv_iload_n hx hb dX13_longest_46 rfl (lv_at hl 1 rfl) ?_
          refine x_backi (va_runS (As := [.int x1, .int (x2 + 1)]) (rest := []) F.1 (mJ3_max l E σ x1 (x2 + 1)) (va_cwS 2 hts (lw_S q1357 q504 q116 q505) rfl rfl rfl (by decide +kernel) ⟨Nat.le_of_ble_eq_true rfl, Nat.le_of_ble_eq_true rfl⟩) ⟨xPc.blind, F.pre hW hS [.int x1, .int (x2 + 1)]⟩ rfl rfl hl.1 rfl (lv_room (Nat.le_of_ble_eq_true rfl)) dX13_longest_47 ⟨Nat.le_refl _, Nat.le_refl _⟩) hS (fun H locs hW hS => ?_)
          refine lv_istore_n (lv' := [(1, .int (fJ3_max x1 (x2 + 1))), (3, .int x4), (2, .int (x2 + 1)), (4, .int x4), (0, .int b0)]) hx hb dX13_longest_50 rfl hl (by decide) rfl (fun ls hl => ?_)
          refine lv_iinc (k := 3) (v := (x4 + 1)) (lv' := [(4, .int (x4 + 1)), (1, .int (fJ3_max x1 (x2 + 1))), (3, .int x4), (2, .int (x2 + 1)), (0, .int b0)]) hx hb dX13_longest_51 hl rfl rfl (by decide) rfl (fun ls hl => ?_)
          refine lv_goto (tgt := 10) hx hb dX13_longest_54 (by decide) ?_
          exact ih (fJ3_max x1 (x2 + 1)) (x2 + 1) x4 (x4 + 1) _ h _ _ _ hW hS (lv_sub hl [0, 2, 3, 1, 4] rfl) kk
set_option maxHeartbeats 4000000 in
theorem mX13_longest (l : Launch) (E : xE) (σ : xM) (a0 : Int32) (r : Int32) (h : fX13_longest a0 = some r) : Met l yX13_longest (ws_ yX13_longest cX13_longest 5 (some .int)) ({ frames := 1, cells := 0, slots := 0, locals := 21 } : Room) (xPc E σ [.int a0]) (xQc E (.returned (some (.int r))) σ) 0 0 (xA E) := by
  refine x_of (C := RX13) (n := "longest") (d := "(I)I") (r := (some .int)) (by decide) rfl (by first | decide | exact Nat.le_of_ble_eq_true rfl) ?_
  intro p e s m below meth c ls F hr hlk hW hS hl
  have hl : lv_has ls 5 [(0, .int a0)] := hl
  obtain ⟨hx, hb, hml, hown, hts⟩ := id F.1
  have hK := F.2.1.1
  unfold fX13_longest at h
  refine lv_iconst (v := 0) hx hb dX13_longest_0 (by decide) ?_
  refine lv_istore_n (lv' := [(1, .int 0), (0, .int a0)]) hx hb dX13_longest_1 rfl hl (by decide) rfl (fun ls hl => ?_)
  refine lv_iconst (v := 0) hx hb dX13_longest_2 (by decide) ?_
  refine lv_istore_n (lv' := [(2, .int 0), (1, .int 0), (0, .int a0)]) hx hb dX13_longest_3 rfl hl (by decide) rfl (fun ls hl => ?_)
  refine lv_bipush (v := (-3)) hx hb dX13_longest_4 (by decide) ?_
  refine lv_istore_n (lv' := [(3, .int (-3)), (2, .int 0), (1, .int 0), (0, .int a0)]) hx hb dX13_longest_6 rfl hl (by decide) rfl (fun ls hl => ?_)
  refine lv_iconst (v := 0) hx hb dX13_longest_7 (by decide) ?_
  refine lv_istore (lv' := [(4, .int 0), (3, .int (-3)), (2, .int 0), (1, .int 0), (0, .int a0)]) hx hb dX13_longest_8 hl (by decide) rfl (fun ls hl => ?_)
  cases g4 : gX13_longest_10 a0 xfu 0 0 (-3) 0 with
  | none => rw [g4] at h; cases h
  | some q5 =>
    rw [g4, Option.bind_some] at h
    refine lX13_longest_10 F xfu 0 0 (-3) 0 q5 g4 _ _ _ hW hS (lv_sub hl [0, 1, 2, 3, 4] rfl) (fun H locs ls hW hS hl => ?_)
    refine lv_iload_n hx hb dX13_longest_57 rfl (lv_at hl 3 rfl) ?_
    have h := Option.some.inj h; subst h
    exact x_iret F hr hlk hW hS dX13_longest_58
/-! WildBellsModel.wanted()I -/
def gX13_wanted_4 (σ : xM) : Nat → Int32 → Int32 → Option (Int32 × Int32)
  | 0, _, _ => none
  | n + 1, x1, x2 => if (σ 20 ((2 : Int32).toNatClampNeg)) ≤ x2 then (some (x1, x2)) else ((fX13_bellIs σ x2 2).bind (fun r3 => gX13_wanted_4 σ n (x1 ||| (1 <<< (r3 &&& 31))) (x2 + 1)))
def gX13_wanted_35 (b1 : Int32) : Nat → Int32 → Int32 → Option (Int32 × Int32)
  | 0, _, _ => none
  | n + 1, x2, x3 => if 12 ≤ x3 then (some (x2, x3)) else ((fX13_longest (b1 ||| (1 <<< (x3 &&& 31)))).bind (fun r8 => (fX13_longest (b1 ||| (1 <<< (x2 &&& 31)))).bind (fun r10 => if r8 ≤ r10 then (gX13_wanted_35 b1 n x2 (x3 + 1)) else (gX13_wanted_35 b1 n x3 (x3 + 1)))))
def fX13_wanted (σ : xM) : Option Int32 :=
  (gX13_wanted_4 σ xfu 0 0).bind (fun q5 => (gX13_wanted_35 q5.1 xfu 0 1).bind (fun q13 => some q13.1))
set_option maxHeartbeats 4000000 in
theorem lX13_wanted_4 {p : Program} {l : Launch} {e : Env} {s : State} {m : MethodId} {av : Array Value} {below : List Frame} {meth : Method} {c : Code} {Q : State → Prop} {E : xE} {σ : xM} (F : xFx p m c cX13_wanted 4 s av RX13 E) : ∀ (n : Nat) (x1 : Int32) (x2 : Int32) (q : (Int32 × Int32)), gX13_wanted_4 σ n x1 x2 = some q → ∀ (H : Heap) (locs : List Loc) (ls : Array Slot), xW E σ H → va_S (xA E) s.heap H locs → lv_has ls 4 [(2, .int x2), (1, .int x1), (0, .ref (xa E 186))] → (∀ (H : Heap) (locs : List Loc) (ls : Array Slot), xW E σ H → va_S (xA E) s.heap H locs → lv_has ls 4 [(2, .int q.2), (1, .int q.1), (0, .ref (xa E 186))] → W p l e ({ frames := 2, cells := 0, slots := 0, locals := 45 } : Room) s m av below meth c H locs 0 0 Q (F0 m 31 ls [])) → W p l e ({ frames := 2, cells := 0, slots := 0, locals := 45 } : Room) s m av below meth c H locs 0 0 Q (F0 m 4 ls []) := by
  obtain ⟨hx, hb, hml, hown, hts⟩ := id F.1
  have hK := F.2.1.1
  intro n
  induction n with
  | zero =>
    intro x1 x2 q h
    cases h
  | succ n ih =>
    intro x1 x2 q h H locs ls hW hS hl kk
    rw [gX13_wanted_4] at h
    refine lv_iload_n hx hb dX13_wanted_4 rfl (lv_at hl 0 rfl) ?_
    refine lv_aload_n hx hb dX13_wanted_5 rfl (lv_at hl 2 rfl) ?_
    refine va_get (D := xD E) (ci := 13) (v := .ref (xa E 187)) (C := RX13) (T := TX13) (N := 24) hx hb hts in_X13 hown hK (xO_M hW) 0 rfl rfl 0 (by decide) (hts _ q1196) (fun _ h9 => h9) rfl dX13_wanted_6 ?_
    refine lv_iconst (v := 2) hx hb dX13_wanted_9 (by decide) ?_
    refine va_iald hx hb hK (xV_p hW xp_187) 0 0 rfl rfl (x_lit (by decide)) dX13_wanted_10 ?_
    refine lv_icmp_ge (tgt := 31) hx hb dX13_wanted_11 (by decide) (fun c1 => ?_) (fun c1 => ?_)
    · rw [if_pos c1] at h
      have h := Option.some.inj h; subst h
      exact kk _ _ _ hW hS (lv_sub hl [0, 1, 2] rfl)
    · rw [if_neg c1] at h
      refine lv_iload_n hx hb dX13_wanted_14 rfl (lv_at hl 1 rfl) ?_
      refine lv_iconst (v := 1) hx hb dX13_wanted_15 (by decide) ?_
      refine lv_aload_n hx hb dX13_wanted_16 rfl (lv_at hl 2 rfl) ?_
      refine lv_iload_n hx hb dX13_wanted_17 rfl (lv_at hl 0 rfl) ?_
      refine lv_iconst (v := 2) hx hb dX13_wanted_18 (by decide) ?_
      cases g2 : fX13_bellIs σ x2 2 with
      | none => rw [g2] at h; cases h
      | some r3 =>
        rw [g2, Option.bind_some] at h
        refine x_backi (va_runV (C := RX13) (b := (xa E 186)) (As := [.int x2, .int 2]) (rest := [.int 1, .int x1]) F.1 (mX13_bellIs l E σ x2 2 r3 g2) (cwV 2 hts (lw_V q1326 q1328 qs56 q115 q1329) rfl rfl rfl (by decide +kernel) ⟨Nat.le_of_ble_eq_true rfl, Nat.le_of_ble_eq_true rfl⟩) ⟨xPc.blind, va_recv hK (xO_M hW) (ci := 13) (q0 := 0) rfl rfl, F.pre hW hS (.ref (xa E 186) :: [.int x2, .int 2])⟩ rfl rfl hl.1 rfl (lv_room (Nat.le_of_ble_eq_true rfl)) dX13_wanted_19 ⟨Nat.le_refl _, Nat.le_refl _⟩) hS (fun H locs hW hS => ?_)
        refine lv_ishl hx hb dX13_wanted_22 ?_
        refine lv_ior hx hb dX13_wanted_23 ?_
        refine lv_istore_n (lv' := [(1, .int (x1 ||| (1 <<< (r3 &&& 31)))), (2, .int x2), (0, .ref (xa E 186))]) hx hb dX13_wanted_24 rfl hl (by decide) rfl (fun ls hl => ?_)
        refine lv_iinc (k := 1) (v := (x2 + 1)) (lv' := [(2, .int (x2 + 1)), (1, .int (x1 ||| (1 <<< (r3 &&& 31)))), (0, .ref (xa E 186))]) hx hb dX13_wanted_25 hl rfl rfl (by decide) rfl (fun ls hl => ?_)
        refine lv_goto (tgt := 4) hx hb dX13_wanted_28 (by decide) ?_
        exact ih (x1 ||| (1 <<< (r3 &&& 31))) (x2 + 1) _ h _ _ _ hW hS (lv_sub hl [0, 1, 2] rfl) kk
set_option maxHeartbeats 4000000 in
theorem lX13_wanted_35 {p : Program} {l : Launch} {e : Env} {s : State} {m : MethodId} {av : Array Value} {below : List Frame} {meth : Method} {c : Code} {Q : State → Prop} {E : xE} {σ : xM} {b1 : Int32} (F : xFx p m c cX13_wanted 4 s av RX13 E) : ∀ (n : Nat) (x2 : Int32) (x3 : Int32) (q : (Int32 × Int32)), gX13_wanted_35 b1 n x2 x3 = some q → ∀ (H : Heap) (locs : List Loc) (ls : Array Slot), xW E σ H → va_S (xA E) s.heap H locs → lv_has ls 4 [(3, .int x3), (2, .int x2), (1, .int b1), (0, .ref (xa E 186))] → (∀ (H : Heap) (locs : List Loc) (ls : Array Slot), xW E σ H → va_S (xA E) s.heap H locs → lv_has ls 4 [(3, .int q.2), (2, .int q.1), (1, .int b1), (0, .ref (xa E 186))] → W p l e ({ frames := 2, cells := 0, slots := 0, locals := 45 } : Room) s m av below meth c H locs 0 0 Q (F0 m 72 ls [])) → W p l e ({ frames := 2, cells := 0, slots := 0, locals := 45 } : Room) s m av below meth c H locs 0 0 Q (F0 m 35 ls []) := by
  obtain ⟨hx, hb, hml, hown, hts⟩ := id F.1
  have hK := F.2.1.1
  intro n
  induction n with
  | zero =>
    intro x2 x3 q h
    cases h
  | succ n ih =>
    intro x2 x3 q h H locs ls hW hS hl kk
    rw [gX13_wanted_35] at h
    refine lv_iload_n hx hb dX13_wanted_35 rfl (lv_at hl 0 rfl) ?_
    refine lv_bipush (v := 12) hx hb dX13_wanted_36 (by decide) ?_
    refine lv_icmp_ge (tgt := 72) hx hb dX13_wanted_38 (by decide) (fun c6 => ?_) (fun c6 => ?_)
    · rw [if_pos c6] at h
      have h := Option.some.inj h; subst h
      exact kk _ _ _ hW hS (lv_sub hl [0, 1, 2, 3] rfl)
    · rw [if_neg c6] at h
      refine lv_iload_n hx hb dX13_wanted_41 rfl (lv_at hl 2 rfl) ?_
      refine lv_iconst (v := 1) hx hb dX13_wanted_42 (by decide) ?_
      refine lv_iload_n hx hb dX13_wanted_43 rfl (lv_at hl 0 rfl) ?_
      refine lv_ishl hx hb dX13_wanted_44 ?_
      refine lv_ior hx hb dX13_wanted_45 ?_
      cases g7 : fX13_longest (b1 ||| (1 <<< (x3 &&& 31))) with
      | none => rw [g7] at h; cases h
      | some r8 =>
        rw [g7, Option.bind_some] at h
        refine x_backi (va_runS (As := [.int (b1 ||| (1 <<< (x3 &&& 31)))]) (rest := []) F.1 (mX13_longest l E σ (b1 ||| (1 <<< (x3 &&& 31))) r8 g7) (va_cwS 1 hts (lw_S q1584 q1585 q115 q1586) rfl rfl rfl (by decide +kernel) ⟨Nat.le_of_ble_eq_true rfl, Nat.le_of_ble_eq_true rfl⟩) ⟨xPc.blind, F.pre hW hS [.int (b1 ||| (1 <<< (x3 &&& 31)))]⟩ rfl rfl hl.1 rfl (lv_room (Nat.le_of_ble_eq_true rfl)) dX13_wanted_46 ⟨Nat.le_refl _, Nat.le_refl _⟩) hS (fun H locs hW hS => ?_)
        refine lv_iload_n hx hb dX13_wanted_49 rfl (lv_at hl 2 rfl) ?_
        refine lv_iconst (v := 1) hx hb dX13_wanted_50 (by decide) ?_
        refine lv_iload_n hx hb dX13_wanted_51 rfl (lv_at hl 1 rfl) ?_
        refine lv_ishl hx hb dX13_wanted_52 ?_
        refine lv_ior hx hb dX13_wanted_53 ?_
        cases g9 : fX13_longest (b1 ||| (1 <<< (x2 &&& 31))) with
        | none => rw [g9] at h; cases h
        | some r10 =>
          rw [g9, Option.bind_some] at h
          refine x_backi (va_runS (As := [.int (b1 ||| (1 <<< (x2 &&& 31)))]) (rest := [.int r8]) F.1 (mX13_longest l E σ (b1 ||| (1 <<< (x2 &&& 31))) r10 g9) (va_cwS 1 hts (lw_S q1584 q1585 q115 q1586) rfl rfl rfl (by decide +kernel) ⟨Nat.le_of_ble_eq_true rfl, Nat.le_of_ble_eq_true rfl⟩) ⟨xPc.blind, F.pre hW hS [.int (b1 ||| (1 <<< (x2 &&& 31)))]⟩ rfl rfl hl.1 rfl (lv_room (Nat.le_of_ble_eq_true rfl)) dX13_wanted_54 ⟨Nat.le_refl _, Nat.le_refl _⟩) hS (fun H locs hW hS => ?_)
          refine lv_icmp_le (tgt := 64) hx hb dX13_wanted_57 (by decide) (fun c11 => ?_) (fun c11 => ?_)
          · rw [if_pos c11] at h
            refine lv_iload_n hx hb dX13_wanted_64 rfl (lv_at hl 1 rfl) ?_
            refine lv_istore_n (lv' := [(2, .int x2), (3, .int x3), (1, .int b1), (0, .ref (xa E 186))]) hx hb dX13_wanted_65 rfl hl (by decide) rfl (fun ls hl => ?_)
            refine lv_iinc (k := 1) (v := (x3 + 1)) (lv' := [(3, .int (x3 + 1)), (2, .int x2), (1, .int b1), (0, .ref (xa E 186))]) hx hb dX13_wanted_66 hl rfl rfl (by decide) rfl (fun ls hl => ?_)
            refine lv_goto (tgt := 35) hx hb dX13_wanted_69 (by decide) ?_
            exact ih x2 (x3 + 1) _ h _ _ _ hW hS (lv_sub hl [0, 1, 2, 3] rfl) kk
          · rw [if_neg c11] at h
            refine lv_iload_n hx hb dX13_wanted_60 rfl (lv_at hl 0 rfl) ?_
            refine lv_goto (tgt := 65) hx hb dX13_wanted_61 (by decide) ?_
            refine lv_istore_n (lv' := [(2, .int x3), (3, .int x3), (1, .int b1), (0, .ref (xa E 186))]) hx hb dX13_wanted_65 rfl hl (by decide) rfl (fun ls hl => ?_)
            refine lv_iinc (k := 1) (v := (x3 + 1)) (lv' := [(3, .int (x3 + 1)), (2, .int x3), (1, .int b1), (0, .ref (xa E 186))]) hx hb dX13_wanted_66 hl rfl rfl (by decide) rfl (fun ls hl => ?_)
            refine lv_goto (tgt := 35) hx hb dX13_wanted_69 (by decide) ?_
            exact ih x3 (x3 + 1) _ h _ _ _ hW hS (lv_sub hl [0, 1, 2, 3] rfl) kk
set_option maxHeartbeats 4000000 in
theorem mX13_wanted (l : Launch) (E : xE) (σ : xM) (r : Int32) (h : fX13_wanted σ = some r) : Met l yX13_wanted (ws_ yX13_wanted cX13_wanted 4 (some .int)) ({ frames := 2, cells := 0, slots := 0, locals := 45 } : Room) (xPc E σ [.ref (xa E 186)]) (xQc E (.returned (some (.int r))) σ) 0 0 (xA E) := by
  refine x_of (C := RX13) (n := "wanted") (d := "()I") (r := (some .int)) (by decide) rfl (by first | decide | exact Nat.le_of_ble_eq_true rfl) ?_
  intro p e s m below meth c ls F hr hlk hW hS hl
  have hl : lv_has ls 4 [(0, .ref (xa E 186))] := hl
  obtain ⟨hx, hb, hml, hown, hts⟩ := id F.1
  have hK := F.2.1.1
  unfold fX13_wanted at h
  refine lv_iconst (v := 0) hx hb dX13_wanted_0 (by decide) ?_
  refine lv_istore_n (lv' := [(1, .int 0), (0, .ref (xa E 186))]) hx hb dX13_wanted_1 rfl hl (by decide) rfl (fun ls hl => ?_)
  refine lv_iconst (v := 0) hx hb dX13_wanted_2 (by decide) ?_
  refine lv_istore_n (lv' := [(2, .int 0), (1, .int 0), (0, .ref (xa E 186))]) hx hb dX13_wanted_3 rfl hl (by decide) rfl (fun ls hl => ?_)
  cases g4 : gX13_wanted_4 σ xfu 0 0 with
  | none => rw [g4] at h; cases h
  | some q5 =>
    rw [g4, Option.bind_some] at h
    refine lX13_wanted_4 F xfu 0 0 q5 g4 _ _ _ hW hS (lv_sub hl [0, 1, 2] rfl) (fun H locs ls hW hS hl => ?_)
    refine lv_iconst (v := 0) hx hb dX13_wanted_31 (by decide) ?_
    refine lv_istore_n (lv' := [(2, .int 0), (1, .int q5.1), (0, .ref (xa E 186))]) hx hb dX13_wanted_32 rfl hl (by decide) rfl (fun ls hl => ?_)
    refine lv_iconst (v := 1) hx hb dX13_wanted_33 (by decide) ?_
    refine lv_istore_n (lv' := [(3, .int 1), (2, .int 0), (1, .int q5.1), (0, .ref (xa E 186))]) hx hb dX13_wanted_34 rfl hl (by decide) rfl (fun ls hl => ?_)
    cases g12 : gX13_wanted_35 q5.1 xfu 0 1 with
    | none => rw [g12] at h; cases h
    | some q13 =>
      rw [g12, Option.bind_some] at h
      refine lX13_wanted_35 F xfu 0 1 q13 g12 _ _ _ hW hS (lv_sub hl [0, 1, 2, 3] rfl) (fun H locs ls hW hS hl => ?_)
      refine lv_iload_n hx hb dX13_wanted_72 rfl (lv_at hl 1 rfl) ?_
      have h := Option.some.inj h; subst h
      exact x_iret F hr hlk hW hS dX13_wanted_73
/-! WildBellsModel.changes(I)J -/
def gX13_changes_23 (b1 : Int32) : Nat → Int64 → Int32 → Option (Int64 × Int32)
  | 0, _, _ => none
  | n + 1, x2, x4 => if b1 < x4 then (some (x2, x4)) else (gX13_changes_23 b1 n (x2 * ((x4 : Int32).toInt64)) (x4 + 1))
def fX13_changes (σ : xM) (a1 : Int32) : Option (Int64 × xM) :=
  if (fX13_within a1 0 20) = 0 then ((fX13_finding σ (-1000001)).bind (fun r6 => some (((r6.1 : Int32).toInt64), r6.2))) else ((gX13_changes_23 a1 xfu 1 2).bind (fun q4 => some (q4.1, σ)))
set_option maxHeartbeats 4000000 in
theorem lX13_changes_23 {p : Program} {l : Launch} {e : Env} {s : State} {m : MethodId} {av : Array Value} {below : List Frame} {meth : Method} {c : Code} {Q : State → Prop} {E : xE} {σ : xM} {b1 : Int32} (F : xFx p m c cX13_changes 5 s av RX13 E) : ∀ (n : Nat) (x2 : Int64) (x4 : Int32) (q : (Int64 × Int32)), gX13_changes_23 b1 n x2 x4 = some q → ∀ (H : Heap) (locs : List Loc) (ls : Array Slot), xW E σ H → va_S (xA E) s.heap H locs → lv_has ls 5 [(4, .int x4), (2, .long x2), (0, .ref (xa E 186)), (1, .int b1)] → (∀ (H : Heap) (locs : List Loc) (ls : Array Slot), xW E σ H → va_S (xA E) s.heap H locs → lv_has ls 5 [(4, .int q.2), (2, .long q.1), (0, .ref (xa E 186)), (1, .int b1)] → W p l e ({ frames := 1, cells := 0, slots := 0, locals := 22 } : Room) s m av below meth c H locs 0 0 Q (F0 m 41 ls [])) → W p l e ({ frames := 1, cells := 0, slots := 0, locals := 22 } : Room) s m av below meth c H locs 0 0 Q (F0 m 23 ls []) := by
  obtain ⟨hx, hb, hml, hown, hts⟩ := id F.1
  have hK := F.2.1.1
  intro n
  induction n with
  | zero =>
    intro x2 x4 q h
    cases h
  | succ n ih =>
    intro x2 x4 q h H locs ls hW hS hl kk
    rw [gX13_changes_23] at h
    refine lv_iload hx hb dX13_changes_23 (lv_at hl 0 rfl) ?_
    refine lv_iload_n hx hb dX13_changes_25 rfl (lv_at hl 3 rfl) ?_
    refine lv_icmp_gt (tgt := 41) hx hb dX13_changes_26 (by decide) (fun c2 => ?_) (fun c2 => ?_)
    · rw [if_pos c2] at h
      have h := Option.some.inj h; subst h
      exact kk _ _ _ hW hS (lv_sub hl [0, 1, 2, 3] rfl)
    · rw [if_neg c2] at h
      refine lv_lload_n hx hb dX13_changes_29 rfl (lv_at hl 1 rfl) ?_
      refine lv_iload hx hb dX13_changes_30 (lv_at hl 0 rfl) ?_
      refine lv_i2l (v := (x4 : Int32).toInt64) hx hb dX13_changes_32 rfl ?_
      refine lv_lmul hx hb dX13_changes_33 ?_
      refine lv_lstore_n (lv' := [(2, .long (x2 * ((x4 : Int32).toInt64))), (4, .int x4), (0, .ref (xa E 186)), (1, .int b1)]) hx hb dX13_changes_34 rfl hl (by decide) rfl (fun ls hl => ?_)
      refine lv_iinc (k := 1) (v := (x4 + 1)) (lv' := [(4, .int (x4 + 1)), (2, .long (x2 * ((x4 : Int32).toInt64))), (0, .ref (xa E 186)), (1, .int b1)]) hx hb dX13_changes_35 hl rfl rfl (by decide) rfl (fun ls hl => ?_)
      refine lv_goto (tgt := 23) hx hb dX13_changes_38 (by decide) ?_
      exact ih (x2 * ((x4 : Int32).toInt64)) (x4 + 1) _ h _ _ _ hW hS (lv_sub hl [0, 1, 2, 3] rfl) kk
set_option maxHeartbeats 4000000 in
theorem mX13_changes (l : Launch) (E : xE) (σ : xM) (a1 : Int32) (r : Int64) (σ' : xM) (h : fX13_changes σ a1 = some (r, σ')) : Met l yX13_changes (ws_ yX13_changes cX13_changes 5 (some .long)) ({ frames := 1, cells := 0, slots := 0, locals := 22 } : Room) (xPc E σ [.ref (xa E 186), .int a1]) (xQc E (.returned (some (.long r))) σ') 0 0 (xA E) := by
  refine x_of (C := RX13) (n := "changes") (d := "(I)J") (r := (some .long)) (by decide) rfl (by first | decide | exact Nat.le_of_ble_eq_true rfl) ?_
  intro p e s m below meth c ls F hr hlk hW hS hl
  have hl : lv_has ls 5 [(0, .ref (xa E 186)), (1, .int a1)] := hl
  obtain ⟨hx, hb, hml, hown, hts⟩ := id F.1
  have hK := F.2.1.1
  unfold fX13_changes at h
  refine lv_iload_n hx hb dX13_changes_0 rfl (lv_at hl 1 rfl) ?_
  refine lv_iconst (v := 0) hx hb dX13_changes_1 (by decide) ?_
  refine lv_bipush (v := 20) hx hb dX13_changes_2 (by decide) ?_
  refine x_backi (va_runS (As := [.int a1, .int 0, .int 20]) (rest := []) F.1 (mX13_within l E σ a1 0 20) (va_cwS 3 hts (lw_S q1276 q1277 q115 q1278) rfl rfl rfl (by decide +kernel) ⟨Nat.le_of_ble_eq_true rfl, Nat.le_of_ble_eq_true rfl⟩) ⟨xPc.blind, F.pre hW hS [.int a1, .int 0, .int 20]⟩ rfl rfl hl.1 rfl (lv_room (Nat.le_of_ble_eq_true rfl)) dX13_changes_4 ⟨Nat.le_refl _, Nat.le_refl _⟩) hS (fun H locs hW hS => ?_)
  refine lv_if_ne (tgt := 18) hx hb dX13_changes_7 (by decide) (fun c1 => ?_) (fun c1 => ?_)
  · rw [if_neg c1] at h
    refine lv_lconst (v := 1) hx hb dX13_changes_18 rfl ?_
    refine lv_lstore_n (lv' := [(2, .long 1), (0, .ref (xa E 186)), (1, .int a1)]) hx hb dX13_changes_19 rfl hl (by decide) rfl (fun ls hl => ?_)
    refine lv_iconst (v := 2) hx hb dX13_changes_20 (by decide) ?_
    refine lv_istore (lv' := [(4, .int 2), (2, .long 1), (0, .ref (xa E 186)), (1, .int a1)]) hx hb dX13_changes_21 hl (by decide) rfl (fun ls hl => ?_)
    cases g3 : gX13_changes_23 a1 xfu 1 2 with
    | none => rw [g3] at h; cases h
    | some q4 =>
      rw [g3, Option.bind_some] at h
      refine lX13_changes_23 F xfu 1 2 q4 g3 _ _ _ hW hS (lv_sub hl [0, 1, 2, 3] rfl) (fun H locs ls hW hS hl => ?_)
      refine lv_lload_n hx hb dX13_changes_41 rfl (lv_at hl 1 rfl) ?_
      obtain ⟨h1, h2⟩ := Prod.mk.inj (Option.some.inj h); subst h1; subst h2
      exact x_lret F hr hlk hW hS dX13_changes_42
  · rw [if_pos c1] at h
    refine lv_aload_n hx hb dX13_changes_10 rfl (lv_at hl 0 rfl) ?_
    refine lv_ldc (v := (-1000001)) hx hb hown (hts _ q1279) dX13_changes_11 ?_
    cases g5 : fX13_finding σ (-1000001) with
    | none => rw [g5] at h; cases h
    | some r6 =>
      rw [g5, Option.bind_some] at h
      refine x_backi (va_runV (C := RX13) (b := (xa E 186)) (As := [.int (-1000001)]) (rest := []) F.1 (mX13_finding l E σ (-1000001) r6.1 r6.2 g5) (cwV 1 hts (lw_V q1280 q1282 qs52 q115 q1283) rfl rfl rfl (by decide +kernel) ⟨Nat.le_of_ble_eq_true rfl, Nat.le_of_ble_eq_true rfl⟩) ⟨xPc.blind, va_recv hK (xO_M hW) (ci := 13) (q0 := 0) rfl rfl, F.pre hW hS (.ref (xa E 186) :: [.int (-1000001)])⟩ rfl rfl hl.1 rfl (lv_room (Nat.le_of_ble_eq_true rfl)) dX13_changes_13 ⟨Nat.le_refl _, Nat.le_refl _⟩) hS (fun H locs hW hS => ?_)
      refine lv_i2l (v := (r6.1 : Int32).toInt64) hx hb dX13_changes_16 rfl ?_
      obtain ⟨h1, h2⟩ := Prod.mk.inj (Option.some.inj h); subst h1; subst h2
      exact x_lret F hr hlk hW hS dX13_changes_17
/-! WildBellsModel.drawn(I)I -/
def fX13_drawn (σ : xM) (a1 : Int32) : Option (Int32 × xM) :=
  if a1 = 0 then none else (some (((((((xup σ 20 ((3 : Int32).toNatClampNeg) (((σ 20 ((3 : Int32).toNatClampNeg)) * 1103515245) + 12345)) 20 ((3 : Int32).toNatClampNeg)) : Int32).toUInt32 >>> ((8 : Int32).toUInt32 &&& Int32.toUInt32 31)).toInt32) - (((((xup σ 20 ((3 : Int32).toNatClampNeg) (((σ 20 ((3 : Int32).toNatClampNeg)) * 1103515245) + 12345)) 20 ((3 : Int32).toNatClampNeg)) : Int32).toUInt32 >>> ((8 : Int32).toUInt32 &&& Int32.toUInt32 31)).toInt32) / a1 * a1), (xup σ 20 ((3 : Int32).toNatClampNeg) (((σ 20 ((3 : Int32).toNatClampNeg)) * 1103515245) + 12345))))
set_option maxHeartbeats 4000000 in
theorem mX13_drawn (l : Launch) (E : xE) (σ : xM) (a1 : Int32) (r : Int32) (σ' : xM) (h : fX13_drawn σ a1 = some (r, σ')) : Met l yX13_drawn (ws_ yX13_drawn cX13_drawn 2 (some .int)) ({ frames := 0, cells := 0, slots := 0, locals := 0 } : Room) (xPc E σ [.ref (xa E 186), .int a1]) (xQc E (.returned (some (.int r))) σ') 0 0 (xA E) := by
  refine x_of (C := RX13) (n := "drawn") (d := "(I)I") (r := (some .int)) (by decide) rfl (by first | decide | exact Nat.le_of_ble_eq_true rfl) ?_
  intro p e s m below meth c ls F hr hlk hW hS hl
  have hl : lv_has ls 2 [(0, .ref (xa E 186)), (1, .int a1)] := hl
  obtain ⟨hx, hb, hml, hown, hts⟩ := id F.1
  have hK := F.2.1.1
  unfold fX13_drawn at h
  refine lv_aload_n hx hb dX13_drawn_0 rfl (lv_at hl 0 rfl) ?_
  refine va_get (D := xD E) (ci := 13) (v := .ref (xa E 187)) (C := RX13) (T := TX13) (N := 24) hx hb hts in_X13 hown hK (xO_M hW) 0 rfl rfl 0 (by decide) (hts _ q1196) (fun _ h9 => h9) rfl dX13_drawn_1 ?_
  refine lv_iconst (v := 3) hx hb dX13_drawn_4 (by decide) ?_
  refine lv_aload_n hx hb dX13_drawn_5 rfl (lv_at hl 0 rfl) ?_
  refine va_get (D := xD E) (ci := 13) (v := .ref (xa E 187)) (C := RX13) (T := TX13) (N := 24) hx hb hts in_X13 hown hK (xO_M hW) 0 rfl rfl 0 (by decide) (hts _ q1196) (fun _ h9 => h9) rfl dX13_drawn_6 ?_
  refine lv_iconst (v := 3) hx hb dX13_drawn_9 (by decide) ?_
  refine va_iald hx hb hK (xV_p hW xp_187) 0 0 rfl rfl (x_lit (by decide)) dX13_drawn_10 ?_
  refine lv_ldc (v := 1103515245) hx hb hown (hts _ q1599) dX13_drawn_11 ?_
  refine lv_imul hx hb dX13_drawn_13 ?_
  refine lv_sipush (v := 12345) hx hb dX13_drawn_14 (by decide) ?_
  refine lv_iadd hx hb dX13_drawn_17 ?_
  refine x_iast F hW hS 187 186 20 (fun j => j) xp_187.1 xp_187.2.1 xp_187.2.2.1 xp_187.2.2.2 (x_lit (by decide)) dX13_drawn_18 (fun H locs hW hS => ?_)
  refine lv_aload_n hx hb dX13_drawn_19 rfl (lv_at hl 0 rfl) ?_
  refine va_get (D := xD E) (ci := 13) (v := .ref (xa E 187)) (C := RX13) (T := TX13) (N := 24) hx hb hts in_X13 hown hK (xO_M hW) 0 rfl rfl 0 (by decide) (hts _ q1196) (fun _ h9 => h9) rfl dX13_drawn_20 ?_
  refine lv_iconst (v := 3) hx hb dX13_drawn_23 (by decide) ?_
  refine va_iald hx hb hK (xV_p hW xp_187) 0 0 rfl rfl (x_lit (by decide)) dX13_drawn_24 ?_
  refine lv_bipush (v := 8) hx hb dX13_drawn_25 (by decide) ?_
  refine lv_iushr (v := ((((xup σ 20 ((3 : Int32).toNatClampNeg) (((σ 20 ((3 : Int32).toNatClampNeg)) * 1103515245) + 12345)) 20 ((3 : Int32).toNatClampNeg)) : Int32).toUInt32 >>> ((8 : Int32).toUInt32 &&& Int32.toUInt32 31)).toInt32) hx hb dX13_drawn_27 rfl ?_
  refine lv_iload_n hx hb dX13_drawn_28 rfl (lv_at hl 1 rfl) ?_
  by_cases hd1 : a1 = 0
  · rw [if_pos hd1] at h; cases h
  · rw [if_neg hd1] at h
    refine lv_irem hx hb dX13_drawn_29 hd1 ?_
    obtain ⟨h1, h2⟩ := Prod.mk.inj (Option.some.inj h); subst h1; subst h2
    exact x_iret F hr hlk hW hS dX13_drawn_30
/-! WildBellsModel.thunder(I)I -/
def gX13_thunder_48 (b1 : Int32) : Nat → Int32 → xM → Option (Int32 × xM)
  | 0, _, _ => none
  | n + 1, x2, σ => if b1 ≤ x2 then (some (x2, σ)) else ((fX13_drawn σ (σ 20 ((2 : Int32).toNatClampNeg))).bind (fun r8 => (fX13_drawn r8.2 64).bind (fun r10 => (fX13_isCaught r10.2 r8.1).bind (fun r12 => if r12 = 0 then (if xin (fX13_at r8.1 1) 186 then ((fX13_hour (xup r10.2 20 ((fX13_at r8.1 1).toNatClampNeg) r10.1)).bind (fun r16 => gX13_thunder_48 b1 n (x2 + 1) r16)) else none) else ((fX13_bellIs r10.2 r8.1 1).bind (fun r18 => if xin (fX13_at r8.1 1) 186 then ((fX13_hour (xup r10.2 20 ((fX13_at r8.1 1).toNatClampNeg) r18)).bind (fun r21 => gX13_thunder_48 b1 n (x2 + 1) r21)) else none))))))
def fX13_thunder (σ : xM) (a1 : Int32) : Option (Int32 × xM) :=
  if (fX13_within a1 1 20) = 0 then ((fX13_finding σ (-1000001)).bind (fun r31 => some (r31.1, r31.2))) else (if (σ 20 ((2 : Int32).toNatClampNeg)) = 0 then ((fX13_finding σ (-1000005)).bind (fun r4 => some (r4.1, r4.2))) else (if ((σ 20 ((0 : Int32).toNatClampNeg)) + a1) ≤ 99999 then ((gX13_thunder_48 a1 xfu 0 σ).bind (fun q23 => (fX13_caughtNow q23.2).bind (fun r25 => (fX13_bits r25).bind (fun r27 => some (r27, q23.2))))) else ((fX13_finding σ (-1000005)).bind (fun r29 => some (r29.1, r29.2)))))
set_option maxHeartbeats 4000000 in
theorem lX13_thunder_48 {p : Program} {l : Launch} {e : Env} {s : State} {m : MethodId} {av : Array Value} {below : List Frame} {meth : Method} {c : Code} {Q : State → Prop} {E : xE} {b1 : Int32} (F : xFx p m c cX13_thunder 5 s av RX13 E) : ∀ (n : Nat) (x2 : Int32) (σ : xM) (q : (Int32 × xM)), gX13_thunder_48 b1 n x2 σ = some q → ∀ (H : Heap) (locs : List Loc) (ls : Array Slot), xW E σ H → va_S (xA E) s.heap H locs → lv_has ls 5 [(2, .int x2), (0, .ref (xa E 186)), (1, .int b1)] → (∀ (H : Heap) (locs : List Loc) (ls : Array Slot), xW E q.2 H → va_S (xA E) s.heap H locs → lv_has ls 5 [(2, .int q.1), (0, .ref (xa E 186)), (1, .int b1)] → W p l e ({ frames := 7, cells := 0, slots := 0, locals := 167 } : Room) s m av below meth c H locs 0 0 Q (F0 m 111 ls [])) → W p l e ({ frames := 7, cells := 0, slots := 0, locals := 167 } : Room) s m av below meth c H locs 0 0 Q (F0 m 48 ls []) := by
  obtain ⟨hx, hb, hml, hown, hts⟩ := id F.1
  have hK := F.2.1.1
  intro n
  induction n with
  | zero =>
    intro x2 σ q h
    cases h
  | succ n ih =>
    intro x2 σ q h H locs ls hW hS hl kk
    rw [gX13_thunder_48] at h
    refine lv_iload_n hx hb dX13_thunder_48 rfl (lv_at hl 0 rfl) ?_
    refine lv_iload_n hx hb dX13_thunder_49 rfl (lv_at hl 2 rfl) ?_
    refine lv_icmp_ge (tgt := 111) hx hb dX13_thunder_50 (by decide) (fun c6 => ?_) (fun c6 => ?_)
    · rw [if_pos c6] at h
      have h := Option.some.inj h; subst h
      exact kk _ _ _ hW hS (lv_sub hl [0, 1, 2] rfl)
    · rw [if_neg c6] at h
      refine lv_aload_n hx hb dX13_thunder_53 rfl (lv_at hl 1 rfl) ?_
      refine lv_aload_n hx hb dX13_thunder_54 rfl (lv_at hl 1 rfl) ?_
      refine va_get (D := xD E) (ci := 13) (v := .ref (xa E 187)) (C := RX13) (T := TX13) (N := 24) hx hb hts in_X13 hown hK (xO_M hW) 0 rfl rfl 0 (by decide) (hts _ q1196) (fun _ h9 => h9) rfl dX13_thunder_55 ?_
      refine lv_iconst (v := 2) hx hb dX13_thunder_58 (by decide) ?_
      refine va_iald hx hb hK (xV_p hW xp_187) 0 0 rfl rfl (x_lit (by decide)) dX13_thunder_59 ?_
      cases g7 : fX13_drawn σ (σ 20 ((2 : Int32).toNatClampNeg)) with
      | none => rw [g7] at h; cases h
      | some r8 =>
        rw [g7, Option.bind_some] at h
        refine x_backi (va_runV (C := RX13) (b := (xa E 186)) (As := [.int (σ 20 ((2 : Int32).toNatClampNeg))]) (rest := []) F.1 (mX13_drawn l E σ (σ 20 ((2 : Int32).toNatClampNeg)) r8.1 r8.2 g7) (cwV 1 hts (lw_V q1595 q1597 qs87 q115 q1598) rfl rfl rfl (by decide +kernel) ⟨Nat.le_of_ble_eq_true rfl, Nat.le_of_ble_eq_true rfl⟩) ⟨xPc.blind, va_recv hK (xO_M hW) (ci := 13) (q0 := 0) rfl rfl, F.pre hW hS (.ref (xa E 186) :: [.int (σ 20 ((2 : Int32).toNatClampNeg))])⟩ rfl rfl hl.1 rfl (lv_room (Nat.le_of_ble_eq_true rfl)) dX13_thunder_60 ⟨Nat.le_refl _, Nat.le_refl _⟩) hS (fun H locs hW hS => ?_)
        refine lv_istore_n (lv' := [(3, .int r8.1), (2, .int x2), (0, .ref (xa E 186)), (1, .int b1)]) hx hb dX13_thunder_63 rfl hl (by decide) rfl (fun ls hl => ?_)
        refine lv_aload_n hx hb dX13_thunder_64 rfl (lv_at hl 2 rfl) ?_
        refine lv_bipush (v := 64) hx hb dX13_thunder_65 (by decide) ?_
        cases g9 : fX13_drawn r8.2 64 with
        | none => rw [g9] at h; cases h
        | some r10 =>
          rw [g9, Option.bind_some] at h
          refine x_backi (va_runV (C := RX13) (b := (xa E 186)) (As := [.int 64]) (rest := []) F.1 (mX13_drawn l E r8.2 64 r10.1 r10.2 g9) (cwV 1 hts (lw_V q1595 q1597 qs87 q115 q1598) rfl rfl rfl (by decide +kernel) ⟨Nat.le_of_ble_eq_true rfl, Nat.le_of_ble_eq_true rfl⟩) ⟨xPc.blind, va_recv hK (xO_M hW) (ci := 13) (q0 := 0) rfl rfl, F.pre hW hS (.ref (xa E 186) :: [.int 64])⟩ rfl rfl hl.1 rfl (lv_room (Nat.le_of_ble_eq_true rfl)) dX13_thunder_67 ⟨Nat.le_refl _, Nat.le_refl _⟩) hS (fun H locs hW hS => ?_)
          refine lv_istore (lv' := [(4, .int r10.1), (3, .int r8.1), (2, .int x2), (0, .ref (xa E 186)), (1, .int b1)]) hx hb dX13_thunder_70 hl (by decide) rfl (fun ls hl => ?_)
          refine lv_aload_n hx hb dX13_thunder_72 rfl (lv_at hl 3 rfl) ?_
          refine va_get (D := xD E) (ci := 13) (v := .ref (xa E 187)) (C := RX13) (T := TX13) (N := 24) hx hb hts in_X13 hown hK (xO_M hW) 0 rfl rfl 0 (by decide) (hts _ q1196) (fun _ h9 => h9) rfl dX13_thunder_73 ?_
          refine lv_iload_n hx hb dX13_thunder_76 rfl (lv_at hl 1 rfl) ?_
          refine lv_iconst (v := 1) hx hb dX13_thunder_77 (by decide) ?_
          refine x_backi (va_runS (As := [.int r8.1, .int 1]) (rest := [.ref (xa E 187)]) F.1 (mX13_at l E r10.2 r8.1 1) (va_cwS 2 hts (lw_S q1315 q1316 q115 q1317) rfl rfl rfl (by decide +kernel) ⟨Nat.le_of_ble_eq_true rfl, Nat.le_of_ble_eq_true rfl⟩) ⟨xPc.blind, F.pre hW hS [.int r8.1, .int 1]⟩ rfl rfl hl.1 rfl (lv_room (Nat.le_of_ble_eq_true rfl)) dX13_thunder_78 ⟨Nat.le_refl _, Nat.le_refl _⟩) hS (fun H locs hW hS => ?_)
          refine lv_aload_n hx hb dX13_thunder_81 rfl (lv_at hl 3 rfl) ?_
          refine lv_iload_n hx hb dX13_thunder_82 rfl (lv_at hl 1 rfl) ?_
          cases g11 : fX13_isCaught r10.2 r8.1 with
          | none => rw [g11] at h; cases h
          | some r12 =>
            rw [g11, Option.bind_some] at h
            refine x_backi (va_runV (C := RX13) (b := (xa E 186)) (As := [.int r8.1]) (rest := [.int (fX13_at r8.1 1), .ref (xa E 187)]) F.1 (mX13_isCaught l E r10.2 r8.1 r12 g11) (cwV 1 hts (lw_V q1353 q1355 qs60 q115 q1356) rfl rfl rfl (by decide +kernel) ⟨Nat.le_of_ble_eq_true rfl, Nat.le_of_ble_eq_true rfl⟩) ⟨xPc.blind, va_recv hK (xO_M hW) (ci := 13) (q0 := 0) rfl rfl, F.pre hW hS (.ref (xa E 186) :: [.int r8.1])⟩ rfl rfl hl.1 rfl (lv_room (Nat.le_of_ble_eq_true rfl)) dX13_thunder_83 ⟨Nat.le_refl _, Nat.le_refl _⟩) hS (fun H locs hW hS => ?_)
            refine lv_if_eq (tgt := 98) hx hb dX13_thunder_86 (by decide) (fun c13 => ?_) (fun c13 => ?_)
            · rw [if_pos c13] at h
              refine lv_iload hx hb dX13_thunder_98 (lv_at hl 0 rfl) ?_
              by_cases hi14 : xin (fX13_at r8.1 1) 186
              · rw [if_pos hi14] at h
                refine x_iast F hW hS 187 186 20 (fun j => j) xp_187.1 xp_187.2.1 xp_187.2.2.1 xp_187.2.2.2 hi14 dX13_thunder_100 (fun H locs hW hS => ?_)
                refine lv_aload_n hx hb dX13_thunder_101 rfl (lv_at hl 3 rfl) ?_
                cases g15 : fX13_hour (xup r10.2 20 ((fX13_at r8.1 1).toNatClampNeg) r10.1) with
                | none => rw [g15] at h; cases h
                | some r16 =>
                  rw [g15, Option.bind_some] at h
                  refine x_backv (va_runV (C := RX13) (b := (xa E 186)) (As := []) (rest := []) F.1 (mX13_hour l E (xup r10.2 20 ((fX13_at r8.1 1).toNatClampNeg) r10.1) r16 g15) (cwV 0 hts (lw_V q1403 q1405 qs67 q115 q1406) rfl rfl rfl (by decide +kernel) ⟨Nat.le_of_ble_eq_true rfl, Nat.le_of_ble_eq_true rfl⟩) ⟨xPc.blind, va_recv hK (xO_M hW) (ci := 13) (q0 := 0) rfl rfl, F.pre hW hS (.ref (xa E 186) :: [])⟩ rfl rfl hl.1 rfl (lv_room (Nat.le_of_ble_eq_true rfl)) dX13_thunder_102 ⟨Nat.le_refl _, Nat.le_refl _⟩) hS (fun H locs hW hS => ?_)
                  refine lv_iinc (k := 2) (v := (x2 + 1)) (lv' := [(2, .int (x2 + 1)), (4, .int r10.1), (3, .int r8.1), (0, .ref (xa E 186)), (1, .int b1)]) hx hb dX13_thunder_105 hl rfl rfl (by decide) rfl (fun ls hl => ?_)
                  refine lv_goto (tgt := 48) hx hb dX13_thunder_108 (by decide) ?_
                  exact ih (x2 + 1) r16 _ h _ _ _ hW hS (lv_sub hl [0, 3, 4] rfl) kk
              · rw [if_neg hi14] at h; cases h
            · rw [if_neg c13] at h
              refine lv_aload_n hx hb dX13_thunder_89 rfl (lv_at hl 3 rfl) ?_
              refine lv_iload_n hx hb dX13_thunder_90 rfl (lv_at hl 1 rfl) ?_
              refine lv_iconst (v := 1) hx hb dX13_thunder_91 (by decide) ?_
              cases g17 : fX13_bellIs r10.2 r8.1 1 with
              | none => rw [g17] at h; cases h
              | some r18 =>
                rw [g17, Option.bind_some] at h
                refine x_backi (va_runV (C := RX13) (b := (xa E 186)) (As := [.int r8.1, .int 1]) (rest := [.int (fX13_at r8.1 1), .ref (xa E 187)]) F.1 (mX13_bellIs l E r10.2 r8.1 1 r18 g17) (cwV 2 hts (lw_V q1326 q1328 qs56 q115 q1329) rfl rfl rfl (by decide +kernel) ⟨Nat.le_of_ble_eq_true rfl, Nat.le_of_ble_eq_true rfl⟩) ⟨xPc.blind, va_recv hK (xO_M hW) (ci := 13) (q0 := 0) rfl rfl, F.pre hW hS (.ref (xa E 186) :: [.int r8.1, .int 1])⟩ rfl rfl hl.1 rfl (lv_room (Nat.le_of_ble_eq_true rfl)) dX13_thunder_92 ⟨Nat.le_refl _, Nat.le_refl _⟩) hS (fun H locs hW hS => ?_)
                refine lv_goto (tgt := 100) hx hb dX13_thunder_95 (by decide) ?_
                by_cases hi19 : xin (fX13_at r8.1 1) 186
                · rw [if_pos hi19] at h
                  refine x_iast F hW hS 187 186 20 (fun j => j) xp_187.1 xp_187.2.1 xp_187.2.2.1 xp_187.2.2.2 hi19 dX13_thunder_100 (fun H locs hW hS => ?_)
                  refine lv_aload_n hx hb dX13_thunder_101 rfl (lv_at hl 3 rfl) ?_
                  cases g20 : fX13_hour (xup r10.2 20 ((fX13_at r8.1 1).toNatClampNeg) r18) with
                  | none => rw [g20] at h; cases h
                  | some r21 =>
                    rw [g20, Option.bind_some] at h
                    refine x_backv (va_runV (C := RX13) (b := (xa E 186)) (As := []) (rest := []) F.1 (mX13_hour l E (xup r10.2 20 ((fX13_at r8.1 1).toNatClampNeg) r18) r21 g20) (cwV 0 hts (lw_V q1403 q1405 qs67 q115 q1406) rfl rfl rfl (by decide +kernel) ⟨Nat.le_of_ble_eq_true rfl, Nat.le_of_ble_eq_true rfl⟩) ⟨xPc.blind, va_recv hK (xO_M hW) (ci := 13) (q0 := 0) rfl rfl, F.pre hW hS (.ref (xa E 186) :: [])⟩ rfl rfl hl.1 rfl (lv_room (Nat.le_of_ble_eq_true rfl)) dX13_thunder_102 ⟨Nat.le_refl _, Nat.le_refl _⟩) hS (fun H locs hW hS => ?_)
                    refine lv_iinc (k := 2) (v := (x2 + 1)) (lv' := [(2, .int (x2 + 1)), (4, .int r10.1), (3, .int r8.1), (0, .ref (xa E 186)), (1, .int b1)]) hx hb dX13_thunder_105 hl rfl rfl (by decide) rfl (fun ls hl => ?_)
                    refine lv_goto (tgt := 48) hx hb dX13_thunder_108 (by decide) ?_
                    exact ih (x2 + 1) r21 _ h _ _ _ hW hS (lv_sub hl [0, 3, 4] rfl) kk
                · rw [if_neg hi19] at h; cases h
set_option maxHeartbeats 4000000 in
theorem mX13_thunder (l : Launch) (E : xE) (σ : xM) (a1 : Int32) (r : Int32) (σ' : xM) (h : fX13_thunder σ a1 = some (r, σ')) : Met l yX13_thunder (ws_ yX13_thunder cX13_thunder 5 (some .int)) ({ frames := 7, cells := 0, slots := 0, locals := 167 } : Room) (xPc E σ [.ref (xa E 186), .int a1]) (xQc E (.returned (some (.int r))) σ') 0 0 (xA E) := by
  refine x_of (C := RX13) (n := "thunder") (d := "(I)I") (r := (some .int)) (by decide) rfl (by first | decide | exact Nat.le_of_ble_eq_true rfl) ?_
  intro p e s m below meth c ls F hr hlk hW hS hl
  have hl : lv_has ls 5 [(0, .ref (xa E 186)), (1, .int a1)] := hl
  obtain ⟨hx, hb, hml, hown, hts⟩ := id F.1
  have hK := F.2.1.1
  unfold fX13_thunder at h
  refine lv_iload_n hx hb dX13_thunder_0 rfl (lv_at hl 1 rfl) ?_
  refine lv_iconst (v := 1) hx hb dX13_thunder_1 (by decide) ?_
  refine lv_bipush (v := 20) hx hb dX13_thunder_2 (by decide) ?_
  refine x_backi (va_runS (As := [.int a1, .int 1, .int 20]) (rest := []) F.1 (mX13_within l E σ a1 1 20) (va_cwS 3 hts (lw_S q1276 q1277 q115 q1278) rfl rfl rfl (by decide +kernel) ⟨Nat.le_of_ble_eq_true rfl, Nat.le_of_ble_eq_true rfl⟩) ⟨xPc.blind, F.pre hW hS [.int a1, .int 1, .int 20]⟩ rfl rfl hl.1 rfl (lv_room (Nat.le_of_ble_eq_true rfl)) dX13_thunder_4 ⟨Nat.le_refl _, Nat.le_refl _⟩) hS (fun H locs hW hS => ?_)
  refine lv_if_ne (tgt := 17) hx hb dX13_thunder_7 (by decide) (fun c1 => ?_) (fun c1 => ?_)
  · rw [if_neg c1] at h
    refine lv_aload_n hx hb dX13_thunder_17 rfl (lv_at hl 0 rfl) ?_
    refine va_get (D := xD E) (ci := 13) (v := .ref (xa E 187)) (C := RX13) (T := TX13) (N := 24) hx hb hts in_X13 hown hK (xO_M hW) 0 rfl rfl 0 (by decide) (hts _ q1196) (fun _ h9 => h9) rfl dX13_thunder_18 ?_
    refine lv_iconst (v := 2) hx hb dX13_thunder_21 (by decide) ?_
    refine va_iald hx hb hK (xV_p hW xp_187) 0 0 rfl rfl (x_lit (by decide)) dX13_thunder_22 ?_
    refine lv_if_eq (tgt := 39) hx hb dX13_thunder_23 (by decide) (fun c2 => ?_) (fun c2 => ?_)
    · rw [if_pos c2] at h
      refine lv_aload_n hx hb dX13_thunder_39 rfl (lv_at hl 0 rfl) ?_
      refine lv_ldc (v := (-1000005)) hx hb hown (hts _ q1398) dX13_thunder_40 ?_
      cases g3 : fX13_finding σ (-1000005) with
      | none => rw [g3] at h; cases h
      | some r4 =>
        rw [g3, Option.bind_some] at h
        refine x_backi (va_runV (C := RX13) (b := (xa E 186)) (As := [.int (-1000005)]) (rest := []) F.1 (mX13_finding l E σ (-1000005) r4.1 r4.2 g3) (cwV 1 hts (lw_V q1280 q1282 qs52 q115 q1283) rfl rfl rfl (by decide +kernel) ⟨Nat.le_of_ble_eq_true rfl, Nat.le_of_ble_eq_true rfl⟩) ⟨xPc.blind, va_recv hK (xO_M hW) (ci := 13) (q0 := 0) rfl rfl, F.pre hW hS (.ref (xa E 186) :: [.int (-1000005)])⟩ rfl rfl hl.1 rfl (lv_room (Nat.le_of_ble_eq_true rfl)) dX13_thunder_42 ⟨Nat.le_refl _, Nat.le_refl _⟩) hS (fun H locs hW hS => ?_)
        obtain ⟨h1, h2⟩ := Prod.mk.inj (Option.some.inj h); subst h1; subst h2
        exact x_iret F hr hlk hW hS dX13_thunder_45
    · rw [if_neg c2] at h
      refine lv_aload_n hx hb dX13_thunder_26 rfl (lv_at hl 0 rfl) ?_
      refine va_get (D := xD E) (ci := 13) (v := .ref (xa E 187)) (C := RX13) (T := TX13) (N := 24) hx hb hts in_X13 hown hK (xO_M hW) 0 rfl rfl 0 (by decide) (hts _ q1196) (fun _ h9 => h9) rfl dX13_thunder_27 ?_
      refine lv_iconst (v := 0) hx hb dX13_thunder_30 (by decide) ?_
      refine va_iald hx hb hK (xV_p hW xp_187) 0 0 rfl rfl (x_lit (by decide)) dX13_thunder_31 ?_
      refine lv_iload_n hx hb dX13_thunder_32 rfl (lv_at hl 1 rfl) ?_
      refine lv_iadd hx hb dX13_thunder_33 ?_
      refine lv_ldc (v := 99999) hx hb hown (hts _ q1397) dX13_thunder_34 ?_
      refine lv_icmp_le (tgt := 46) hx hb dX13_thunder_36 (by decide) (fun c5 => ?_) (fun c5 => ?_)
      · rw [if_pos c5] at h
        refine lv_iconst (v := 0) hx hb dX13_thunder_46 (by decide) ?_
        refine lv_istore_n (lv' := [(2, .int 0), (0, .ref (xa E 186)), (1, .int a1)]) hx hb dX13_thunder_47 rfl hl (by decide) rfl (fun ls hl => ?_)
        cases g22 : gX13_thunder_48 a1 xfu 0 σ with
        | none => rw [g22] at h; cases h
        | some q23 =>
          rw [g22, Option.bind_some] at h
          refine lX13_thunder_48 F xfu 0 σ q23 g22 _ _ _ hW hS (lv_sub hl [0, 1, 2] rfl) (fun H locs ls hW hS hl => ?_)
          refine lv_aload_n hx hb dX13_thunder_111 rfl (lv_at hl 1 rfl) ?_
          cases g24 : fX13_caughtNow q23.2 with
          | none => rw [g24] at h; cases h
          | some r25 =>
            rw [g24, Option.bind_some] at h
            refine x_backi (va_runV (C := RX13) (b := (xa E 186)) (As := []) (rest := []) F.1 (mX13_caughtNow l E q23.2 r25 g24) (cwV 0 hts (lw_V q1411 q1413 qs69 q115 q1414) rfl rfl rfl (by decide +kernel) ⟨Nat.le_of_ble_eq_true rfl, Nat.le_of_ble_eq_true rfl⟩) ⟨xPc.blind, va_recv hK (xO_M hW) (ci := 13) (q0 := 0) rfl rfl, F.pre hW hS (.ref (xa E 186) :: [])⟩ rfl rfl hl.1 rfl (lv_room (Nat.le_of_ble_eq_true rfl)) dX13_thunder_112 ⟨Nat.le_refl _, Nat.le_refl _⟩) hS (fun H locs hW hS => ?_)
            cases g26 : fX13_bits r25 with
            | none => rw [g26] at h; cases h
            | some r27 =>
              rw [g26, Option.bind_some] at h
              refine x_backi (va_runS (As := [.int r25]) (rest := []) F.1 (mX13_bits l E q23.2 r25 r27 g26) (va_cwS 1 hts (lw_S q1415 q1416 q115 q1417) rfl rfl rfl (by decide +kernel) ⟨Nat.le_of_ble_eq_true rfl, Nat.le_of_ble_eq_true rfl⟩) ⟨xPc.blind, F.pre hW hS [.int r25]⟩ rfl rfl hl.1 rfl (lv_room (Nat.le_of_ble_eq_true rfl)) dX13_thunder_115 ⟨Nat.le_refl _, Nat.le_refl _⟩) hS (fun H locs hW hS => ?_)
              obtain ⟨h1, h2⟩ := Prod.mk.inj (Option.some.inj h); subst h1; subst h2
              exact x_iret F hr hlk hW hS dX13_thunder_118
      · rw [if_neg c5] at h
        refine lv_aload_n hx hb dX13_thunder_39 rfl (lv_at hl 0 rfl) ?_
        refine lv_ldc (v := (-1000005)) hx hb hown (hts _ q1398) dX13_thunder_40 ?_
        cases g28 : fX13_finding σ (-1000005) with
        | none => rw [g28] at h; cases h
        | some r29 =>
          rw [g28, Option.bind_some] at h
          refine x_backi (va_runV (C := RX13) (b := (xa E 186)) (As := [.int (-1000005)]) (rest := []) F.1 (mX13_finding l E σ (-1000005) r29.1 r29.2 g28) (cwV 1 hts (lw_V q1280 q1282 qs52 q115 q1283) rfl rfl rfl (by decide +kernel) ⟨Nat.le_of_ble_eq_true rfl, Nat.le_of_ble_eq_true rfl⟩) ⟨xPc.blind, va_recv hK (xO_M hW) (ci := 13) (q0 := 0) rfl rfl, F.pre hW hS (.ref (xa E 186) :: [.int (-1000005)])⟩ rfl rfl hl.1 rfl (lv_room (Nat.le_of_ble_eq_true rfl)) dX13_thunder_42 ⟨Nat.le_refl _, Nat.le_refl _⟩) hS (fun H locs hW hS => ?_)
          obtain ⟨h1, h2⟩ := Prod.mk.inj (Option.some.inj h); subst h1; subst h2
          exact x_iret F hr hlk hW hS dX13_thunder_45
  · rw [if_pos c1] at h
    refine lv_aload_n hx hb dX13_thunder_10 rfl (lv_at hl 0 rfl) ?_
    refine lv_ldc (v := (-1000001)) hx hb hown (hts _ q1279) dX13_thunder_11 ?_
    cases g30 : fX13_finding σ (-1000001) with
    | none => rw [g30] at h; cases h
    | some r31 =>
      rw [g30, Option.bind_some] at h
      refine x_backi (va_runV (C := RX13) (b := (xa E 186)) (As := [.int (-1000001)]) (rest := []) F.1 (mX13_finding l E σ (-1000001) r31.1 r31.2 g30) (cwV 1 hts (lw_V q1280 q1282 qs52 q115 q1283) rfl rfl rfl (by decide +kernel) ⟨Nat.le_of_ble_eq_true rfl, Nat.le_of_ble_eq_true rfl⟩) ⟨xPc.blind, va_recv hK (xO_M hW) (ci := 13) (q0 := 0) rfl rfl, F.pre hW hS (.ref (xa E 186) :: [.int (-1000001)])⟩ rfl rfl hl.1 rfl (lv_room (Nat.le_of_ble_eq_true rfl)) dX13_thunder_13 ⟨Nat.le_refl _, Nat.le_refl _⟩) hS (fun H locs hW hS => ?_)
      obtain ⟨h1, h2⟩ := Prod.mk.inj (Option.some.inj h); subst h1; subst h2
      exact x_iret F hr hlk hW hS dX13_thunder_16
/-! WildBellsModel.seed(I)I -/
def fX13_seed (σ : xM) (a1 : Int32) : Option (Int32 × xM) :=
  (fX13_become σ 3 a1).bind (fun r2 => some (r2.1, r2.2))
set_option maxHeartbeats 4000000 in
theorem mX13_seed (l : Launch) (E : xE) (σ : xM) (a1 : Int32) (r : Int32) (σ' : xM) (h : fX13_seed σ a1 = some (r, σ')) : Met l yX13_seed (ws_ yX13_seed cX13_seed 2 (some .int)) ({ frames := 1, cells := 0, slots := 0, locals := 23 } : Room) (xPc E σ [.ref (xa E 186), .int a1]) (xQc E (.returned (some (.int r))) σ') 0 0 (xA E) := by
  refine x_of (C := RX13) (n := "seed") (d := "(I)I") (r := (some .int)) (by decide) rfl (by first | decide | exact Nat.le_of_ble_eq_true rfl) ?_
  intro p e s m below meth c ls F hr hlk hW hS hl
  have hl : lv_has ls 2 [(0, .ref (xa E 186)), (1, .int a1)] := hl
  obtain ⟨hx, hb, hml, hown, hts⟩ := id F.1
  have hK := F.2.1.1
  unfold fX13_seed at h
  refine lv_aload_n hx hb dX13_seed_0 rfl (lv_at hl 0 rfl) ?_
  refine lv_iconst (v := 3) hx hb dX13_seed_1 (by decide) ?_
  refine lv_iload_n hx hb dX13_seed_2 rfl (lv_at hl 1 rfl) ?_
  cases g1 : fX13_become σ 3 a1 with
  | none => rw [g1] at h; cases h
  | some r2 =>
    rw [g1, Option.bind_some] at h
    refine x_backi (va_runV (C := RX13) (b := (xa E 186)) (As := [.int 3, .int a1]) (rest := []) F.1 (mX13_become l E σ 3 a1 r2.1 r2.2 g1) (cwV 2 hts (lw_V q1284 q1286 qs53 q115 q1287) rfl rfl rfl (by decide +kernel) ⟨Nat.le_of_ble_eq_true rfl, Nat.le_of_ble_eq_true rfl⟩) ⟨xPc.blind, va_recv hK (xO_M hW) (ci := 13) (q0 := 0) rfl rfl, F.pre hW hS (.ref (xa E 186) :: [.int 3, .int a1])⟩ rfl rfl hl.1 rfl (lv_room (Nat.le_of_ble_eq_true rfl)) dX13_seed_3 ⟨Nat.le_refl _, Nat.le_refl _⟩) hS (fun H locs hW hS => ?_)
    obtain ⟨h1, h2⟩ := Prod.mk.inj (Option.some.inj h); subst h1; subst h2
    exact x_iret F hr hlk hW hS dX13_seed_6
/-! WildBellsModel.feed(II)I -/
def gX13_feed_38 (b1 : Int32) : Nat → Int32 → xM → Option (Int32 × xM)
  | 0, _, _ => none
  | n + 1, x3, σ => if x3 < 0 then (some (x3, σ)) else (if xin (σ 24 2) 120 then (gX13_feed_38 b1 n (x3 + (-1)) (xup (xup σ 26 ((σ 24 2).toNatClampNeg) ((b1 >>> ((8 * x3) &&& 31)) &&& 255)) 24 2 (((xup σ 26 ((σ 24 2).toNatClampNeg) ((b1 >>> ((8 * x3) &&& 31)) &&& 255)) 24 2) + 1))) else none)
def fX13_feed (σ : xM) (a1 : Int32) (a2 : Int32) : Option (Int32 × xM) :=
  if (fX13_within a2 1 4) = 0 then ((fX13_finding σ (-1000001)).bind (fun r10 => some (r10.1, r10.2))) else (if ((σ 24 2) + a2) ≤ 120 then ((gX13_feed_38 a1 xfu (a2 - 1) σ).bind (fun q6 => some ((q6.2 24 2), q6.2))) else ((fX13_finding σ (-1000002)).bind (fun r8 => some (r8.1, r8.2))))
set_option maxHeartbeats 4000000 in
theorem lX13_feed_38 {p : Program} {l : Launch} {e : Env} {s : State} {m : MethodId} {av : Array Value} {below : List Frame} {meth : Method} {c : Code} {Q : State → Prop} {E : xE} {b1 : Int32} {b2 : Int32} (F : xFx p m c cX13_feed 4 s av RX13 E) : ∀ (n : Nat) (x3 : Int32) (σ : xM) (q : (Int32 × xM)), gX13_feed_38 b1 n x3 σ = some q → ∀ (H : Heap) (locs : List Loc) (ls : Array Slot), xW E σ H → va_S (xA E) s.heap H locs → lv_has ls 4 [(3, .int x3), (0, .ref (xa E 186)), (1, .int b1), (2, .int b2)] → (∀ (H : Heap) (locs : List Loc) (ls : Array Slot), xW E q.2 H → va_S (xA E) s.heap H locs → lv_has ls 4 [(3, .int q.1), (0, .ref (xa E 186)), (1, .int b1), (2, .int b2)] → W p l e ({ frames := 1, cells := 0, slots := 0, locals := 22 } : Room) s m av below meth c H locs 0 0 Q (F0 m 77 ls [])) → W p l e ({ frames := 1, cells := 0, slots := 0, locals := 22 } : Room) s m av below meth c H locs 0 0 Q (F0 m 38 ls []) := by
  obtain ⟨hx, hb, hml, hown, hts⟩ := id F.1
  have hK := F.2.1.1
  intro n
  induction n with
  | zero =>
    intro x3 σ q h
    cases h
  | succ n ih =>
    intro x3 σ q h H locs ls hW hS hl kk
    rw [gX13_feed_38] at h
    refine lv_iload_n hx hb dX13_feed_38 rfl (lv_at hl 0 rfl) ?_
    refine lv_if_lt (tgt := 77) hx hb dX13_feed_39 (by decide) (fun c3 => ?_) (fun c3 => ?_)
    · rw [if_pos c3] at h
      have h := Option.some.inj h; subst h
      exact kk _ _ _ hW hS (lv_sub hl [0, 1, 2, 3] rfl)
    · rw [if_neg c3] at h
      refine lv_aload_n hx hb dX13_feed_42 rfl (lv_at hl 1 rfl) ?_
      refine va_get (D := xD E) (ci := 13) (v := .ref (xa E 194)) (C := RX13) (T := TX13) (N := 24) hx hb hts in_X13 hown hK (xO_M hW) 0 rfl rfl 9 (by decide) (hts _ q1205) (fun _ h9 => h9) rfl dX13_feed_43 ?_
      refine lv_aload_n hx hb dX13_feed_46 rfl (lv_at hl 1 rfl) ?_
      refine va_get (D := xD E) (ci := 13) (v := .int (σ 24 2)) (C := RX13) (T := TX13) (N := 24) hx hb hts in_X13 hown hK (xO_M hW) 0 rfl rfl 10 (by decide) (hts _ q1206) (fun _ h9 => h9) rfl dX13_feed_47 ?_
      refine lv_iload_n hx hb dX13_feed_50 rfl (lv_at hl 2 rfl) ?_
      refine lv_bipush (v := 8) hx hb dX13_feed_51 (by decide) ?_
      refine lv_iload_n hx hb dX13_feed_53 rfl (lv_at hl 0 rfl) ?_
      refine lv_imul hx hb dX13_feed_54 ?_
      refine lv_ishr hx hb dX13_feed_55 ?_
      refine lv_sipush (v := 255) hx hb dX13_feed_56 (by decide) ?_
      refine lv_iand hx hb dX13_feed_59 ?_
      by_cases hi4 : xin (σ 24 2) 120
      · rw [if_pos hi4] at h
        refine x_iast F hW hS 194 120 26 (fun j => j) xp_194.1 xp_194.2.1 xp_194.2.2.1 xp_194.2.2.2 hi4 dX13_feed_60 (fun H locs hW hS => ?_)
        refine lv_aload_n hx hb dX13_feed_61 rfl (lv_at hl 1 rfl) ?_
        refine lv_dup hx hb dX13_feed_62 rfl ?_
        refine va_get (D := xD E) (ci := 13) (v := .int ((xup σ 26 ((σ 24 2).toNatClampNeg) ((b1 >>> ((8 * x3) &&& 31)) &&& 255)) 24 2)) (C := RX13) (T := TX13) (N := 24) hx hb hts in_X13 hown hK (xO_M hW) 0 rfl rfl 10 (by decide) (hts _ q1206) (fun _ h9 => h9) rfl dX13_feed_63 ?_
        refine lv_iconst (v := 1) hx hb dX13_feed_66 (by decide) ?_
        refine lv_iadd hx hb dX13_feed_67 ?_
        refine x_put (C := RX13) (T := TX13) (N := 24) (ci := 13) (ty := .int) F hW hS in_X13 tyX13 tyX13_ok nmX13 rfl 186 10 24 2 (by decide) rfl (by decide) rfl (by decide) (hts _ q1206) (fun _ h9 => h9) rfl (by decide +kernel) rfl rfl dX13_feed_68 (fun H locs hW hS => ?_)
        refine lv_iinc (k := 0) (v := (x3 + (-1))) (lv' := [(3, .int (x3 + (-1))), (0, .ref (xa E 186)), (1, .int b1), (2, .int b2)]) hx hb dX13_feed_71 hl rfl rfl (by decide) rfl (fun ls hl => ?_)
        refine lv_goto (tgt := 38) hx hb dX13_feed_74 (by decide) ?_
        exact ih (x3 + (-1)) (xup (xup σ 26 ((σ 24 2).toNatClampNeg) ((b1 >>> ((8 * x3) &&& 31)) &&& 255)) 24 2 (((xup σ 26 ((σ 24 2).toNatClampNeg) ((b1 >>> ((8 * x3) &&& 31)) &&& 255)) 24 2) + 1)) _ h _ _ _ hW hS (lv_sub hl [0, 1, 2, 3] rfl) kk
      · rw [if_neg hi4] at h; cases h
set_option maxHeartbeats 4000000 in
theorem mX13_feed (l : Launch) (E : xE) (σ : xM) (a1 : Int32) (a2 : Int32) (r : Int32) (σ' : xM) (h : fX13_feed σ a1 a2 = some (r, σ')) : Met l yX13_feed (ws_ yX13_feed cX13_feed 4 (some .int)) ({ frames := 1, cells := 0, slots := 0, locals := 22 } : Room) (xPc E σ [.ref (xa E 186), .int a1, .int a2]) (xQc E (.returned (some (.int r))) σ') 0 0 (xA E) := by
  refine x_of (C := RX13) (n := "feed") (d := "(II)I") (r := (some .int)) (by decide) rfl (by first | decide | exact Nat.le_of_ble_eq_true rfl) ?_
  intro p e s m below meth c ls F hr hlk hW hS hl
  have hl : lv_has ls 4 [(0, .ref (xa E 186)), (1, .int a1), (2, .int a2)] := hl
  obtain ⟨hx, hb, hml, hown, hts⟩ := id F.1
  have hK := F.2.1.1
  unfold fX13_feed at h
  refine lv_iload_n hx hb dX13_feed_0 rfl (lv_at hl 2 rfl) ?_
  refine lv_iconst (v := 1) hx hb dX13_feed_1 (by decide) ?_
  refine lv_iconst (v := 4) hx hb dX13_feed_2 (by decide) ?_
  refine x_backi (va_runS (As := [.int a2, .int 1, .int 4]) (rest := []) F.1 (mX13_within l E σ a2 1 4) (va_cwS 3 hts (lw_S q1276 q1277 q115 q1278) rfl rfl rfl (by decide +kernel) ⟨Nat.le_of_ble_eq_true rfl, Nat.le_of_ble_eq_true rfl⟩) ⟨xPc.blind, F.pre hW hS [.int a2, .int 1, .int 4]⟩ rfl rfl hl.1 rfl (lv_room (Nat.le_of_ble_eq_true rfl)) dX13_feed_3 ⟨Nat.le_refl _, Nat.le_refl _⟩) hS (fun H locs hW hS => ?_)
  refine lv_if_ne (tgt := 16) hx hb dX13_feed_6 (by decide) (fun c1 => ?_) (fun c1 => ?_)
  · rw [if_neg c1] at h
    refine lv_aload_n hx hb dX13_feed_16 rfl (lv_at hl 0 rfl) ?_
    refine va_get (D := xD E) (ci := 13) (v := .int (σ 24 2)) (C := RX13) (T := TX13) (N := 24) hx hb hts in_X13 hown hK (xO_M hW) 0 rfl rfl 10 (by decide) (hts _ q1206) (fun _ h9 => h9) rfl dX13_feed_17 ?_
    refine lv_iload_n hx hb dX13_feed_20 rfl (lv_at hl 2 rfl) ?_
    refine lv_iadd hx hb dX13_feed_21 ?_
    refine lv_bipush (v := 120) hx hb dX13_feed_22 (by decide) ?_
    refine lv_icmp_le (tgt := 34) hx hb dX13_feed_24 (by decide) (fun c2 => ?_) (fun c2 => ?_)
    · rw [if_pos c2] at h
      refine lv_iload_n hx hb dX13_feed_34 rfl (lv_at hl 2 rfl) ?_
      refine lv_iconst (v := 1) hx hb dX13_feed_35 (by decide) ?_
      refine lv_isub hx hb dX13_feed_36 ?_
      refine lv_istore_n (lv' := [(3, .int (a2 - 1)), (0, .ref (xa E 186)), (1, .int a1), (2, .int a2)]) hx hb dX13_feed_37 rfl hl (by decide) rfl (fun ls hl => ?_)
      cases g5 : gX13_feed_38 a1 xfu (a2 - 1) σ with
      | none => rw [g5] at h; cases h
      | some q6 =>
        rw [g5, Option.bind_some] at h
        refine lX13_feed_38 F xfu (a2 - 1) σ q6 g5 _ _ _ hW hS (lv_sub hl [0, 1, 2, 3] rfl) (fun H locs ls hW hS hl => ?_)
        refine lv_aload_n hx hb dX13_feed_77 rfl (lv_at hl 1 rfl) ?_
        refine va_get (D := xD E) (ci := 13) (v := .int (q6.2 24 2)) (C := RX13) (T := TX13) (N := 24) hx hb hts in_X13 hown hK (xO_M hW) 0 rfl rfl 10 (by decide) (hts _ q1206) (fun _ h9 => h9) rfl dX13_feed_78 ?_
        obtain ⟨h1, h2⟩ := Prod.mk.inj (Option.some.inj h); subst h1; subst h2
        exact x_iret F hr hlk hW hS dX13_feed_81
    · rw [if_neg c2] at h
      refine lv_aload_n hx hb dX13_feed_27 rfl (lv_at hl 0 rfl) ?_
      refine lv_ldc (v := (-1000002)) hx hb hown (hts _ q1310) dX13_feed_28 ?_
      cases g7 : fX13_finding σ (-1000002) with
      | none => rw [g7] at h; cases h
      | some r8 =>
        rw [g7, Option.bind_some] at h
        refine x_backi (va_runV (C := RX13) (b := (xa E 186)) (As := [.int (-1000002)]) (rest := []) F.1 (mX13_finding l E σ (-1000002) r8.1 r8.2 g7) (cwV 1 hts (lw_V q1280 q1282 qs52 q115 q1283) rfl rfl rfl (by decide +kernel) ⟨Nat.le_of_ble_eq_true rfl, Nat.le_of_ble_eq_true rfl⟩) ⟨xPc.blind, va_recv hK (xO_M hW) (ci := 13) (q0 := 0) rfl rfl, F.pre hW hS (.ref (xa E 186) :: [.int (-1000002)])⟩ rfl rfl hl.1 rfl (lv_room (Nat.le_of_ble_eq_true rfl)) dX13_feed_30 ⟨Nat.le_refl _, Nat.le_refl _⟩) hS (fun H locs hW hS => ?_)
        obtain ⟨h1, h2⟩ := Prod.mk.inj (Option.some.inj h); subst h1; subst h2
        exact x_iret F hr hlk hW hS dX13_feed_33
  · rw [if_pos c1] at h
    refine lv_aload_n hx hb dX13_feed_9 rfl (lv_at hl 0 rfl) ?_
    refine lv_ldc (v := (-1000001)) hx hb hown (hts _ q1279) dX13_feed_10 ?_
    cases g9 : fX13_finding σ (-1000001) with
    | none => rw [g9] at h; cases h
    | some r10 =>
      rw [g9, Option.bind_some] at h
      refine x_backi (va_runV (C := RX13) (b := (xa E 186)) (As := [.int (-1000001)]) (rest := []) F.1 (mX13_finding l E σ (-1000001) r10.1 r10.2 g9) (cwV 1 hts (lw_V q1280 q1282 qs52 q115 q1283) rfl rfl rfl (by decide +kernel) ⟨Nat.le_of_ble_eq_true rfl, Nat.le_of_ble_eq_true rfl⟩) ⟨xPc.blind, va_recv hK (xO_M hW) (ci := 13) (q0 := 0) rfl rfl, F.pre hW hS (.ref (xa E 186) :: [.int (-1000001)])⟩ rfl rfl hl.1 rfl (lv_room (Nat.le_of_ble_eq_true rfl)) dX13_feed_12 ⟨Nat.le_refl _, Nat.le_refl _⟩) hS (fun H locs hW hS => ?_)
      obtain ⟨h1, h2⟩ := Prod.mk.inj (Option.some.inj h); subst h1; subst h2
      exact x_iret F hr hlk hW hS dX13_feed_15
/-! WildBellsModel.wipe()I -/
def fX13_wipe (σ : xM) : Option (Int32 × xM) :=
  some ((σ 24 2), (xup σ 24 2 0))
set_option maxHeartbeats 4000000 in
theorem mX13_wipe (l : Launch) (E : xE) (σ : xM) (r : Int32) (σ' : xM) (h : fX13_wipe σ = some (r, σ')) : Met l yX13_wipe (ws_ yX13_wipe cX13_wipe 2 (some .int)) ({ frames := 0, cells := 0, slots := 0, locals := 0 } : Room) (xPc E σ [.ref (xa E 186)]) (xQc E (.returned (some (.int r))) σ') 0 0 (xA E) := by
  refine x_of (C := RX13) (n := "wipe") (d := "()I") (r := (some .int)) (by decide) rfl (by first | decide | exact Nat.le_of_ble_eq_true rfl) ?_
  intro p e s m below meth c ls F hr hlk hW hS hl
  have hl : lv_has ls 2 [(0, .ref (xa E 186))] := hl
  obtain ⟨hx, hb, hml, hown, hts⟩ := id F.1
  have hK := F.2.1.1
  unfold fX13_wipe at h
  refine lv_aload_n hx hb dX13_wipe_0 rfl (lv_at hl 0 rfl) ?_
  refine va_get (D := xD E) (ci := 13) (v := .int (σ 24 2)) (C := RX13) (T := TX13) (N := 24) hx hb hts in_X13 hown hK (xO_M hW) 0 rfl rfl 10 (by decide) (hts _ q1206) (fun _ h9 => h9) rfl dX13_wipe_1 ?_
  refine lv_istore_n (lv' := [(1, .int (σ 24 2)), (0, .ref (xa E 186))]) hx hb dX13_wipe_4 rfl hl (by decide) rfl (fun ls hl => ?_)
  refine lv_aload_n hx hb dX13_wipe_5 rfl (lv_at hl 1 rfl) ?_
  refine lv_iconst (v := 0) hx hb dX13_wipe_6 (by decide) ?_
  refine x_put (C := RX13) (T := TX13) (N := 24) (ci := 13) (ty := .int) F hW hS in_X13 tyX13 tyX13_ok nmX13 rfl 186 10 24 2 (by decide) rfl (by decide) rfl (by decide) (hts _ q1206) (fun _ h9 => h9) rfl (by decide +kernel) rfl rfl dX13_wipe_7 (fun H locs hW hS => ?_)
  refine lv_iload_n hx hb dX13_wipe_10 rfl (lv_at hl 0 rfl) ?_
  obtain ⟨h1, h2⟩ := Prod.mk.inj (Option.some.inj h); subst h1; subst h2
  exact x_iret F hr hlk hW hS dX13_wipe_11
/-! WildBellsModel.byteAt(I)I -/
def fX13_byteAt (σ : xM) (a1 : Int32) : Option Int32 :=
  if (σ 24 2) ≤ a1 then (some (-1)) else (if xin a1 120 then (some (σ 26 (a1.toNatClampNeg))) else none)
set_option maxHeartbeats 4000000 in
theorem mX13_byteAt (l : Launch) (E : xE) (σ : xM) (a1 : Int32) (r : Int32) (h : fX13_byteAt σ a1 = some r) : Met l yX13_byteAt (ws_ yX13_byteAt cX13_byteAt 2 (some .int)) ({ frames := 0, cells := 0, slots := 0, locals := 0 } : Room) (xPc E σ [.ref (xa E 186), .int a1]) (xQc E (.returned (some (.int r))) σ) 0 0 (xA E) := by
  refine x_of (C := RX13) (n := "byteAt") (d := "(I)I") (r := (some .int)) (by decide) rfl (by first | decide | exact Nat.le_of_ble_eq_true rfl) ?_
  intro p e s m below meth c ls F hr hlk hW hS hl
  have hl : lv_has ls 2 [(0, .ref (xa E 186)), (1, .int a1)] := hl
  obtain ⟨hx, hb, hml, hown, hts⟩ := id F.1
  have hK := F.2.1.1
  unfold fX13_byteAt at h
  refine lv_iload_n hx hb dX13_byteAt_0 rfl (lv_at hl 1 rfl) ?_
  refine lv_aload_n hx hb dX13_byteAt_1 rfl (lv_at hl 0 rfl) ?_
  refine va_get (D := xD E) (ci := 13) (v := .int (σ 24 2)) (C := RX13) (T := TX13) (N := 24) hx hb hts in_X13 hown hK (xO_M hW) 0 rfl rfl 10 (by decide) (hts _ q1206) (fun _ h9 => h9) rfl dX13_byteAt_2 ?_
  refine lv_icmp_ge (tgt := 17) hx hb dX13_byteAt_5 (by decide) (fun c1 => ?_) (fun c1 => ?_)
  · rw [if_pos c1] at h
    refine lv_iconst (v := (-1)) hx hb dX13_byteAt_17 (by decide) ?_
    have h := Option.some.inj h; subst h
    exact x_iret F hr hlk hW hS dX13_byteAt_18
  · rw [if_neg c1] at h
    refine lv_aload_n hx hb dX13_byteAt_8 rfl (lv_at hl 0 rfl) ?_
    refine va_get (D := xD E) (ci := 13) (v := .ref (xa E 194)) (C := RX13) (T := TX13) (N := 24) hx hb hts in_X13 hown hK (xO_M hW) 0 rfl rfl 9 (by decide) (hts _ q1205) (fun _ h9 => h9) rfl dX13_byteAt_9 ?_
    refine lv_iload_n hx hb dX13_byteAt_12 rfl (lv_at hl 1 rfl) ?_
    by_cases hi2 : xin a1 120
    · rw [if_pos hi2] at h
      refine va_iald hx hb hK (xV_p hW xp_194) 0 0 rfl rfl hi2 dX13_byteAt_13 ?_
      refine lv_goto (tgt := 18) hx hb dX13_byteAt_14 (by decide) ?_
      have h := Option.some.inj h; subst h
      exact x_iret F hr hlk hW hS dX13_byteAt_18
    · rw [if_neg hi2] at h; cases h
/-! WildBellsModel.next()V -/
def gX13_next_8  : Nat → xM → Option xM
  | 0, _ => none
  | n + 1, σ => (fX13_byteAt σ (σ 24 3)).bind (fun r2 => if r2 = 32 then (gX13_next_8 n (xup σ 24 3 ((σ 24 3) + 1))) else (some σ))
def gX13_next_131  : Nat → xM → Option xM
  | 0, _ => none
  | n + 1, σ => (fX13_byteAt σ (σ 24 4)).bind (fun r12 => if (fX13_within r12 48 57) = 0 then (some σ) else (gX13_next_131 n (xup (xup σ 24 6 (fJ3_min 1000 (((10 * (σ 24 6)) + r12) - 48))) 24 4 (((xup σ 24 6 (fJ3_min 1000 (((10 * (σ 24 6)) + r12) - 48))) 24 4) + 1))))
def gX13_next_84  : Nat → xM → Option xM
  | 0, _ => none
  | n + 1, σ => (fX13_byteAt σ (σ 24 4)).bind (fun r17 => if (fX13_within r17 97 122) = 0 then (some σ) else (gX13_next_84 n (xup σ 24 4 ((σ 24 4) + 1))))
def fX13_next (σ : xM) : Option xM :=
  (gX13_next_8 xfu (xup σ 24 3 (σ 24 4))).bind (fun q5 => (fX13_byteAt q5 (q5 24 3)).bind (fun r7 => if 0 ≤ r7 then (if (fX13_within r7 97 122) = 0 then (if (fX13_within r7 48 57) = 0 then (some (xup (xup (xup (xup q5 24 4 (q5 24 3)) 24 6 0) 24 5 3) 24 4 (((xup (xup (xup q5 24 4 (q5 24 3)) 24 6 0) 24 5 3) 24 4) + 1))) else ((gX13_next_131 xfu (xup (xup (xup q5 24 4 (q5 24 3)) 24 6 0) 24 5 2)).bind (fun q15 => some q15))) else ((gX13_next_84 xfu (xup (xup (xup q5 24 4 (q5 24 3)) 24 6 0) 24 5 1)).bind (fun q20 => some q20))) else (some (xup (xup (xup q5 24 4 (q5 24 3)) 24 6 0) 24 5 0))))
set_option maxHeartbeats 4000000 in
theorem lX13_next_8 {p : Program} {l : Launch} {e : Env} {s : State} {m : MethodId} {av : Array Value} {below : List Frame} {meth : Method} {c : Code} {Q : State → Prop} {E : xE} (F : xFx p m c cX13_next 2 s av RX13 E) : ∀ (n : Nat) (σ : xM) (q : xM), gX13_next_8 n σ = some q → ∀ (H : Heap) (locs : List Loc) (ls : Array Slot), xW E σ H → va_S (xA E) s.heap H locs → lv_has ls 2 [(0, .ref (xa E 186))] → (∀ (H : Heap) (locs : List Loc) (ls : Array Slot), xW E q H → va_S (xA E) s.heap H locs → lv_has ls 2 [(0, .ref (xa E 186))] → W p l e ({ frames := 1, cells := 0, slots := 0, locals := 22 } : Room) s m av below meth c H locs 0 0 Q (F0 m 34 ls [])) → W p l e ({ frames := 1, cells := 0, slots := 0, locals := 22 } : Room) s m av below meth c H locs 0 0 Q (F0 m 8 ls []) := by
  obtain ⟨hx, hb, hml, hown, hts⟩ := id F.1
  have hK := F.2.1.1
  intro n
  induction n with
  | zero =>
    intro σ q h
    cases h
  | succ n ih =>
    intro σ q h H locs ls hW hS hl kk
    rw [gX13_next_8] at h
    refine lv_aload_n hx hb dX13_next_8 rfl (lv_at hl 0 rfl) ?_
    refine lv_aload_n hx hb dX13_next_9 rfl (lv_at hl 0 rfl) ?_
    refine va_get (D := xD E) (ci := 13) (v := .int (σ 24 3)) (C := RX13) (T := TX13) (N := 24) hx hb hts in_X13 hown hK (xO_M hW) 0 rfl rfl 11 (by decide) (hts _ q1207) (fun _ h9 => h9) rfl dX13_next_10 ?_
    cases g1 : fX13_byteAt σ (σ 24 3) with
    | none => rw [g1] at h; cases h
    | some r2 =>
      rw [g1, Option.bind_some] at h
      refine x_backi (va_runV (C := RX13) (b := (xa E 186)) (As := [.int (σ 24 3)]) (rest := []) F.1 (mX13_byteAt l E σ (σ 24 3) r2 g1) (cwV 1 hts (lw_V q1620 q1622 qs89 q115 q1623) rfl rfl rfl (by decide +kernel) ⟨Nat.le_of_ble_eq_true rfl, Nat.le_of_ble_eq_true rfl⟩) ⟨xPc.blind, va_recv hK (xO_M hW) (ci := 13) (q0 := 0) rfl rfl, F.pre hW hS (.ref (xa E 186) :: [.int (σ 24 3)])⟩ rfl rfl hl.1 rfl (lv_room (Nat.le_of_ble_eq_true rfl)) dX13_next_13 ⟨Nat.le_refl _, Nat.le_refl _⟩) hS (fun H locs hW hS => ?_)
      refine lv_bipush (v := 32) hx hb dX13_next_16 (by decide) ?_
      refine lv_icmp_ne (tgt := 34) hx hb dX13_next_18 (by decide) (fun c3 => ?_) (fun c3 => ?_)
      · rw [if_neg c3] at h
        have h := Option.some.inj h; subst h
        exact kk _ _ _ hW hS (lv_sub hl [0] rfl)
      · rw [if_pos c3] at h
        refine lv_aload_n hx hb dX13_next_21 rfl (lv_at hl 0 rfl) ?_
        refine lv_dup hx hb dX13_next_22 rfl ?_
        refine va_get (D := xD E) (ci := 13) (v := .int (σ 24 3)) (C := RX13) (T := TX13) (N := 24) hx hb hts in_X13 hown hK (xO_M hW) 0 rfl rfl 11 (by decide) (hts _ q1207) (fun _ h9 => h9) rfl dX13_next_23 ?_
        refine lv_iconst (v := 1) hx hb dX13_next_26 (by decide) ?_
        refine lv_iadd hx hb dX13_next_27 ?_
        refine x_put (C := RX13) (T := TX13) (N := 24) (ci := 13) (ty := .int) F hW hS in_X13 tyX13 tyX13_ok nmX13 rfl 186 11 24 3 (by decide) rfl (by decide) rfl (by decide) (hts _ q1207) (fun _ h9 => h9) rfl (by decide +kernel) rfl rfl dX13_next_28 (fun H locs hW hS => ?_)
        refine lv_goto (tgt := 8) hx hb dX13_next_31 (by decide) ?_
        exact ih (xup σ 24 3 ((σ 24 3) + 1)) _ h _ _ _ hW hS (lv_sub hl [0] rfl) kk
set_option maxHeartbeats 4000000 in
theorem lX13_next_131 {p : Program} {l : Launch} {e : Env} {s : State} {m : MethodId} {av : Array Value} {below : List Frame} {meth : Method} {c : Code} {Q : State → Prop} {E : xE} {b1 : Int32} (F : xFx p m c cX13_next 2 s av RX13 E) : ∀ (n : Nat) (σ : xM) (q : xM), gX13_next_131 n σ = some q → ∀ (H : Heap) (locs : List Loc) (ls : Array Slot), xW E σ H → va_S (xA E) s.heap H locs → lv_has ls 2 [(1, .int b1), (0, .ref (xa E 186))] → (∀ (H : Heap) (locs : List Loc) (ls : Array Slot), xW E q H → va_S (xA E) s.heap H locs → lv_has ls 2 [(1, .int b1), (0, .ref (xa E 186))] → W p l e ({ frames := 1, cells := 0, slots := 0, locals := 22 } : Room) s m av below meth c H locs 0 0 Q (F0 m 206 ls [])) → W p l e ({ frames := 1, cells := 0, slots := 0, locals := 22 } : Room) s m av below meth c H locs 0 0 Q (F0 m 131 ls []) := by
  obtain ⟨hx, hb, hml, hown, hts⟩ := id F.1
  have hK := F.2.1.1
  intro n
  induction n with
  | zero =>
    intro σ q h
    cases h
  | succ n ih =>
    intro σ q h H locs ls hW hS hl kk
    rw [gX13_next_131] at h
    refine lv_aload_n hx hb dX13_next_131 rfl (lv_at hl 1 rfl) ?_
    refine lv_aload_n hx hb dX13_next_132 rfl (lv_at hl 1 rfl) ?_
    refine va_get (D := xD E) (ci := 13) (v := .int (σ 24 4)) (C := RX13) (T := TX13) (N := 24) hx hb hts in_X13 hown hK (xO_M hW) 0 rfl rfl 12 (by decide) (hts _ q1208) (fun _ h9 => h9) rfl dX13_next_133 ?_
    cases g11 : fX13_byteAt σ (σ 24 4) with
    | none => rw [g11] at h; cases h
    | some r12 =>
      rw [g11, Option.bind_some] at h
      refine x_backi (va_runV (C := RX13) (b := (xa E 186)) (As := [.int (σ 24 4)]) (rest := []) F.1 (mX13_byteAt l E σ (σ 24 4) r12 g11) (cwV 1 hts (lw_V q1620 q1622 qs89 q115 q1623) rfl rfl rfl (by decide +kernel) ⟨Nat.le_of_ble_eq_true rfl, Nat.le_of_ble_eq_true rfl⟩) ⟨xPc.blind, va_recv hK (xO_M hW) (ci := 13) (q0 := 0) rfl rfl, F.pre hW hS (.ref (xa E 186) :: [.int (σ 24 4)])⟩ rfl rfl hl.1 rfl (lv_room (Nat.le_of_ble_eq_true rfl)) dX13_next_136 ⟨Nat.le_refl _, Nat.le_refl _⟩) hS (fun H locs hW hS => ?_)
      refine lv_bipush (v := 48) hx hb dX13_next_139 (by decide) ?_
      refine lv_bipush (v := 57) hx hb dX13_next_141 (by decide) ?_
      refine x_backi (va_runS (As := [.int r12, .int 48, .int 57]) (rest := []) F.1 (mX13_within l E σ r12 48 57) (va_cwS 3 hts (lw_S q1276 q1277 q115 q1278) rfl rfl rfl (by decide +kernel) ⟨Nat.le_of_ble_eq_true rfl, Nat.le_of_ble_eq_true rfl⟩) ⟨xPc.blind, F.pre hW hS [.int r12, .int 48, .int 57]⟩ rfl rfl hl.1 rfl (lv_room (Nat.le_of_ble_eq_true rfl)) dX13_next_143 ⟨Nat.le_refl _, Nat.le_refl _⟩) hS (fun H locs hW hS => ?_)
      refine lv_if_eq (tgt := 206) hx hb dX13_next_146 (by decide) (fun c13 => ?_) (fun c13 => ?_)
      · rw [if_pos c13] at h
        have h := Option.some.inj h; subst h
        exact kk _ _ _ hW hS (lv_sub hl [0, 1] rfl)
      · rw [if_neg c13] at h
        refine lv_aload_n hx hb dX13_next_149 rfl (lv_at hl 1 rfl) ?_
        refine lv_sipush (v := 1000) hx hb dX13_next_150 (by decide) ?_
        refine lv_bipush (v := 10) hx hb dX13_next_153 (by decide) ?_
        refine lv_aload_n hx hb dX13_next_155 rfl (lv_at hl 1 rfl) ?_
        refine va_get (D := xD E) (ci := 13) (v := .int (σ 24 6)) (C := RX13) (T := TX13) (N := 24) hx hb hts in_X13 hown hK (xO_M hW) 0 rfl rfl 14 (by decide) (hts _ q1210) (fun _ h9 => h9) rfl dX13_next_156 ?_
        refine lv_imul hx hb dX13_next_159 ?_
        refine lv_aload_n hx hb dX13_next_160 rfl (lv_at hl 1 rfl) ?_
        refine lv_aload_n hx hb dX13_next_161 rfl (lv_at hl 1 rfl) ?_
        refine va_get (D := xD E) (ci := 13) (v := .int (σ 24 4)) (C := RX13) (T := TX13) (N := 24) hx hb hts in_X13 hown hK (xO_M hW) 0 rfl rfl 12 (by decide) (hts _ q1208) (fun _ h9 => h9) rfl dX13_next_162 ?_
        refine x_backi (va_runV (C := RX13) (b := (xa E 186)) (As := [.int (σ 24 4)]) (rest := [.int (10 * (σ 24 6)), .int 1000, .ref (xa E 186)]) F.1 (mX13_byteAt l E σ (σ 24 4) r12 g11) (cwV 1 hts (lw_V q1620 q1622 qs89 q115 q1623) rfl rfl rfl (by decide +kernel) ⟨Nat.le_of_ble_eq_true rfl, Nat.le_of_ble_eq_true rfl⟩) ⟨xPc.blind, va_recv hK (xO_M hW) (ci := 13) (q0 := 0) rfl rfl, F.pre hW hS (.ref (xa E 186) :: [.int (σ 24 4)])⟩ rfl rfl hl.1 rfl (lv_room (Nat.le_of_ble_eq_true rfl)) dX13_next_165 ⟨Nat.le_refl _, Nat.le_refl _⟩) hS (fun H locs hW hS => ?_)
        refine lv_iadd hx hb dX13_next_168 ?_
        refine lv_bipush (v := 48) hx hb dX13_next_169 (by decide) ?_
        refine lv_isub hx hb dX13_next_171 ?_
        refine x_backi (va_runS (As := [.int 1000, .int (((10 * (σ 24 6)) + r12) - 48)]) (rest := [.ref (xa E 186)]) F.1 (mJ3_min l E σ 1000 (((10 * (σ 24 6)) + r12) - 48)) (va_cwS 2 hts (lw_S q1342 q597 q116 q598) rfl rfl rfl (by decide +kernel) ⟨Nat.le_of_ble_eq_true rfl, Nat.le_of_ble_eq_true rfl⟩) ⟨xPc.blind, F.pre hW hS [.int 1000, .int (((10 * (σ 24 6)) + r12) - 48)]⟩ rfl rfl hl.1 rfl (lv_room (Nat.le_of_ble_eq_true rfl)) dX13_next_172 ⟨Nat.le_refl _, Nat.le_refl _⟩) hS (fun H locs hW hS => ?_)
        refine x_put (C := RX13) (T := TX13) (N := 24) (ci := 13) (ty := .int) F hW hS in_X13 tyX13 tyX13_ok nmX13 rfl 186 14 24 6 (by decide) rfl (by decide) rfl (by decide) (hts _ q1210) (fun _ h9 => h9) rfl (by decide +kernel) rfl rfl dX13_next_175 (fun H locs hW hS => ?_)
        refine lv_aload_n hx hb dX13_next_178 rfl (lv_at hl 1 rfl) ?_
        refine lv_dup hx hb dX13_next_179 rfl ?_
        refine va_get (D := xD E) (ci := 13) (v := .int ((xup σ 24 6 (fJ3_min 1000 (((10 * (σ 24 6)) + r12) - 48))) 24 4)) (C := RX13) (T := TX13) (N := 24) hx hb hts in_X13 hown hK (xO_M hW) 0 rfl rfl 12 (by decide) (hts _ q1208) (fun _ h9 => h9) rfl dX13_next_180 ?_
        refine lv_iconst (v := 1) hx hb dX13_next_183 (by decide) ?_
        refine lv_iadd hx hb dX13_next_184 ?_
        refine x_put (C := RX13) (T := TX13) (N := 24) (ci := 13) (ty := .int) F hW hS in_X13 tyX13 tyX13_ok nmX13 rfl 186 12 24 4 (by decide) rfl (by decide) rfl (by decide) (hts _ q1208) (fun _ h9 => h9) rfl (by decide +kernel) rfl rfl dX13_next_185 (fun H locs hW hS => ?_)
        refine lv_goto (tgt := 131) hx hb dX13_next_188 (by decide) ?_
        exact ih (xup (xup σ 24 6 (fJ3_min 1000 (((10 * (σ 24 6)) + r12) - 48))) 24 4 (((xup σ 24 6 (fJ3_min 1000 (((10 * (σ 24 6)) + r12) - 48))) 24 4) + 1)) _ h _ _ _ hW hS (lv_sub hl [0, 1] rfl) kk
set_option maxHeartbeats 4000000 in
theorem lX13_next_84 {p : Program} {l : Launch} {e : Env} {s : State} {m : MethodId} {av : Array Value} {below : List Frame} {meth : Method} {c : Code} {Q : State → Prop} {E : xE} {b1 : Int32} (F : xFx p m c cX13_next 2 s av RX13 E) : ∀ (n : Nat) (σ : xM) (q : xM), gX13_next_84 n σ = some q → ∀ (H : Heap) (locs : List Loc) (ls : Array Slot), xW E σ H → va_S (xA E) s.heap H locs → lv_has ls 2 [(1, .int b1), (0, .ref (xa E 186))] → (∀ (H : Heap) (locs : List Loc) (ls : Array Slot), xW E q H → va_S (xA E) s.heap H locs → lv_has ls 2 [(1, .int b1), (0, .ref (xa E 186))] → W p l e ({ frames := 1, cells := 0, slots := 0, locals := 22 } : Room) s m av below meth c H locs 0 0 Q (F0 m 206 ls [])) → W p l e ({ frames := 1, cells := 0, slots := 0, locals := 22 } : Room) s m av below meth c H locs 0 0 Q (F0 m 84 ls []) := by
  obtain ⟨hx, hb, hml, hown, hts⟩ := id F.1
  have hK := F.2.1.1
  intro n
  induction n with
  | zero =>
    intro σ q h
    cases h
  | succ n ih =>
    intro σ q h H locs ls hW hS hl kk
    rw [gX13_next_84] at h
    refine lv_aload_n hx hb dX13_next_84 rfl (lv_at hl 1 rfl) ?_
    refine lv_aload_n hx hb dX13_next_85 rfl (lv_at hl 1 rfl) ?_
    refine va_get (D := xD E) (ci := 13) (v := .int (σ 24 4)) (C := RX13) (T := TX13) (N := 24) hx hb hts in_X13 hown hK (xO_M hW) 0 rfl rfl 12 (by decide) (hts _ q1208) (fun _ h9 => h9) rfl dX13_next_86 ?_
    cases g16 : fX13_byteAt σ (σ 24 4) with
    | none => rw [g16] at h; cases h
    | some r17 =>
      rw [g16, Option.bind_some] at h
      refine x_backi (va_runV (C := RX13) (b := (xa E 186)) (As := [.int (σ 24 4)]) (rest := []) F.1 (mX13_byteAt l E σ (σ 24 4) r17 g16) (cwV 1 hts (lw_V q1620 q1622 qs89 q115 q1623) rfl rfl rfl (by decide +kernel) ⟨Nat.le_of_ble_eq_true rfl, Nat.le_of_ble_eq_true rfl⟩) ⟨xPc.blind, va_recv hK (xO_M hW) (ci := 13) (q0 := 0) rfl rfl, F.pre hW hS (.ref (xa E 186) :: [.int (σ 24 4)])⟩ rfl rfl hl.1 rfl (lv_room (Nat.le_of_ble_eq_true rfl)) dX13_next_89 ⟨Nat.le_refl _, Nat.le_refl _⟩) hS (fun H locs hW hS => ?_)
      refine lv_bipush (v := 97) hx hb dX13_next_92 (by decide) ?_
      refine lv_bipush (v := 122) hx hb dX13_next_94 (by decide) ?_
      refine x_backi (va_runS (As := [.int r17, .int 97, .int 122]) (rest := []) F.1 (mX13_within l E σ r17 97 122) (va_cwS 3 hts (lw_S q1276 q1277 q115 q1278) rfl rfl rfl (by decide +kernel) ⟨Nat.le_of_ble_eq_true rfl, Nat.le_of_ble_eq_true rfl⟩) ⟨xPc.blind, F.pre hW hS [.int r17, .int 97, .int 122]⟩ rfl rfl hl.1 rfl (lv_room (Nat.le_of_ble_eq_true rfl)) dX13_next_96 ⟨Nat.le_refl _, Nat.le_refl _⟩) hS (fun H locs hW hS => ?_)
      refine lv_if_eq (tgt := 206) hx hb dX13_next_99 (by decide) (fun c18 => ?_) (fun c18 => ?_)
      · rw [if_pos c18] at h
        have h := Option.some.inj h; subst h
        exact kk _ _ _ hW hS (lv_sub hl [0, 1] rfl)
      · rw [if_neg c18] at h
        refine lv_aload_n hx hb dX13_next_102 rfl (lv_at hl 1 rfl) ?_
        refine lv_dup hx hb dX13_next_103 rfl ?_
        refine va_get (D := xD E) (ci := 13) (v := .int (σ 24 4)) (C := RX13) (T := TX13) (N := 24) hx hb hts in_X13 hown hK (xO_M hW) 0 rfl rfl 12 (by decide) (hts _ q1208) (fun _ h9 => h9) rfl dX13_next_104 ?_
        refine lv_iconst (v := 1) hx hb dX13_next_107 (by decide) ?_
        refine lv_iadd hx hb dX13_next_108 ?_
        refine x_put (C := RX13) (T := TX13) (N := 24) (ci := 13) (ty := .int) F hW hS in_X13 tyX13 tyX13_ok nmX13 rfl 186 12 24 4 (by decide) rfl (by decide) rfl (by decide) (hts _ q1208) (fun _ h9 => h9) rfl (by decide +kernel) rfl rfl dX13_next_109 (fun H locs hW hS => ?_)
        refine lv_goto (tgt := 84) hx hb dX13_next_112 (by decide) ?_
        exact ih (xup σ 24 4 ((σ 24 4) + 1)) _ h _ _ _ hW hS (lv_sub hl [0, 1] rfl) kk
set_option maxHeartbeats 4000000 in
theorem mX13_next (l : Launch) (E : xE) (σ : xM) (σ' : xM) (h : fX13_next σ = some σ') : Met l yX13_next (ws_ yX13_next cX13_next 2 none) ({ frames := 1, cells := 0, slots := 0, locals := 22 } : Room) (xPc E σ [.ref (xa E 186)]) (xQc E (.returned none) σ') 0 0 (xA E) := by
  refine x_of (C := RX13) (n := "next") (d := "()V") (r := none) (by decide) rfl (by first | decide | exact Nat.le_of_ble_eq_true rfl) ?_
  intro p e s m below meth c ls F hr hlk hW hS hl
  have hl : lv_has ls 2 [(0, .ref (xa E 186))] := hl
  obtain ⟨hx, hb, hml, hown, hts⟩ := id F.1
  have hK := F.2.1.1
  unfold fX13_next at h
  refine lv_aload_n hx hb dX13_next_0 rfl (lv_at hl 0 rfl) ?_
  refine lv_aload_n hx hb dX13_next_1 rfl (lv_at hl 0 rfl) ?_
  refine va_get (D := xD E) (ci := 13) (v := .int (σ 24 4)) (C := RX13) (T := TX13) (N := 24) hx hb hts in_X13 hown hK (xO_M hW) 0 rfl rfl 12 (by decide) (hts _ q1208) (fun _ h9 => h9) rfl dX13_next_2 ?_
  refine x_put (C := RX13) (T := TX13) (N := 24) (ci := 13) (ty := .int) F hW hS in_X13 tyX13 tyX13_ok nmX13 rfl 186 11 24 3 (by decide) rfl (by decide) rfl (by decide) (hts _ q1207) (fun _ h9 => h9) rfl (by decide +kernel) rfl rfl dX13_next_5 (fun H locs hW hS => ?_)
  cases g4 : gX13_next_8 xfu (xup σ 24 3 (σ 24 4)) with
  | none => rw [g4] at h; cases h
  | some q5 =>
    rw [g4, Option.bind_some] at h
    refine lX13_next_8 F xfu (xup σ 24 3 (σ 24 4)) q5 g4 _ _ _ hW hS (lv_sub hl [0] rfl) (fun H locs ls hW hS hl => ?_)
    refine lv_aload_n hx hb dX13_next_34 rfl (lv_at hl 0 rfl) ?_
    refine lv_aload_n hx hb dX13_next_35 rfl (lv_at hl 0 rfl) ?_
    refine va_get (D := xD E) (ci := 13) (v := .int (q5 24 3)) (C := RX13) (T := TX13) (N := 24) hx hb hts in_X13 hown hK (xO_M hW) 0 rfl rfl 11 (by decide) (hts _ q1207) (fun _ h9 => h9) rfl dX13_next_36 ?_
    cases g6 : fX13_byteAt q5 (q5 24 3) with
    | none => rw [g6] at h; cases h
    | some r7 =>
      rw [g6, Option.bind_some] at h
      refine x_backi (va_runV (C := RX13) (b := (xa E 186)) (As := [.int (q5 24 3)]) (rest := []) F.1 (mX13_byteAt l E q5 (q5 24 3) r7 g6) (cwV 1 hts (lw_V q1620 q1622 qs89 q115 q1623) rfl rfl rfl (by decide +kernel) ⟨Nat.le_of_ble_eq_true rfl, Nat.le_of_ble_eq_true rfl⟩) ⟨xPc.blind, va_recv hK (xO_M hW) (ci := 13) (q0 := 0) rfl rfl, F.pre hW hS (.ref (xa E 186) :: [.int (q5 24 3)])⟩ rfl rfl hl.1 rfl (lv_room (Nat.le_of_ble_eq_true rfl)) dX13_next_39 ⟨Nat.le_refl _, Nat.le_refl _⟩) hS (fun H locs hW hS => ?_)
      refine lv_istore_n (lv' := [(1, .int r7), (0, .ref (xa E 186))]) hx hb dX13_next_42 rfl hl (by decide) rfl (fun ls hl => ?_)
      refine lv_aload_n hx hb dX13_next_43 rfl (lv_at hl 1 rfl) ?_
      refine lv_aload_n hx hb dX13_next_44 rfl (lv_at hl 1 rfl) ?_
      refine va_get (D := xD E) (ci := 13) (v := .int (q5 24 3)) (C := RX13) (T := TX13) (N := 24) hx hb hts in_X13 hown hK (xO_M hW) 0 rfl rfl 11 (by decide) (hts _ q1207) (fun _ h9 => h9) rfl dX13_next_45 ?_
      refine x_put (C := RX13) (T := TX13) (N := 24) (ci := 13) (ty := .int) F hW hS in_X13 tyX13 tyX13_ok nmX13 rfl 186 12 24 4 (by decide) rfl (by decide) rfl (by decide) (hts _ q1208) (fun _ h9 => h9) rfl (by decide +kernel) rfl rfl dX13_next_48 (fun H locs hW hS => ?_)
      refine lv_aload_n hx hb dX13_next_51 rfl (lv_at hl 1 rfl) ?_
      refine lv_iconst (v := 0) hx hb dX13_next_52 (by decide) ?_
      refine x_put (C := RX13) (T := TX13) (N := 24) (ci := 13) (ty := .int) F hW hS in_X13 tyX13 tyX13_ok nmX13 rfl 186 14 24 6 (by decide) rfl (by decide) rfl (by decide) (hts _ q1210) (fun _ h9 => h9) rfl (by decide +kernel) rfl rfl dX13_next_53 (fun H locs hW hS => ?_)
      refine lv_iload_n hx hb dX13_next_56 rfl (lv_at hl 0 rfl) ?_
      refine lv_if_ge (tgt := 68) hx hb dX13_next_57 (by decide) (fun c8 => ?_) (fun c8 => ?_)
      · rw [if_pos c8] at h
        refine lv_iload_n hx hb dX13_next_68 rfl (lv_at hl 0 rfl) ?_
        refine lv_bipush (v := 97) hx hb dX13_next_69 (by decide) ?_
        refine lv_bipush (v := 122) hx hb dX13_next_71 (by decide) ?_
        refine x_backi (va_runS (As := [.int r7, .int 97, .int 122]) (rest := []) F.1 (mX13_within l E (xup (xup q5 24 4 (q5 24 3)) 24 6 0) r7 97 122) (va_cwS 3 hts (lw_S q1276 q1277 q115 q1278) rfl rfl rfl (by decide +kernel) ⟨Nat.le_of_ble_eq_true rfl, Nat.le_of_ble_eq_true rfl⟩) ⟨xPc.blind, F.pre hW hS [.int r7, .int 97, .int 122]⟩ rfl rfl hl.1 rfl (lv_room (Nat.le_of_ble_eq_true rfl)) dX13_next_73 ⟨Nat.le_refl _, Nat.le_refl _⟩) hS (fun H locs hW hS => ?_)
        refine lv_if_eq (tgt := 115) hx hb dX13_next_76 (by decide) (fun c9 => ?_) (fun c9 => ?_)
        · rw [if_pos c9] at h
          refine lv_iload_n hx hb dX13_next_115 rfl (lv_at hl 0 rfl) ?_
          refine lv_bipush (v := 48) hx hb dX13_next_116 (by decide) ?_
          refine lv_bipush (v := 57) hx hb dX13_next_118 (by decide) ?_
          refine x_backi (va_runS (As := [.int r7, .int 48, .int 57]) (rest := []) F.1 (mX13_within l E (xup (xup q5 24 4 (q5 24 3)) 24 6 0) r7 48 57) (va_cwS 3 hts (lw_S q1276 q1277 q115 q1278) rfl rfl rfl (by decide +kernel) ⟨Nat.le_of_ble_eq_true rfl, Nat.le_of_ble_eq_true rfl⟩) ⟨xPc.blind, F.pre hW hS [.int r7, .int 48, .int 57]⟩ rfl rfl hl.1 rfl (lv_room (Nat.le_of_ble_eq_true rfl)) dX13_next_120 ⟨Nat.le_refl _, Nat.le_refl _⟩) hS (fun H locs hW hS => ?_)
          refine lv_if_eq (tgt := 191) hx hb dX13_next_123 (by decide) (fun c10 => ?_) (fun c10 => ?_)
          · rw [if_pos c10] at h
            refine lv_aload_n hx hb dX13_next_191 rfl (lv_at hl 1 rfl) ?_
            refine lv_iconst (v := 3) hx hb dX13_next_192 (by decide) ?_
            refine x_put (C := RX13) (T := TX13) (N := 24) (ci := 13) (ty := .int) F hW hS in_X13 tyX13 tyX13_ok nmX13 rfl 186 13 24 5 (by decide) rfl (by decide) rfl (by decide) (hts _ q1209) (fun _ h9 => h9) rfl (by decide +kernel) rfl rfl dX13_next_193 (fun H locs hW hS => ?_)
            refine lv_aload_n hx hb dX13_next_196 rfl (lv_at hl 1 rfl) ?_
            refine lv_dup hx hb dX13_next_197 rfl ?_
            refine va_get (D := xD E) (ci := 13) (v := .int ((xup (xup (xup q5 24 4 (q5 24 3)) 24 6 0) 24 5 3) 24 4)) (C := RX13) (T := TX13) (N := 24) hx hb hts in_X13 hown hK (xO_M hW) 0 rfl rfl 12 (by decide) (hts _ q1208) (fun _ h9 => h9) rfl dX13_next_198 ?_
            refine lv_iconst (v := 1) hx hb dX13_next_201 (by decide) ?_
            refine lv_iadd hx hb dX13_next_202 ?_
            refine x_put (C := RX13) (T := TX13) (N := 24) (ci := 13) (ty := .int) F hW hS in_X13 tyX13 tyX13_ok nmX13 rfl 186 12 24 4 (by decide) rfl (by decide) rfl (by decide) (hts _ q1208) (fun _ h9 => h9) rfl (by decide +kernel) rfl rfl dX13_next_203 (fun H locs hW hS => ?_)
            have h := Option.some.inj h; subst h
            exact x_vret F hr hlk hW hS dX13_next_206
          · rw [if_neg c10] at h
            refine lv_aload_n hx hb dX13_next_126 rfl (lv_at hl 1 rfl) ?_
            refine lv_iconst (v := 2) hx hb dX13_next_127 (by decide) ?_
            refine x_put (C := RX13) (T := TX13) (N := 24) (ci := 13) (ty := .int) F hW hS in_X13 tyX13 tyX13_ok nmX13 rfl 186 13 24 5 (by decide) rfl (by decide) rfl (by decide) (hts _ q1209) (fun _ h9 => h9) rfl (by decide +kernel) rfl rfl dX13_next_128 (fun H locs hW hS => ?_)
            cases g14 : gX13_next_131 xfu (xup (xup (xup q5 24 4 (q5 24 3)) 24 6 0) 24 5 2) with
            | none => rw [g14] at h; cases h
            | some q15 =>
              rw [g14, Option.bind_some] at h
              refine lX13_next_131 F xfu (xup (xup (xup q5 24 4 (q5 24 3)) 24 6 0) 24 5 2) q15 g14 _ _ _ hW hS (lv_sub hl [0, 1] rfl) (fun H locs ls hW hS hl => ?_)
              have h := Option.some.inj h; subst h
              exact x_vret F hr hlk hW hS dX13_next_206
        · rw [if_neg c9] at h
          refine lv_aload_n hx hb dX13_next_79 rfl (lv_at hl 1 rfl) ?_
          refine lv_iconst (v := 1) hx hb dX13_next_80 (by decide) ?_
          refine x_put (C := RX13) (T := TX13) (N := 24) (ci := 13) (ty := .int) F hW hS in_X13 tyX13 tyX13_ok nmX13 rfl 186 13 24 5 (by decide) rfl (by decide) rfl (by decide) (hts _ q1209) (fun _ h9 => h9) rfl (by decide +kernel) rfl rfl dX13_next_81 (fun H locs hW hS => ?_)
          cases g19 : gX13_next_84 xfu (xup (xup (xup q5 24 4 (q5 24 3)) 24 6 0) 24 5 1) with
          | none => rw [g19] at h; cases h
          | some q20 =>
            rw [g19, Option.bind_some] at h
            refine lX13_next_84 F xfu (xup (xup (xup q5 24 4 (q5 24 3)) 24 6 0) 24 5 1) q20 g19 _ _ _ hW hS (lv_sub hl [0, 1] rfl) (fun H locs ls hW hS hl => ?_)
            have h := Option.some.inj h; subst h
            exact x_vret F hr hlk hW hS dX13_next_206
      · rw [if_neg c8] at h
        refine lv_aload_n hx hb dX13_next_60 rfl (lv_at hl 1 rfl) ?_
        refine lv_iconst (v := 0) hx hb dX13_next_61 (by decide) ?_
        refine x_put (C := RX13) (T := TX13) (N := 24) (ci := 13) (ty := .int) F hW hS in_X13 tyX13 tyX13_ok nmX13 rfl 186 13 24 5 (by decide) rfl (by decide) rfl (by decide) (hts _ q1209) (fun _ h9 => h9) rfl (by decide +kernel) rfl rfl dX13_next_62 (fun H locs hW hS => ?_)
        refine lv_goto (tgt := 206) hx hb dX13_next_65 (by decide) ?_
        have h := Option.some.inj h; subst h
        exact x_vret F hr hlk hW hS dX13_next_206
/-! WildBellsModel.must(Z)V -/
def fX13_must (σ : xM) (a1 : Int32) : Option xM :=
  if (σ 24 7) = 0 then (if a1 = 0 then (if ((xup σ 24 7 1) 24 7) = 0 then ((fX13_next (xup σ 24 7 1)).bind (fun r11 => some r11)) else (some (xup σ 24 7 1))) else (if ((xup σ 24 7 0) 24 7) = 0 then ((fX13_next (xup σ 24 7 0)).bind (fun r8 => some r8)) else (some (xup σ 24 7 0)))) else (if ((xup σ 24 7 1) 24 7) = 0 then ((fX13_next (xup σ 24 7 1)).bind (fun r4 => some r4)) else (some (xup σ 24 7 1)))
set_option maxHeartbeats 4000000 in
theorem mX13_must (l : Launch) (E : xE) (σ : xM) (a1 : Int32) (σ' : xM) (h : fX13_must σ a1 = some σ') : Met l yX13_must (ws_ yX13_must cX13_must 2 none) ({ frames := 2, cells := 0, slots := 0, locals := 43 } : Room) (xPc E σ [.ref (xa E 186), .int a1]) (xQc E (.returned none) σ') 0 0 (xA E) := by
  refine x_of (C := RX13) (n := "must") (d := "(Z)V") (r := none) (by decide) rfl (by first | decide | exact Nat.le_of_ble_eq_true rfl) ?_
  intro p e s m below meth c ls F hr hlk hW hS hl
  have hl : lv_has ls 2 [(0, .ref (xa E 186)), (1, .int a1)] := hl
  obtain ⟨hx, hb, hml, hown, hts⟩ := id F.1
  have hK := F.2.1.1
  unfold fX13_must at h
  refine lv_aload_n hx hb dX13_must_0 rfl (lv_at hl 0 rfl) ?_
  refine lv_aload_n hx hb dX13_must_1 rfl (lv_at hl 0 rfl) ?_
  refine va_get (D := xD E) (ci := 13) (v := .int (σ 24 7)) (C := RX13) (T := TX13) (N := 24) hx hb hts in_X13 hown hK (xO_M hW) 0 rfl rfl 15 (by decide) (hts _ q1211) (fun _ h9 => h9) rfl dX13_must_2 ?_
  refine lv_if_ne (tgt := 12) hx hb dX13_must_5 (by decide) (fun c1 => ?_) (fun c1 => ?_)
  · rw [if_neg c1] at h
    refine lv_iconst (v := 1) hx hb dX13_must_12 (by decide) ?_
    refine lv_goto (tgt := 17) hx hb dX13_must_13 (by decide) ?_
    refine x_put (C := RX13) (T := TX13) (N := 24) (ci := 13) (ty := .boolean) F hW hS in_X13 tyX13 tyX13_ok nmX13 rfl 186 15 24 7 (by decide) rfl (by decide) rfl (by decide) (hts _ q1211) (fun _ h9 => h9) rfl (by decide +kernel) rfl rfl dX13_must_17 (fun H locs hW hS => ?_)
    refine lv_aload_n hx hb dX13_must_20 rfl (lv_at hl 0 rfl) ?_
    refine va_get (D := xD E) (ci := 13) (v := .int ((xup σ 24 7 1) 24 7)) (C := RX13) (T := TX13) (N := 24) hx hb hts in_X13 hown hK (xO_M hW) 0 rfl rfl 15 (by decide) (hts _ q1211) (fun _ h9 => h9) rfl dX13_must_21 ?_
    refine lv_if_ne (tgt := 31) hx hb dX13_must_24 (by decide) (fun c2 => ?_) (fun c2 => ?_)
    · rw [if_neg c2] at h
      have h := Option.some.inj h; subst h
      exact x_vret F hr hlk hW hS dX13_must_31
    · rw [if_pos c2] at h
      refine lv_aload_n hx hb dX13_must_27 rfl (lv_at hl 0 rfl) ?_
      cases g3 : fX13_next (xup σ 24 7 1) with
      | none => rw [g3] at h; cases h
      | some r4 =>
        rw [g3, Option.bind_some] at h
        refine x_backv (va_runV (C := RX13) (b := (xa E 186)) (As := []) (rest := []) F.1 (mX13_next l E (xup σ 24 7 1) r4 g3) (cwV 0 hts (lw_V q1616 q1618 qs88 q115 q1619) rfl rfl rfl (by decide +kernel) ⟨Nat.le_of_ble_eq_true rfl, Nat.le_of_ble_eq_true rfl⟩) ⟨xPc.blind, va_recv hK (xO_M hW) (ci := 13) (q0 := 0) rfl rfl, F.pre hW hS (.ref (xa E 186) :: [])⟩ rfl rfl hl.1 rfl (lv_room (Nat.le_of_ble_eq_true rfl)) dX13_must_28 ⟨Nat.le_refl _, Nat.le_refl _⟩) hS (fun H locs hW hS => ?_)
        have h := Option.some.inj h; subst h
        exact x_vret F hr hlk hW hS dX13_must_31
  · rw [if_pos c1] at h
    refine lv_iload_n hx hb dX13_must_8 rfl (lv_at hl 1 rfl) ?_
    refine lv_if_ne (tgt := 16) hx hb dX13_must_9 (by decide) (fun c5 => ?_) (fun c5 => ?_)
    · rw [if_neg c5] at h
      refine lv_iconst (v := 0) hx hb dX13_must_16 (by decide) ?_
      refine x_put (C := RX13) (T := TX13) (N := 24) (ci := 13) (ty := .boolean) F hW hS in_X13 tyX13 tyX13_ok nmX13 rfl 186 15 24 7 (by decide) rfl (by decide) rfl (by decide) (hts _ q1211) (fun _ h9 => h9) rfl (by decide +kernel) rfl rfl dX13_must_17 (fun H locs hW hS => ?_)
      refine lv_aload_n hx hb dX13_must_20 rfl (lv_at hl 0 rfl) ?_
      refine va_get (D := xD E) (ci := 13) (v := .int ((xup σ 24 7 0) 24 7)) (C := RX13) (T := TX13) (N := 24) hx hb hts in_X13 hown hK (xO_M hW) 0 rfl rfl 15 (by decide) (hts _ q1211) (fun _ h9 => h9) rfl dX13_must_21 ?_
      refine lv_if_ne (tgt := 31) hx hb dX13_must_24 (by decide) (fun c6 => ?_) (fun c6 => ?_)
      · rw [if_neg c6] at h
        have h := Option.some.inj h; subst h
        exact x_vret F hr hlk hW hS dX13_must_31
      · rw [if_pos c6] at h
        refine lv_aload_n hx hb dX13_must_27 rfl (lv_at hl 0 rfl) ?_
        cases g7 : fX13_next (xup σ 24 7 0) with
        | none => rw [g7] at h; cases h
        | some r8 =>
          rw [g7, Option.bind_some] at h
          refine x_backv (va_runV (C := RX13) (b := (xa E 186)) (As := []) (rest := []) F.1 (mX13_next l E (xup σ 24 7 0) r8 g7) (cwV 0 hts (lw_V q1616 q1618 qs88 q115 q1619) rfl rfl rfl (by decide +kernel) ⟨Nat.le_of_ble_eq_true rfl, Nat.le_of_ble_eq_true rfl⟩) ⟨xPc.blind, va_recv hK (xO_M hW) (ci := 13) (q0 := 0) rfl rfl, F.pre hW hS (.ref (xa E 186) :: [])⟩ rfl rfl hl.1 rfl (lv_room (Nat.le_of_ble_eq_true rfl)) dX13_must_28 ⟨Nat.le_refl _, Nat.le_refl _⟩) hS (fun H locs hW hS => ?_)
          have h := Option.some.inj h; subst h
          exact x_vret F hr hlk hW hS dX13_must_31
    · rw [if_pos c5] at h
      refine lv_iconst (v := 1) hx hb dX13_must_12 (by decide) ?_
      refine lv_goto (tgt := 17) hx hb dX13_must_13 (by decide) ?_
      refine x_put (C := RX13) (T := TX13) (N := 24) (ci := 13) (ty := .boolean) F hW hS in_X13 tyX13 tyX13_ok nmX13 rfl 186 15 24 7 (by decide) rfl (by decide) rfl (by decide) (hts _ q1211) (fun _ h9 => h9) rfl (by decide +kernel) rfl rfl dX13_must_17 (fun H locs hW hS => ?_)
      refine lv_aload_n hx hb dX13_must_20 rfl (lv_at hl 0 rfl) ?_
      refine va_get (D := xD E) (ci := 13) (v := .int ((xup σ 24 7 1) 24 7)) (C := RX13) (T := TX13) (N := 24) hx hb hts in_X13 hown hK (xO_M hW) 0 rfl rfl 15 (by decide) (hts _ q1211) (fun _ h9 => h9) rfl dX13_must_21 ?_
      refine lv_if_ne (tgt := 31) hx hb dX13_must_24 (by decide) (fun c9 => ?_) (fun c9 => ?_)
      · rw [if_neg c9] at h
        have h := Option.some.inj h; subst h
        exact x_vret F hr hlk hW hS dX13_must_31
      · rw [if_pos c9] at h
        refine lv_aload_n hx hb dX13_must_27 rfl (lv_at hl 0 rfl) ?_
        cases g10 : fX13_next (xup σ 24 7 1) with
        | none => rw [g10] at h; cases h
        | some r11 =>
          rw [g10, Option.bind_some] at h
          refine x_backv (va_runV (C := RX13) (b := (xa E 186)) (As := []) (rest := []) F.1 (mX13_next l E (xup σ 24 7 1) r11 g10) (cwV 0 hts (lw_V q1616 q1618 qs88 q115 q1619) rfl rfl rfl (by decide +kernel) ⟨Nat.le_of_ble_eq_true rfl, Nat.le_of_ble_eq_true rfl⟩) ⟨xPc.blind, va_recv hK (xO_M hW) (ci := 13) (q0 := 0) rfl rfl, F.pre hW hS (.ref (xa E 186) :: [])⟩ rfl rfl hl.1 rfl (lv_room (Nat.le_of_ble_eq_true rfl)) dX13_must_28 ⟨Nat.le_refl _, Nat.le_refl _⟩) hS (fun H locs hW hS => ?_)
          have h := Option.some.inj h; subst h
          exact x_vret F hr hlk hW hS dX13_must_31
/-! WildBellsModel.number(II)I -/
def fX13_number (σ : xM) (a1 : Int32) (a2 : Int32) : Option (Int32 × xM) :=
  if (σ 24 5) = 2 then (if (fX13_within (σ 24 6) a1 a2) = 0 then ((fX13_must σ 0).bind (fun r6 => some ((σ 24 6), r6))) else ((fX13_must σ 1).bind (fun r8 => some ((σ 24 6), r8)))) else ((fX13_must σ 0).bind (fun r3 => some ((σ 24 6), r3)))
set_option maxHeartbeats 4000000 in
theorem mX13_number (l : Launch) (E : xE) (σ : xM) (a1 : Int32) (a2 : Int32) (r : Int32) (σ' : xM) (h : fX13_number σ a1 a2 = some (r, σ')) : Met l yX13_number (ws_ yX13_number cX13_number 4 (some .int)) ({ frames := 3, cells := 0, slots := 0, locals := 64 } : Room) (xPc E σ [.ref (xa E 186), .int a1, .int a2]) (xQc E (.returned (some (.int r))) σ') 0 0 (xA E) := by
  refine x_of (C := RX13) (n := "number") (d := "(II)I") (r := (some .int)) (by decide) rfl (by first | decide | exact Nat.le_of_ble_eq_true rfl) ?_
  intro p e s m below meth c ls F hr hlk hW hS hl
  have hl : lv_has ls 4 [(0, .ref (xa E 186)), (1, .int a1), (2, .int a2)] := hl
  obtain ⟨hx, hb, hml, hown, hts⟩ := id F.1
  have hK := F.2.1.1
  unfold fX13_number at h
  refine lv_aload_n hx hb dX13_number_0 rfl (lv_at hl 0 rfl) ?_
  refine va_get (D := xD E) (ci := 13) (v := .int (σ 24 6)) (C := RX13) (T := TX13) (N := 24) hx hb hts in_X13 hown hK (xO_M hW) 0 rfl rfl 14 (by decide) (hts _ q1210) (fun _ h9 => h9) rfl dX13_number_1 ?_
  refine lv_istore_n (lv' := [(3, .int (σ 24 6)), (0, .ref (xa E 186)), (1, .int a1), (2, .int a2)]) hx hb dX13_number_4 rfl hl (by decide) rfl (fun ls hl => ?_)
  refine lv_aload_n hx hb dX13_number_5 rfl (lv_at hl 1 rfl) ?_
  refine lv_aload_n hx hb dX13_number_6 rfl (lv_at hl 1 rfl) ?_
  refine va_get (D := xD E) (ci := 13) (v := .int (σ 24 5)) (C := RX13) (T := TX13) (N := 24) hx hb hts in_X13 hown hK (xO_M hW) 0 rfl rfl 13 (by decide) (hts _ q1209) (fun _ h9 => h9) rfl dX13_number_7 ?_
  refine lv_iconst (v := 2) hx hb dX13_number_10 (by decide) ?_
  refine lv_icmp_ne (tgt := 27) hx hb dX13_number_11 (by decide) (fun c1 => ?_) (fun c1 => ?_)
  · rw [if_neg c1] at h
    refine lv_iconst (v := 0) hx hb dX13_number_27 (by decide) ?_
    cases g2 : fX13_must σ 0 with
    | none => rw [g2] at h; cases h
    | some r3 =>
      rw [g2, Option.bind_some] at h
      refine x_backv (va_runV (C := RX13) (b := (xa E 186)) (As := [.int 0]) (rest := []) F.1 (mX13_must l E σ 0 r3 g2) (cwV 1 hts (lw_V q1645 q1647 qs93 q115 q1648) rfl rfl rfl (by decide +kernel) ⟨Nat.le_of_ble_eq_true rfl, Nat.le_of_ble_eq_true rfl⟩) ⟨xPc.blind, va_recv hK (xO_M hW) (ci := 13) (q0 := 0) rfl rfl, F.pre hW hS (.ref (xa E 186) :: [.int 0])⟩ rfl rfl hl.1 rfl (lv_room (Nat.le_of_ble_eq_true rfl)) dX13_number_28 ⟨Nat.le_refl _, Nat.le_refl _⟩) hS (fun H locs hW hS => ?_)
      refine lv_iload_n hx hb dX13_number_31 rfl (lv_at hl 0 rfl) ?_
      obtain ⟨h1, h2⟩ := Prod.mk.inj (Option.some.inj h); subst h1; subst h2
      exact x_iret F hr hlk hW hS dX13_number_32
  · rw [if_pos c1] at h
    refine lv_iload_n hx hb dX13_number_14 rfl (lv_at hl 0 rfl) ?_
    refine lv_iload_n hx hb dX13_number_15 rfl (lv_at hl 2 rfl) ?_
    refine lv_iload_n hx hb dX13_number_16 rfl (lv_at hl 3 rfl) ?_
    refine x_backi (va_runS (As := [.int (σ 24 6), .int a1, .int a2]) (rest := [.ref (xa E 186)]) F.1 (mX13_within l E σ (σ 24 6) a1 a2) (va_cwS 3 hts (lw_S q1276 q1277 q115 q1278) rfl rfl rfl (by decide +kernel) ⟨Nat.le_of_ble_eq_true rfl, Nat.le_of_ble_eq_true rfl⟩) ⟨xPc.blind, F.pre hW hS [.int (σ 24 6), .int a1, .int a2]⟩ rfl rfl hl.1 rfl (lv_room (Nat.le_of_ble_eq_true rfl)) dX13_number_17 ⟨Nat.le_refl _, Nat.le_refl _⟩) hS (fun H locs hW hS => ?_)
    refine lv_if_eq (tgt := 27) hx hb dX13_number_20 (by decide) (fun c4 => ?_) (fun c4 => ?_)
    · rw [if_pos c4] at h
      refine lv_iconst (v := 0) hx hb dX13_number_27 (by decide) ?_
      cases g5 : fX13_must σ 0 with
      | none => rw [g5] at h; cases h
      | some r6 =>
        rw [g5, Option.bind_some] at h
        refine x_backv (va_runV (C := RX13) (b := (xa E 186)) (As := [.int 0]) (rest := []) F.1 (mX13_must l E σ 0 r6 g5) (cwV 1 hts (lw_V q1645 q1647 qs93 q115 q1648) rfl rfl rfl (by decide +kernel) ⟨Nat.le_of_ble_eq_true rfl, Nat.le_of_ble_eq_true rfl⟩) ⟨xPc.blind, va_recv hK (xO_M hW) (ci := 13) (q0 := 0) rfl rfl, F.pre hW hS (.ref (xa E 186) :: [.int 0])⟩ rfl rfl hl.1 rfl (lv_room (Nat.le_of_ble_eq_true rfl)) dX13_number_28 ⟨Nat.le_refl _, Nat.le_refl _⟩) hS (fun H locs hW hS => ?_)
        refine lv_iload_n hx hb dX13_number_31 rfl (lv_at hl 0 rfl) ?_
        obtain ⟨h1, h2⟩ := Prod.mk.inj (Option.some.inj h); subst h1; subst h2
        exact x_iret F hr hlk hW hS dX13_number_32
    · rw [if_neg c4] at h
      refine lv_iconst (v := 1) hx hb dX13_number_23 (by decide) ?_
      refine lv_goto (tgt := 28) hx hb dX13_number_24 (by decide) ?_
      cases g7 : fX13_must σ 1 with
      | none => rw [g7] at h; cases h
      | some r8 =>
        rw [g7, Option.bind_some] at h
        refine x_backv (va_runV (C := RX13) (b := (xa E 186)) (As := [.int 1]) (rest := []) F.1 (mX13_must l E σ 1 r8 g7) (cwV 1 hts (lw_V q1645 q1647 qs93 q115 q1648) rfl rfl rfl (by decide +kernel) ⟨Nat.le_of_ble_eq_true rfl, Nat.le_of_ble_eq_true rfl⟩) ⟨xPc.blind, va_recv hK (xO_M hW) (ci := 13) (q0 := 0) rfl rfl, F.pre hW hS (.ref (xa E 186) :: [.int 1])⟩ rfl rfl hl.1 rfl (lv_room (Nat.le_of_ble_eq_true rfl)) dX13_number_28 ⟨Nat.le_refl _, Nat.le_refl _⟩) hS (fun H locs hW hS => ?_)
        refine lv_iload_n hx hb dX13_number_31 rfl (lv_at hl 0 rfl) ?_
        obtain ⟨h1, h2⟩ := Prod.mk.inj (Option.some.inj h); subst h1; subst h2
        exact x_iret F hr hlk hW hS dX13_number_32
/-! WildBellsModel.item(IIII)V -/
def fX13_item (σ : xM) (a1 : Int32) (a2 : Int32) (a3 : Int32) (a4 : Int32) : Option xM :=
  if xin (4 * (σ 24 8)) 480 then (if xin ((4 * (σ 24 8)) + 1) 480 then (if xin ((4 * (σ 24 8)) + 2) 480 then (if xin ((4 * (σ 24 8)) + 3) 480 then (some (xup (xup (xup (xup (xup σ 27 ((4 * (σ 24 8)).toNatClampNeg) a1) 27 (((4 * (σ 24 8)) + 1).toNatClampNeg) a2) 27 (((4 * (σ 24 8)) + 2).toNatClampNeg) a3) 27 (((4 * (σ 24 8)) + 3).toNatClampNeg) a4) 24 8 (((xup (xup (xup (xup σ 27 ((4 * (σ 24 8)).toNatClampNeg) a1) 27 (((4 * (σ 24 8)) + 1).toNatClampNeg) a2) 27 (((4 * (σ 24 8)) + 2).toNatClampNeg) a3) 27 (((4 * (σ 24 8)) + 3).toNatClampNeg) a4) 24 8) + 1))) else none) else none) else none) else none
set_option maxHeartbeats 4000000 in
theorem mX13_item (l : Launch) (E : xE) (σ : xM) (a1 : Int32) (a2 : Int32) (a3 : Int32) (a4 : Int32) (σ' : xM) (h : fX13_item σ a1 a2 a3 a4 = some σ') : Met l yX13_item (ws_ yX13_item cX13_item 6 none) ({ frames := 0, cells := 0, slots := 0, locals := 0 } : Room) (xPc E σ [.ref (xa E 186), .int a1, .int a2, .int a3, .int a4]) (xQc E (.returned none) σ') 0 0 (xA E) := by
  refine x_of (C := RX13) (n := "item") (d := "(IIII)V") (r := none) (by decide) rfl (by first | decide | exact Nat.le_of_ble_eq_true rfl) ?_
  intro p e s m below meth c ls F hr hlk hW hS hl
  have hl : lv_has ls 6 [(0, .ref (xa E 186)), (1, .int a1), (2, .int a2), (3, .int a3), (4, .int a4)] := hl
  obtain ⟨hx, hb, hml, hown, hts⟩ := id F.1
  have hK := F.2.1.1
  unfold fX13_item at h
  refine lv_iconst (v := 4) hx hb dX13_item_0 (by decide) ?_
  refine lv_aload_n hx hb dX13_item_1 rfl (lv_at hl 0 rfl) ?_
  refine va_get (D := xD E) (ci := 13) (v := .int (σ 24 8)) (C := RX13) (T := TX13) (N := 24) hx hb hts in_X13 hown hK (xO_M hW) 0 rfl rfl 18 (by decide) (hts _ q1214) (fun _ h9 => h9) rfl dX13_item_2 ?_
  refine lv_imul hx hb dX13_item_5 ?_
  refine lv_istore (lv' := [(5, .int (4 * (σ 24 8))), (0, .ref (xa E 186)), (1, .int a1), (2, .int a2), (3, .int a3), (4, .int a4)]) hx hb dX13_item_6 hl (by decide) rfl (fun ls hl => ?_)
  refine lv_aload_n hx hb dX13_item_8 rfl (lv_at hl 1 rfl) ?_
  refine va_get (D := xD E) (ci := 13) (v := .ref (xa E 196)) (C := RX13) (T := TX13) (N := 24) hx hb hts in_X13 hown hK (xO_M hW) 0 rfl rfl 17 (by decide) (hts _ q1213) (fun _ h9 => h9) rfl dX13_item_9 ?_
  refine lv_iload hx hb dX13_item_12 (lv_at hl 0 rfl) ?_
  refine lv_iload_n hx hb dX13_item_14 rfl (lv_at hl 2 rfl) ?_
  by_cases hi1 : xin (4 * (σ 24 8)) 480
  · rw [if_pos hi1] at h
    refine x_iast F hW hS 196 480 27 (fun j => j) xp_196.1 xp_196.2.1 xp_196.2.2.1 xp_196.2.2.2 hi1 dX13_item_15 (fun H locs hW hS => ?_)
    refine lv_aload_n hx hb dX13_item_16 rfl (lv_at hl 1 rfl) ?_
    refine va_get (D := xD E) (ci := 13) (v := .ref (xa E 196)) (C := RX13) (T := TX13) (N := 24) hx hb hts in_X13 hown hK (xO_M hW) 0 rfl rfl 17 (by decide) (hts _ q1213) (fun _ h9 => h9) rfl dX13_item_17 ?_
    refine lv_iload hx hb dX13_item_20 (lv_at hl 0 rfl) ?_
    refine lv_iconst (v := 1) hx hb dX13_item_22 (by decide) ?_
    refine lv_iadd hx hb dX13_item_23 ?_
    refine lv_iload_n hx hb dX13_item_24 rfl (lv_at hl 3 rfl) ?_
    by_cases hi2 : xin ((4 * (σ 24 8)) + 1) 480
    · rw [if_pos hi2] at h
      refine x_iast F hW hS 196 480 27 (fun j => j) xp_196.1 xp_196.2.1 xp_196.2.2.1 xp_196.2.2.2 hi2 dX13_item_25 (fun H locs hW hS => ?_)
      refine lv_aload_n hx hb dX13_item_26 rfl (lv_at hl 1 rfl) ?_
      refine va_get (D := xD E) (ci := 13) (v := .ref (xa E 196)) (C := RX13) (T := TX13) (N := 24) hx hb hts in_X13 hown hK (xO_M hW) 0 rfl rfl 17 (by decide) (hts _ q1213) (fun _ h9 => h9) rfl dX13_item_27 ?_
      refine lv_iload hx hb dX13_item_30 (lv_at hl 0 rfl) ?_
      refine lv_iconst (v := 2) hx hb dX13_item_32 (by decide) ?_
      refine lv_iadd hx hb dX13_item_33 ?_
      refine lv_iload_n hx hb dX13_item_34 rfl (lv_at hl 4 rfl) ?_
      by_cases hi3 : xin ((4 * (σ 24 8)) + 2) 480
      · rw [if_pos hi3] at h
        refine x_iast F hW hS 196 480 27 (fun j => j) xp_196.1 xp_196.2.1 xp_196.2.2.1 xp_196.2.2.2 hi3 dX13_item_35 (fun H locs hW hS => ?_)
        refine lv_aload_n hx hb dX13_item_36 rfl (lv_at hl 1 rfl) ?_
        refine va_get (D := xD E) (ci := 13) (v := .ref (xa E 196)) (C := RX13) (T := TX13) (N := 24) hx hb hts in_X13 hown hK (xO_M hW) 0 rfl rfl 17 (by decide) (hts _ q1213) (fun _ h9 => h9) rfl dX13_item_37 ?_
        refine lv_iload hx hb dX13_item_40 (lv_at hl 0 rfl) ?_
        refine lv_iconst (v := 3) hx hb dX13_item_42 (by decide) ?_
        refine lv_iadd hx hb dX13_item_43 ?_
        refine lv_iload hx hb dX13_item_44 (lv_at hl 5 rfl) ?_
        by_cases hi4 : xin ((4 * (σ 24 8)) + 3) 480
        · rw [if_pos hi4] at h
          refine x_iast F hW hS 196 480 27 (fun j => j) xp_196.1 xp_196.2.1 xp_196.2.2.1 xp_196.2.2.2 hi4 dX13_item_46 (fun H locs hW hS => ?_)
          refine lv_aload_n hx hb dX13_item_47 rfl (lv_at hl 1 rfl) ?_
          refine lv_dup hx hb dX13_item_48 rfl ?_
          refine va_get (D := xD E) (ci := 13) (v := .int ((xup (xup (xup (xup σ 27 ((4 * (σ 24 8)).toNatClampNeg) a1) 27 (((4 * (σ 24 8)) + 1).toNatClampNeg) a2) 27 (((4 * (σ 24 8)) + 2).toNatClampNeg) a3) 27 (((4 * (σ 24 8)) + 3).toNatClampNeg) a4) 24 8)) (C := RX13) (T := TX13) (N := 24) hx hb hts in_X13 hown hK (xO_M hW) 0 rfl rfl 18 (by decide) (hts _ q1214) (fun _ h9 => h9) rfl dX13_item_49 ?_
          refine lv_iconst (v := 1) hx hb dX13_item_52 (by decide) ?_
          refine lv_iadd hx hb dX13_item_53 ?_
          refine x_put (C := RX13) (T := TX13) (N := 24) (ci := 13) (ty := .int) F hW hS in_X13 tyX13 tyX13_ok nmX13 rfl 186 18 24 8 (by decide) rfl (by decide) rfl (by decide) (hts _ q1214) (fun _ h9 => h9) rfl (by decide +kernel) rfl rfl dX13_item_54 (fun H locs hW hS => ?_)
          have h := Option.some.inj h; subst h
          exact x_vret F hr hlk hW hS dX13_item_57
        · rw [if_neg hi4] at h; cases h
      · rw [if_neg hi3] at h; cases h
    · rw [if_neg hi2] at h; cases h
  · rw [if_neg hi1] at h; cases h
/-! WildBellsModel.isToldSo(I)I -/
def fX13_isToldSo (σ : xM) (a1 : Int32) : Option (Int32 × xM) :=
  if xin a1 480 then (if xin (a1 + 1) 480 then (if (σ 27 (a1.toNatClampNeg)) < 20 then (if xin (a1 + 2) 480 then (if xin (a1 + 3) 480 then ((fX13_comes σ (σ 27 (a1.toNatClampNeg)) (σ 27 ((a1 + 1).toNatClampNeg)) (σ 27 ((a1 + 2).toNatClampNeg)) (σ 27 ((a1 + 3).toNatClampNeg))).bind (fun r7 => some (r7.1, r7.2))) else none) else none) else ((fX13_become σ ((σ 27 (a1.toNatClampNeg)) - 20) (σ 27 ((a1 + 1).toNatClampNeg))).bind (fun r9 => some (r9.1, r9.2)))) else none) else none
set_option maxHeartbeats 4000000 in
theorem mX13_isToldSo (l : Launch) (E : xE) (σ : xM) (a1 : Int32) (r : Int32) (σ' : xM) (h : fX13_isToldSo σ a1 = some (r, σ')) : Met l yX13_isToldSo (ws_ yX13_isToldSo cX13_isToldSo 4 (some .int)) ({ frames := 2, cells := 0, slots := 0, locals := 46 } : Room) (xPc E σ [.ref (xa E 186), .int a1]) (xQc E (.returned (some (.int r))) σ') 0 0 (xA E) := by
  refine x_of (C := RX13) (n := "isToldSo") (d := "(I)I") (r := (some .int)) (by decide) rfl (by first | decide | exact Nat.le_of_ble_eq_true rfl) ?_
  intro p e s m below meth c ls F hr hlk hW hS hl
  have hl : lv_has ls 4 [(0, .ref (xa E 186)), (1, .int a1)] := hl
  obtain ⟨hx, hb, hml, hown, hts⟩ := id F.1
  have hK := F.2.1.1
  unfold fX13_isToldSo at h
  refine lv_aload_n hx hb dX13_isToldSo_0 rfl (lv_at hl 0 rfl) ?_
  refine va_get (D := xD E) (ci := 13) (v := .ref (xa E 196)) (C := RX13) (T := TX13) (N := 24) hx hb hts in_X13 hown hK (xO_M hW) 0 rfl rfl 17 (by decide) (hts _ q1213) (fun _ h9 => h9) rfl dX13_isToldSo_1 ?_
  refine lv_iload_n hx hb dX13_isToldSo_4 rfl (lv_at hl 1 rfl) ?_
  by_cases hi1 : xin a1 480
  · rw [if_pos hi1] at h
    refine va_iald hx hb hK (xV_p hW xp_196) 0 0 rfl rfl hi1 dX13_isToldSo_5 ?_
    refine lv_istore_n (lv' := [(2, .int (σ 27 (a1.toNatClampNeg))), (0, .ref (xa E 186)), (1, .int a1)]) hx hb dX13_isToldSo_6 rfl hl (by decide) rfl (fun ls hl => ?_)
    refine lv_aload_n hx hb dX13_isToldSo_7 rfl (lv_at hl 1 rfl) ?_
    refine va_get (D := xD E) (ci := 13) (v := .ref (xa E 196)) (C := RX13) (T := TX13) (N := 24) hx hb hts in_X13 hown hK (xO_M hW) 0 rfl rfl 17 (by decide) (hts _ q1213) (fun _ h9 => h9) rfl dX13_isToldSo_8 ?_
    refine lv_iload_n hx hb dX13_isToldSo_11 rfl (lv_at hl 2 rfl) ?_
    refine lv_iconst (v := 1) hx hb dX13_isToldSo_12 (by decide) ?_
    refine lv_iadd hx hb dX13_isToldSo_13 ?_
    by_cases hi2 : xin (a1 + 1) 480
    · rw [if_pos hi2] at h
      refine va_iald hx hb hK (xV_p hW xp_196) 0 0 rfl rfl hi2 dX13_isToldSo_14 ?_
      refine lv_istore_n (lv' := [(3, .int (σ 27 ((a1 + 1).toNatClampNeg))), (2, .int (σ 27 (a1.toNatClampNeg))), (0, .ref (xa E 186)), (1, .int a1)]) hx hb dX13_isToldSo_15 rfl hl (by decide) rfl (fun ls hl => ?_)
      refine lv_iload_n hx hb dX13_isToldSo_16 rfl (lv_at hl 1 rfl) ?_
      refine lv_bipush (v := 20) hx hb dX13_isToldSo_17 (by decide) ?_
      refine lv_icmp_lt (tgt := 34) hx hb dX13_isToldSo_19 (by decide) (fun c3 => ?_) (fun c3 => ?_)
      · rw [if_pos c3] at h
        refine lv_aload_n hx hb dX13_isToldSo_34 rfl (lv_at hl 2 rfl) ?_
        refine lv_iload_n hx hb dX13_isToldSo_35 rfl (lv_at hl 1 rfl) ?_
        refine lv_iload_n hx hb dX13_isToldSo_36 rfl (lv_at hl 0 rfl) ?_
        refine lv_aload_n hx hb dX13_isToldSo_37 rfl (lv_at hl 2 rfl) ?_
        refine va_get (D := xD E) (ci := 13) (v := .ref (xa E 196)) (C := RX13) (T := TX13) (N := 24) hx hb hts in_X13 hown hK (xO_M hW) 0 rfl rfl 17 (by decide) (hts _ q1213) (fun _ h9 => h9) rfl dX13_isToldSo_38 ?_
        refine lv_iload_n hx hb dX13_isToldSo_41 rfl (lv_at hl 3 rfl) ?_
        refine lv_iconst (v := 2) hx hb dX13_isToldSo_42 (by decide) ?_
        refine lv_iadd hx hb dX13_isToldSo_43 ?_
        by_cases hi4 : xin (a1 + 2) 480
        · rw [if_pos hi4] at h
          refine va_iald hx hb hK (xV_p hW xp_196) 0 0 rfl rfl hi4 dX13_isToldSo_44 ?_
          refine lv_aload_n hx hb dX13_isToldSo_45 rfl (lv_at hl 2 rfl) ?_
          refine va_get (D := xD E) (ci := 13) (v := .ref (xa E 196)) (C := RX13) (T := TX13) (N := 24) hx hb hts in_X13 hown hK (xO_M hW) 0 rfl rfl 17 (by decide) (hts _ q1213) (fun _ h9 => h9) rfl dX13_isToldSo_46 ?_
          refine lv_iload_n hx hb dX13_isToldSo_49 rfl (lv_at hl 3 rfl) ?_
          refine lv_iconst (v := 3) hx hb dX13_isToldSo_50 (by decide) ?_
          refine lv_iadd hx hb dX13_isToldSo_51 ?_
          by_cases hi5 : xin (a1 + 3) 480
          · rw [if_pos hi5] at h
            refine va_iald hx hb hK (xV_p hW xp_196) 0 0 rfl rfl hi5 dX13_isToldSo_52 ?_
            cases g6 : fX13_comes σ (σ 27 (a1.toNatClampNeg)) (σ 27 ((a1 + 1).toNatClampNeg)) (σ 27 ((a1 + 2).toNatClampNeg)) (σ 27 ((a1 + 3).toNatClampNeg)) with
            | none => rw [g6] at h; cases h
            | some r7 =>
              rw [g6, Option.bind_some] at h
              refine x_backi (va_runV (C := RX13) (b := (xa E 186)) (As := [.int (σ 27 (a1.toNatClampNeg)), .int (σ 27 ((a1 + 1).toNatClampNeg)), .int (σ 27 ((a1 + 2).toNatClampNeg)), .int (σ 27 ((a1 + 3).toNatClampNeg))]) (rest := []) F.1 (mX13_comes l E σ (σ 27 (a1.toNatClampNeg)) (σ 27 ((a1 + 1).toNatClampNeg)) (σ 27 ((a1 + 2).toNatClampNeg)) (σ 27 ((a1 + 3).toNatClampNeg)) r7.1 r7.2 g6) (cwV 4 hts (lw_V q1311 q1313 qs54 q115 q1314) rfl rfl rfl (by decide +kernel) ⟨Nat.le_of_ble_eq_true rfl, Nat.le_of_ble_eq_true rfl⟩) ⟨xPc.blind, va_recv hK (xO_M hW) (ci := 13) (q0 := 0) rfl rfl, F.pre hW hS (.ref (xa E 186) :: [.int (σ 27 (a1.toNatClampNeg)), .int (σ 27 ((a1 + 1).toNatClampNeg)), .int (σ 27 ((a1 + 2).toNatClampNeg)), .int (σ 27 ((a1 + 3).toNatClampNeg))])⟩ rfl rfl hl.1 rfl (lv_room (Nat.le_of_ble_eq_true rfl)) dX13_isToldSo_53 ⟨Nat.le_refl _, Nat.le_refl _⟩) hS (fun H locs hW hS => ?_)
              obtain ⟨h1, h2⟩ := Prod.mk.inj (Option.some.inj h); subst h1; subst h2
              exact x_iret F hr hlk hW hS dX13_isToldSo_56
          · rw [if_neg hi5] at h; cases h
        · rw [if_neg hi4] at h; cases h
      · rw [if_neg c3] at h
        refine lv_aload_n hx hb dX13_isToldSo_22 rfl (lv_at hl 2 rfl) ?_
        refine lv_iload_n hx hb dX13_isToldSo_23 rfl (lv_at hl 1 rfl) ?_
        refine lv_bipush (v := 20) hx hb dX13_isToldSo_24 (by decide) ?_
        refine lv_isub hx hb dX13_isToldSo_26 ?_
        refine lv_iload_n hx hb dX13_isToldSo_27 rfl (lv_at hl 0 rfl) ?_
        cases g8 : fX13_become σ ((σ 27 (a1.toNatClampNeg)) - 20) (σ 27 ((a1 + 1).toNatClampNeg)) with
        | none => rw [g8] at h; cases h
        | some r9 =>
          rw [g8, Option.bind_some] at h
          refine x_backi (va_runV (C := RX13) (b := (xa E 186)) (As := [.int ((σ 27 (a1.toNatClampNeg)) - 20), .int (σ 27 ((a1 + 1).toNatClampNeg))]) (rest := []) F.1 (mX13_become l E σ ((σ 27 (a1.toNatClampNeg)) - 20) (σ 27 ((a1 + 1).toNatClampNeg)) r9.1 r9.2 g8) (cwV 2 hts (lw_V q1284 q1286 qs53 q115 q1287) rfl rfl rfl (by decide +kernel) ⟨Nat.le_of_ble_eq_true rfl, Nat.le_of_ble_eq_true rfl⟩) ⟨xPc.blind, va_recv hK (xO_M hW) (ci := 13) (q0 := 0) rfl rfl, F.pre hW hS (.ref (xa E 186) :: [.int ((σ 27 (a1.toNatClampNeg)) - 20), .int (σ 27 ((a1 + 1).toNatClampNeg))])⟩ rfl rfl hl.1 rfl (lv_room (Nat.le_of_ble_eq_true rfl)) dX13_isToldSo_28 ⟨Nat.le_refl _, Nat.le_refl _⟩) hS (fun H locs hW hS => ?_)
          refine lv_goto (tgt := 56) hx hb dX13_isToldSo_31 (by decide) ?_
          obtain ⟨h1, h2⟩ := Prod.mk.inj (Option.some.inj h); subst h1; subst h2
          exact x_iret F hr hlk hW hS dX13_isToldSo_56
    · rw [if_neg hi2] at h; cases h
  · rw [if_neg hi1] at h; cases h
/-! WildBellsModel.isSpot(I)Z -/
def fX13_isSpot (a0 : Int32) : Int32 :=
  (fX13_within a0 0 9)
theorem bX13_isSpot (a0 : Int32) : narrow .boolean (.int (fX13_isSpot a0)) = .int (fX13_isSpot a0) := by
  unfold fX13_isSpot
  first
    | (repeat' split) <;> rfl
    | exact bX0_in _ _ _
    | exact bX13_within _ _ _
    | ((repeat' split) <;> first | rfl | exact bX0_in _ _ _ | exact bX0_isKind _ | exact bX0_isCell _ | exact bX0_isWeight _)
    | ((repeat' split) <;> first | rfl | exact bX13_within _ _ _ | exact bX13_isKind _ | exact bX13_isCell _)
set_option maxHeartbeats 4000000 in
theorem mX13_isSpot (l : Launch) (E : xE) (σ : xM) (a0 : Int32) : Met l yX13_isSpot (ws_ yX13_isSpot cX13_isSpot 1 (some .boolean)) ({ frames := 1, cells := 0, slots := 0, locals := 22 } : Room) (xPc E σ [.int a0]) (xQc E (.returned (some (.int (fX13_isSpot a0)))) σ) 0 0 (xA E) := by
  refine x_of (C := RX13) (n := "isSpot") (d := "(I)Z") (r := (some .boolean)) (by decide) rfl (by first | decide | exact Nat.le_of_ble_eq_true rfl) ?_
  intro p e s m below meth c ls F hr hlk hW hS hl
  have hl : lv_has ls 1 [(0, .int a0)] := hl
  obtain ⟨hx, hb, hml, hown, hts⟩ := id F.1
  have hK := F.2.1.1
  obtain ⟨r, h⟩ : ∃ r, fX13_isSpot a0 = r := ⟨_, rfl⟩
  rw [h]
  unfold fX13_isSpot at h
  refine lv_iload_n hx hb dX13_isSpot_0 rfl (lv_at hl 0 rfl) ?_
  refine lv_iconst (v := 0) hx hb dX13_isSpot_1 (by decide) ?_
  refine lv_bipush (v := 9) hx hb dX13_isSpot_2 (by decide) ?_
  refine x_backi (va_runS (As := [.int a0, .int 0, .int 9]) (rest := []) F.1 (mX13_within l E σ a0 0 9) (va_cwS 3 hts (lw_S q1276 q1277 q115 q1278) rfl rfl rfl (by decide +kernel) ⟨Nat.le_of_ble_eq_true rfl, Nat.le_of_ble_eq_true rfl⟩) ⟨xPc.blind, F.pre hW hS [.int a0, .int 0, .int 9]⟩ rfl rfl hl.1 rfl (lv_room (Nat.le_of_ble_eq_true rfl)) dX13_isSpot_4 ⟨Nat.le_refl _, Nat.le_refl _⟩) hS (fun H locs hW hS => ?_)
  subst h
  exact x_zret F hr hlk hW hS (by first | exact bX13_within _ _ _ | rfl) dX13_isSpot_7
/-! WildBellsModel.hold(II)I -/
def fX13_hold (σ : xM) (a1 : Int32) (a2 : Int32) : Option (Int32 × xM) :=
  if (fX13_isSpot a1) = 0 then ((fX13_finding σ (-1000001)).bind (fun r3 => some (r3.1, r3.2))) else (if a2 = (-1) then (if xin (4 + a1) 186 then (some (1, (xup σ 20 ((4 + a1).toNatClampNeg) a2))) else none) else ((fX13_isBell σ a2).bind (fun r7 => if r7 = 0 then ((fX13_finding σ (-1000001)).bind (fun r11 => some (r11.1, r11.2))) else (if xin (4 + a1) 186 then (some (1, (xup σ 20 ((4 + a1).toNatClampNeg) a2))) else none))))
set_option maxHeartbeats 4000000 in
theorem mX13_hold (l : Launch) (E : xE) (σ : xM) (a1 : Int32) (a2 : Int32) (r : Int32) (σ' : xM) (h : fX13_hold σ a1 a2 = some (r, σ')) : Met l yX13_hold (ws_ yX13_hold cX13_hold 3 (some .int)) ({ frames := 2, cells := 0, slots := 0, locals := 43 } : Room) (xPc E σ [.ref (xa E 186), .int a1, .int a2]) (xQc E (.returned (some (.int r))) σ') 0 0 (xA E) := by
  refine x_of (C := RX13) (n := "hold") (d := "(II)I") (r := (some .int)) (by decide) rfl (by first | decide | exact Nat.le_of_ble_eq_true rfl) ?_
  intro p e s m below meth c ls F hr hlk hW hS hl
  have hl : lv_has ls 3 [(0, .ref (xa E 186)), (1, .int a1), (2, .int a2)] := hl
  obtain ⟨hx, hb, hml, hown, hts⟩ := id F.1
  have hK := F.2.1.1
  unfold fX13_hold at h
  refine lv_iload_n hx hb dX13_hold_0 rfl (lv_at hl 1 rfl) ?_
  refine x_backi (va_runS (As := [.int a1]) (rest := []) F.1 (mX13_isSpot l E σ a1) (va_cwS 1 hts (lw_S q1676 q1677 q115 q1678) rfl rfl rfl (by decide +kernel) ⟨Nat.le_of_ble_eq_true rfl, Nat.le_of_ble_eq_true rfl⟩) ⟨xPc.blind, F.pre hW hS [.int a1]⟩ rfl rfl hl.1 rfl (lv_room (Nat.le_of_ble_eq_true rfl)) dX13_hold_1 ⟨Nat.le_refl _, Nat.le_refl _⟩) hS (fun H locs hW hS => ?_)
  refine lv_if_eq (tgt := 20) hx hb dX13_hold_4 (by decide) (fun c1 => ?_) (fun c1 => ?_)
  · rw [if_pos c1] at h
    refine lv_aload_n hx hb dX13_hold_20 rfl (lv_at hl 0 rfl) ?_
    refine lv_ldc (v := (-1000001)) hx hb hown (hts _ q1279) dX13_hold_21 ?_
    cases g2 : fX13_finding σ (-1000001) with
    | none => rw [g2] at h; cases h
    | some r3 =>
      rw [g2, Option.bind_some] at h
      refine x_backi (va_runV (C := RX13) (b := (xa E 186)) (As := [.int (-1000001)]) (rest := []) F.1 (mX13_finding l E σ (-1000001) r3.1 r3.2 g2) (cwV 1 hts (lw_V q1280 q1282 qs52 q115 q1283) rfl rfl rfl (by decide +kernel) ⟨Nat.le_of_ble_eq_true rfl, Nat.le_of_ble_eq_true rfl⟩) ⟨xPc.blind, va_recv hK (xO_M hW) (ci := 13) (q0 := 0) rfl rfl, F.pre hW hS (.ref (xa E 186) :: [.int (-1000001)])⟩ rfl rfl hl.1 rfl (lv_room (Nat.le_of_ble_eq_true rfl)) dX13_hold_23 ⟨Nat.le_refl _, Nat.le_refl _⟩) hS (fun H locs hW hS => ?_)
      obtain ⟨h1, h2⟩ := Prod.mk.inj (Option.some.inj h); subst h1; subst h2
      exact x_iret F hr hlk hW hS dX13_hold_26
  · rw [if_neg c1] at h
    refine lv_iload_n hx hb dX13_hold_7 rfl (lv_at hl 2 rfl) ?_
    refine lv_iconst (v := (-1)) hx hb dX13_hold_8 (by decide) ?_
    refine lv_icmp_eq (tgt := 27) hx hb dX13_hold_9 (by decide) (fun c4 => ?_) (fun c4 => ?_)
    · rw [if_pos c4] at h
      refine lv_aload_n hx hb dX13_hold_27 rfl (lv_at hl 0 rfl) ?_
      refine va_get (D := xD E) (ci := 13) (v := .ref (xa E 187)) (C := RX13) (T := TX13) (N := 24) hx hb hts in_X13 hown hK (xO_M hW) 0 rfl rfl 0 (by decide) (hts _ q1196) (fun _ h9 => h9) rfl dX13_hold_28 ?_
      refine lv_iconst (v := 4) hx hb dX13_hold_31 (by decide) ?_
      refine lv_iload_n hx hb dX13_hold_32 rfl (lv_at hl 1 rfl) ?_
      refine lv_iadd hx hb dX13_hold_33 ?_
      refine lv_iload_n hx hb dX13_hold_34 rfl (lv_at hl 2 rfl) ?_
      by_cases hi5 : xin (4 + a1) 186
      · rw [if_pos hi5] at h
        refine x_iast F hW hS 187 186 20 (fun j => j) xp_187.1 xp_187.2.1 xp_187.2.2.1 xp_187.2.2.2 hi5 dX13_hold_35 (fun H locs hW hS => ?_)
        refine lv_iconst (v := 1) hx hb dX13_hold_36 (by decide) ?_
        obtain ⟨h1, h2⟩ := Prod.mk.inj (Option.some.inj h); subst h1; subst h2
        exact x_iret F hr hlk hW hS dX13_hold_37
      · rw [if_neg hi5] at h; cases h
    · rw [if_neg c4] at h
      refine lv_aload_n hx hb dX13_hold_12 rfl (lv_at hl 0 rfl) ?_
      refine lv_iload_n hx hb dX13_hold_13 rfl (lv_at hl 2 rfl) ?_
      cases g6 : fX13_isBell σ a2 with
      | none => rw [g6] at h; cases h
      | some r7 =>
        rw [g6, Option.bind_some] at h
        refine x_backi (va_runV (C := RX13) (b := (xa E 186)) (As := [.int a2]) (rest := []) F.1 (mX13_isBell l E σ a2 r7 g6) (cwV 1 hts (lw_V q1322 q1324 qs55 q115 q1325) rfl rfl rfl (by decide +kernel) ⟨Nat.le_of_ble_eq_true rfl, Nat.le_of_ble_eq_true rfl⟩) ⟨xPc.blind, va_recv hK (xO_M hW) (ci := 13) (q0 := 0) rfl rfl, F.pre hW hS (.ref (xa E 186) :: [.int a2])⟩ rfl rfl hl.1 rfl (lv_room (Nat.le_of_ble_eq_true rfl)) dX13_hold_14 ⟨Nat.le_refl _, Nat.le_refl _⟩) hS (fun H locs hW hS => ?_)
        refine lv_if_ne (tgt := 27) hx hb dX13_hold_17 (by decide) (fun c8 => ?_) (fun c8 => ?_)
        · rw [if_neg c8] at h
          refine lv_aload_n hx hb dX13_hold_27 rfl (lv_at hl 0 rfl) ?_
          refine va_get (D := xD E) (ci := 13) (v := .ref (xa E 187)) (C := RX13) (T := TX13) (N := 24) hx hb hts in_X13 hown hK (xO_M hW) 0 rfl rfl 0 (by decide) (hts _ q1196) (fun _ h9 => h9) rfl dX13_hold_28 ?_
          refine lv_iconst (v := 4) hx hb dX13_hold_31 (by decide) ?_
          refine lv_iload_n hx hb dX13_hold_32 rfl (lv_at hl 1 rfl) ?_
          refine lv_iadd hx hb dX13_hold_33 ?_
          refine lv_iload_n hx hb dX13_hold_34 rfl (lv_at hl 2 rfl) ?_
          by_cases hi9 : xin (4 + a1) 186
          · rw [if_pos hi9] at h
            refine x_iast F hW hS 187 186 20 (fun j => j) xp_187.1 xp_187.2.1 xp_187.2.2.1 xp_187.2.2.2 hi9 dX13_hold_35 (fun H locs hW hS => ?_)
            refine lv_iconst (v := 1) hx hb dX13_hold_36 (by decide) ?_
            obtain ⟨h1, h2⟩ := Prod.mk.inj (Option.some.inj h); subst h1; subst h2
            exact x_iret F hr hlk hW hS dX13_hold_37
          · rw [if_neg hi9] at h; cases h
        · rw [if_pos c8] at h
          refine lv_aload_n hx hb dX13_hold_20 rfl (lv_at hl 0 rfl) ?_
          refine lv_ldc (v := (-1000001)) hx hb hown (hts _ q1279) dX13_hold_21 ?_
          cases g10 : fX13_finding σ (-1000001) with
          | none => rw [g10] at h; cases h
          | some r11 =>
            rw [g10, Option.bind_some] at h
            refine x_backi (va_runV (C := RX13) (b := (xa E 186)) (As := [.int (-1000001)]) (rest := []) F.1 (mX13_finding l E σ (-1000001) r11.1 r11.2 g10) (cwV 1 hts (lw_V q1280 q1282 qs52 q115 q1283) rfl rfl rfl (by decide +kernel) ⟨Nat.le_of_ble_eq_true rfl, Nat.le_of_ble_eq_true rfl⟩) ⟨xPc.blind, va_recv hK (xO_M hW) (ci := 13) (q0 := 0) rfl rfl, F.pre hW hS (.ref (xa E 186) :: [.int (-1000001)])⟩ rfl rfl hl.1 rfl (lv_room (Nat.le_of_ble_eq_true rfl)) dX13_hold_23 ⟨Nat.le_refl _, Nat.le_refl _⟩) hS (fun H locs hW hS => ?_)
            obtain ⟨h1, h2⟩ := Prod.mk.inj (Option.some.inj h); subst h1; subst h2
            exact x_iret F hr hlk hW hS dX13_hold_26
/-! WildBellsModel.as(II)I -/
def fX13_as (σ : xM) (a1 : Int32) (a2 : Int32) : Option (Int32 × xM) :=
  if (fX13_isSpot a1) = 0 then ((fX13_finding σ (-1000001)).bind (fun r3 => some (r3.1, r3.2))) else (if (fX13_isKind a2) = 0 then ((fX13_finding σ (-1000001)).bind (fun r17 => some (r17.1, r17.2))) else (if xin (4 + a1) 186 then (if 0 ≤ (σ 20 ((4 + a1).toNatClampNeg)) then ((fX13_bellIs σ (σ 20 ((4 + a1).toNatClampNeg)) 0).bind (fun r8 => (fX13_isUnder r8 a2).bind (fun r10 => if r10 = 0 then ((fX13_finding σ (-1000003)).bind (fun r13 => some (r13.1, r13.2))) else (some ((σ 20 ((4 + a1).toNatClampNeg)), σ))))) else ((fX13_finding σ (-1000006)).bind (fun r15 => some (r15.1, r15.2)))) else none))
set_option maxHeartbeats 4000000 in
theorem mX13_as (l : Launch) (E : xE) (σ : xM) (a1 : Int32) (a2 : Int32) (r : Int32) (σ' : xM) (h : fX13_as σ a1 a2 = some (r, σ')) : Met l yX13_as (ws_ yX13_as cX13_as 4 (some .int)) ({ frames := 2, cells := 0, slots := 0, locals := 43 } : Room) (xPc E σ [.ref (xa E 186), .int a1, .int a2]) (xQc E (.returned (some (.int r))) σ') 0 0 (xA E) := by
  refine x_of (C := RX13) (n := "as") (d := "(II)I") (r := (some .int)) (by decide) rfl (by first | decide | exact Nat.le_of_ble_eq_true rfl) ?_
  intro p e s m below meth c ls F hr hlk hW hS hl
  have hl : lv_has ls 4 [(0, .ref (xa E 186)), (1, .int a1), (2, .int a2)] := hl
  obtain ⟨hx, hb, hml, hown, hts⟩ := id F.1
  have hK := F.2.1.1
  unfold fX13_as at h
  refine lv_iload_n hx hb dX13_as_0 rfl (lv_at hl 1 rfl) ?_
  refine x_backi (va_runS (As := [.int a1]) (rest := []) F.1 (mX13_isSpot l E σ a1) (va_cwS 1 hts (lw_S q1676 q1677 q115 q1678) rfl rfl rfl (by decide +kernel) ⟨Nat.le_of_ble_eq_true rfl, Nat.le_of_ble_eq_true rfl⟩) ⟨xPc.blind, F.pre hW hS [.int a1]⟩ rfl rfl hl.1 rfl (lv_room (Nat.le_of_ble_eq_true rfl)) dX13_as_1 ⟨Nat.le_refl _, Nat.le_refl _⟩) hS (fun H locs hW hS => ?_)
  refine lv_if_eq (tgt := 14) hx hb dX13_as_4 (by decide) (fun c1 => ?_) (fun c1 => ?_)
  · rw [if_pos c1] at h
    refine lv_aload_n hx hb dX13_as_14 rfl (lv_at hl 0 rfl) ?_
    refine lv_ldc (v := (-1000001)) hx hb hown (hts _ q1279) dX13_as_15 ?_
    cases g2 : fX13_finding σ (-1000001) with
    | none => rw [g2] at h; cases h
    | some r3 =>
      rw [g2, Option.bind_some] at h
      refine x_backi (va_runV (C := RX13) (b := (xa E 186)) (As := [.int (-1000001)]) (rest := []) F.1 (mX13_finding l E σ (-1000001) r3.1 r3.2 g2) (cwV 1 hts (lw_V q1280 q1282 qs52 q115 q1283) rfl rfl rfl (by decide +kernel) ⟨Nat.le_of_ble_eq_true rfl, Nat.le_of_ble_eq_true rfl⟩) ⟨xPc.blind, va_recv hK (xO_M hW) (ci := 13) (q0 := 0) rfl rfl, F.pre hW hS (.ref (xa E 186) :: [.int (-1000001)])⟩ rfl rfl hl.1 rfl (lv_room (Nat.le_of_ble_eq_true rfl)) dX13_as_17 ⟨Nat.le_refl _, Nat.le_refl _⟩) hS (fun H locs hW hS => ?_)
      obtain ⟨h1, h2⟩ := Prod.mk.inj (Option.some.inj h); subst h1; subst h2
      exact x_iret F hr hlk hW hS dX13_as_20
  · rw [if_neg c1] at h
    refine lv_iload_n hx hb dX13_as_7 rfl (lv_at hl 2 rfl) ?_
    refine x_backi (va_runS (As := [.int a2]) (rest := []) F.1 (mX13_isKind l E σ a2) (va_cwS 1 hts (lw_S q1307 q1308 q115 q1309) rfl rfl rfl (by decide +kernel) ⟨Nat.le_of_ble_eq_true rfl, Nat.le_of_ble_eq_true rfl⟩) ⟨xPc.blind, F.pre hW hS [.int a2]⟩ rfl rfl hl.1 rfl (lv_room (Nat.le_of_ble_eq_true rfl)) dX13_as_8 ⟨Nat.le_refl _, Nat.le_refl _⟩) hS (fun H locs hW hS => ?_)
    refine lv_if_ne (tgt := 21) hx hb dX13_as_11 (by decide) (fun c4 => ?_) (fun c4 => ?_)
    · rw [if_neg c4] at h
      refine lv_aload_n hx hb dX13_as_21 rfl (lv_at hl 0 rfl) ?_
      refine va_get (D := xD E) (ci := 13) (v := .ref (xa E 187)) (C := RX13) (T := TX13) (N := 24) hx hb hts in_X13 hown hK (xO_M hW) 0 rfl rfl 0 (by decide) (hts _ q1196) (fun _ h9 => h9) rfl dX13_as_22 ?_
      refine lv_iconst (v := 4) hx hb dX13_as_25 (by decide) ?_
      refine lv_iload_n hx hb dX13_as_26 rfl (lv_at hl 1 rfl) ?_
      refine lv_iadd hx hb dX13_as_27 ?_
      by_cases hi5 : xin (4 + a1) 186
      · rw [if_pos hi5] at h
        refine va_iald hx hb hK (xV_p hW xp_187) 0 0 rfl rfl hi5 dX13_as_28 ?_
        refine lv_istore_n (lv' := [(3, .int (σ 20 ((4 + a1).toNatClampNeg))), (0, .ref (xa E 186)), (1, .int a1), (2, .int a2)]) hx hb dX13_as_29 rfl hl (by decide) rfl (fun ls hl => ?_)
        refine lv_iload_n hx hb dX13_as_30 rfl (lv_at hl 0 rfl) ?_
        refine lv_if_ge (tgt := 41) hx hb dX13_as_31 (by decide) (fun c6 => ?_) (fun c6 => ?_)
        · rw [if_pos c6] at h
          refine lv_aload_n hx hb dX13_as_41 rfl (lv_at hl 1 rfl) ?_
          refine lv_iload_n hx hb dX13_as_42 rfl (lv_at hl 0 rfl) ?_
          refine lv_iconst (v := 0) hx hb dX13_as_43 (by decide) ?_
          cases g7 : fX13_bellIs σ (σ 20 ((4 + a1).toNatClampNeg)) 0 with
          | none => rw [g7] at h; cases h
          | some r8 =>
            rw [g7, Option.bind_some] at h
            refine x_backi (va_runV (C := RX13) (b := (xa E 186)) (As := [.int (σ 20 ((4 + a1).toNatClampNeg)), .int 0]) (rest := []) F.1 (mX13_bellIs l E σ (σ 20 ((4 + a1).toNatClampNeg)) 0 r8 g7) (cwV 2 hts (lw_V q1326 q1328 qs56 q115 q1329) rfl rfl rfl (by decide +kernel) ⟨Nat.le_of_ble_eq_true rfl, Nat.le_of_ble_eq_true rfl⟩) ⟨xPc.blind, va_recv hK (xO_M hW) (ci := 13) (q0 := 0) rfl rfl, F.pre hW hS (.ref (xa E 186) :: [.int (σ 20 ((4 + a1).toNatClampNeg)), .int 0])⟩ rfl rfl hl.1 rfl (lv_room (Nat.le_of_ble_eq_true rfl)) dX13_as_44 ⟨Nat.le_refl _, Nat.le_refl _⟩) hS (fun H locs hW hS => ?_)
            refine lv_iload_n hx hb dX13_as_47 rfl (lv_at hl 3 rfl) ?_
            cases g9 : fX13_isUnder r8 a2 with
            | none => rw [g9] at h; cases h
            | some r10 =>
              rw [g9, Option.bind_some] at h
              refine x_backi (va_runS (As := [.int r8, .int a2]) (rest := []) F.1 (mX13_isUnder l E σ r8 a2 r10 g9) (va_cwS 2 hts (lw_S q1343 q1344 q115 q1345) rfl rfl rfl (by decide +kernel) ⟨Nat.le_of_ble_eq_true rfl, Nat.le_of_ble_eq_true rfl⟩) ⟨xPc.blind, F.pre hW hS [.int r8, .int a2]⟩ rfl rfl hl.1 rfl (lv_room (Nat.le_of_ble_eq_true rfl)) dX13_as_48 ⟨Nat.le_refl _, Nat.le_refl _⟩) hS (fun H locs hW hS => ?_)
              refine lv_if_eq (tgt := 58) hx hb dX13_as_51 (by decide) (fun c11 => ?_) (fun c11 => ?_)
              · rw [if_pos c11] at h
                refine lv_aload_n hx hb dX13_as_58 rfl (lv_at hl 1 rfl) ?_
                refine lv_ldcw (v := (-1000003)) hx hb hown (hts _ q1683) dX13_as_59 ?_
                cases g12 : fX13_finding σ (-1000003) with
                | none => rw [g12] at h; cases h
                | some r13 =>
                  rw [g12, Option.bind_some] at h
                  refine x_backi (va_runV (C := RX13) (b := (xa E 186)) (As := [.int (-1000003)]) (rest := []) F.1 (mX13_finding l E σ (-1000003) r13.1 r13.2 g12) (cwV 1 hts (lw_V q1280 q1282 qs52 q115 q1283) rfl rfl rfl (by decide +kernel) ⟨Nat.le_of_ble_eq_true rfl, Nat.le_of_ble_eq_true rfl⟩) ⟨xPc.blind, va_recv hK (xO_M hW) (ci := 13) (q0 := 0) rfl rfl, F.pre hW hS (.ref (xa E 186) :: [.int (-1000003)])⟩ rfl rfl hl.1 rfl (lv_room (Nat.le_of_ble_eq_true rfl)) dX13_as_62 ⟨Nat.le_refl _, Nat.le_refl _⟩) hS (fun H locs hW hS => ?_)
                  obtain ⟨h1, h2⟩ := Prod.mk.inj (Option.some.inj h); subst h1; subst h2
                  exact x_iret F hr hlk hW hS dX13_as_65
              · rw [if_neg c11] at h
                refine lv_iload_n hx hb dX13_as_54 rfl (lv_at hl 0 rfl) ?_
                refine lv_goto (tgt := 65) hx hb dX13_as_55 (by decide) ?_
                obtain ⟨h1, h2⟩ := Prod.mk.inj (Option.some.inj h); subst h1; subst h2
                exact x_iret F hr hlk hW hS dX13_as_65
        · rw [if_neg c6] at h
          refine lv_aload_n hx hb dX13_as_34 rfl (lv_at hl 1 rfl) ?_
          refine lv_ldc (v := (-1000006)) hx hb hown (hts _ q1510) dX13_as_35 ?_
          cases g14 : fX13_finding σ (-1000006) with
          | none => rw [g14] at h; cases h
          | some r15 =>
            rw [g14, Option.bind_some] at h
            refine x_backi (va_runV (C := RX13) (b := (xa E 186)) (As := [.int (-1000006)]) (rest := []) F.1 (mX13_finding l E σ (-1000006) r15.1 r15.2 g14) (cwV 1 hts (lw_V q1280 q1282 qs52 q115 q1283) rfl rfl rfl (by decide +kernel) ⟨Nat.le_of_ble_eq_true rfl, Nat.le_of_ble_eq_true rfl⟩) ⟨xPc.blind, va_recv hK (xO_M hW) (ci := 13) (q0 := 0) rfl rfl, F.pre hW hS (.ref (xa E 186) :: [.int (-1000006)])⟩ rfl rfl hl.1 rfl (lv_room (Nat.le_of_ble_eq_true rfl)) dX13_as_37 ⟨Nat.le_refl _, Nat.le_refl _⟩) hS (fun H locs hW hS => ?_)
            obtain ⟨h1, h2⟩ := Prod.mk.inj (Option.some.inj h); subst h1; subst h2
            exact x_iret F hr hlk hW hS dX13_as_40
      · rw [if_neg hi5] at h; cases h
    · rw [if_pos c4] at h
      refine lv_aload_n hx hb dX13_as_14 rfl (lv_at hl 0 rfl) ?_
      refine lv_ldc (v := (-1000001)) hx hb hown (hts _ q1279) dX13_as_15 ?_
      cases g16 : fX13_finding σ (-1000001) with
      | none => rw [g16] at h; cases h
      | some r17 =>
        rw [g16, Option.bind_some] at h
        refine x_backi (va_runV (C := RX13) (b := (xa E 186)) (As := [.int (-1000001)]) (rest := []) F.1 (mX13_finding l E σ (-1000001) r17.1 r17.2 g16) (cwV 1 hts (lw_V q1280 q1282 qs52 q115 q1283) rfl rfl rfl (by decide +kernel) ⟨Nat.le_of_ble_eq_true rfl, Nat.le_of_ble_eq_true rfl⟩) ⟨xPc.blind, va_recv hK (xO_M hW) (ci := 13) (q0 := 0) rfl rfl, F.pre hW hS (.ref (xa E 186) :: [.int (-1000001)])⟩ rfl rfl hl.1 rfl (lv_room (Nat.le_of_ble_eq_true rfl)) dX13_as_17 ⟨Nat.le_refl _, Nat.le_refl _⟩) hS (fun H locs hW hS => ?_)
        obtain ⟨h1, h2⟩ := Prod.mk.inj (Option.some.inj h); subst h1; subst h2
        exact x_iret F hr hlk hW hS dX13_as_20
/-! WildBellsModel.cutTo(II)I -/
def fX13_cutTo (a0 : Int32) (a1 : Int32) : Int32 :=
  if a1 = 8 then ((a0 : Int32).toInt8.toInt32) else (if a1 = 16 then ((a0 : Int32).toInt16.toInt32) else a0)
set_option maxHeartbeats 4000000 in
theorem mX13_cutTo (l : Launch) (E : xE) (σ : xM) (a0 : Int32) (a1 : Int32) : Met l yX13_cutTo (ws_ yX13_cutTo cX13_cutTo 2 (some .int)) ({ frames := 0, cells := 0, slots := 0, locals := 0 } : Room) (xPc E σ [.int a0, .int a1]) (xQc E (.returned (some (.int (fX13_cutTo a0 a1)))) σ) 0 0 (xA E) := by
  refine x_of (C := RX13) (n := "cutTo") (d := "(II)I") (r := (some .int)) (by decide) rfl (by first | decide | exact Nat.le_of_ble_eq_true rfl) ?_
  intro p e s m below meth c ls F hr hlk hW hS hl
  have hl : lv_has ls 2 [(0, .int a0), (1, .int a1)] := hl
  obtain ⟨hx, hb, hml, hown, hts⟩ := id F.1
  have hK := F.2.1.1
  obtain ⟨r, h⟩ : ∃ r, fX13_cutTo a0 a1 = r := ⟨_, rfl⟩
  rw [h]
  unfold fX13_cutTo at h
  refine lv_iload_n hx hb dX13_cutTo_0 rfl (lv_at hl 1 rfl) ?_
  refine lv_bipush (v := 8) hx hb dX13_cutTo_1 (by decide) ?_
  refine lv_icmp_ne (tgt := 11) hx hb dX13_cutTo_3 (by decide) (fun c1 => ?_) (fun c1 => ?_)
  · rw [if_neg c1] at h
    refine lv_iload_n hx hb dX13_cutTo_11 rfl (lv_at hl 1 rfl) ?_
    refine lv_bipush (v := 16) hx hb dX13_cutTo_12 (by decide) ?_
    refine lv_icmp_ne (tgt := 22) hx hb dX13_cutTo_14 (by decide) (fun c2 => ?_) (fun c2 => ?_)
    · rw [if_neg c2] at h
      refine lv_iload_n hx hb dX13_cutTo_22 rfl (lv_at hl 0 rfl) ?_
      subst h
      exact x_iret F hr hlk hW hS dX13_cutTo_23
    · rw [if_pos c2] at h
      refine lv_iload_n hx hb dX13_cutTo_17 rfl (lv_at hl 0 rfl) ?_
      refine lv_i2s (v := (a0 : Int32).toInt16.toInt32) hx hb dX13_cutTo_18 rfl ?_
      refine lv_goto (tgt := 23) hx hb dX13_cutTo_19 (by decide) ?_
      subst h
      exact x_iret F hr hlk hW hS dX13_cutTo_23
  · rw [if_pos c1] at h
    refine lv_iload_n hx hb dX13_cutTo_6 rfl (lv_at hl 0 rfl) ?_
    refine lv_i2b (v := (a0 : Int32).toInt8.toInt32) hx hb dX13_cutTo_7 rfl ?_
    refine lv_goto (tgt := 23) hx hb dX13_cutTo_8 (by decide) ?_
    subst h
    exact x_iret F hr hlk hW hS dX13_cutTo_23
/-! WildBellsModel.sheet(III)I -/
def gX13_sheet_86 (b1 : Int32) : Nat → Int32 → xM → Option (Int32 × xM)
  | 0, _, _ => none
  | n + 1, x4, σ => if 40 ≤ x4 then (some (x4, σ)) else (if xin ((40 * b1) + x4) 160 then (gX13_sheet_86 b1 n (x4 + 1) (xup σ 30 (((40 * b1) + x4).toNatClampNeg) 0)) else none)
def fX13_sheet (σ : xM) (a1 : Int32) (a2 : Int32) (a3 : Int32) : Option (Int32 × xM) :=
  if (fX13_isSheet a1) = 0 then ((fX13_finding σ (-1000001)).bind (fun r3 => some (r3.1, r3.2))) else (if a2 = 0 then (if 0 ≤ a3 then (if a3 ≤ 40 then (if xin a1 4 then (if a2 = 0 then (if xin a1 4 then ((gX13_sheet_86 a1 xfu 0 (xup (xup σ 28 (a1.toNatClampNeg) a2) 29 (a1.toNatClampNeg) 0)).bind (fun q17 => if xin a1 4 then (some ((q17.2 29 (a1.toNatClampNeg)), q17.2)) else none)) else none) else (if xin a1 4 then ((gX13_sheet_86 a1 xfu 0 (xup (xup σ 28 (a1.toNatClampNeg) a2) 29 (a1.toNatClampNeg) a3)).bind (fun q13 => if xin a1 4 then (some ((q13.2 29 (a1.toNatClampNeg)), q13.2)) else none)) else none)) else none) else ((fX13_finding σ (-1000001)).bind (fun r20 => some (r20.1, r20.2)))) else ((fX13_finding σ (-1000007)).bind (fun r22 => some (r22.1, r22.2)))) else (if a2 = 8 then (if 0 ≤ a3 then (if a3 ≤ 40 then (if xin a1 4 then (if a2 = 0 then (if xin a1 4 then ((gX13_sheet_86 a1 xfu 0 (xup (xup σ 28 (a1.toNatClampNeg) a2) 29 (a1.toNatClampNeg) 0)).bind (fun q34 => if xin a1 4 then (some ((q34.2 29 (a1.toNatClampNeg)), q34.2)) else none)) else none) else (if xin a1 4 then ((gX13_sheet_86 a1 xfu 0 (xup (xup σ 28 (a1.toNatClampNeg) a2) 29 (a1.toNatClampNeg) a3)).bind (fun q30 => if xin a1 4 then (some ((q30.2 29 (a1.toNatClampNeg)), q30.2)) else none)) else none)) else none) else ((fX13_finding σ (-1000001)).bind (fun r37 => some (r37.1, r37.2)))) else ((fX13_finding σ (-1000007)).bind (fun r39 => some (r39.1, r39.2)))) else (if a2 = 16 then (if 0 ≤ a3 then (if a3 ≤ 40 then (if xin a1 4 then (if a2 = 0 then (if xin a1 4 then ((gX13_sheet_86 a1 xfu 0 (xup (xup σ 28 (a1.toNatClampNeg) a2) 29 (a1.toNatClampNeg) 0)).bind (fun q51 => if xin a1 4 then (some ((q51.2 29 (a1.toNatClampNeg)), q51.2)) else none)) else none) else (if xin a1 4 then ((gX13_sheet_86 a1 xfu 0 (xup (xup σ 28 (a1.toNatClampNeg) a2) 29 (a1.toNatClampNeg) a3)).bind (fun q47 => if xin a1 4 then (some ((q47.2 29 (a1.toNatClampNeg)), q47.2)) else none)) else none)) else none) else ((fX13_finding σ (-1000001)).bind (fun r54 => some (r54.1, r54.2)))) else ((fX13_finding σ (-1000007)).bind (fun r56 => some (r56.1, r56.2)))) else (if a2 = 32 then (if 0 ≤ a3 then (if a3 ≤ 40 then (if xin a1 4 then (if a2 = 0 then (if xin a1 4 then ((gX13_sheet_86 a1 xfu 0 (xup (xup σ 28 (a1.toNatClampNeg) a2) 29 (a1.toNatClampNeg) 0)).bind (fun q68 => if xin a1 4 then (some ((q68.2 29 (a1.toNatClampNeg)), q68.2)) else none)) else none) else (if xin a1 4 then ((gX13_sheet_86 a1 xfu 0 (xup (xup σ 28 (a1.toNatClampNeg) a2) 29 (a1.toNatClampNeg) a3)).bind (fun q64 => if xin a1 4 then (some ((q64.2 29 (a1.toNatClampNeg)), q64.2)) else none)) else none)) else none) else ((fX13_finding σ (-1000001)).bind (fun r71 => some (r71.1, r71.2)))) else ((fX13_finding σ (-1000007)).bind (fun r73 => some (r73.1, r73.2)))) else ((fX13_finding σ (-1000001)).bind (fun r75 => some (r75.1, r75.2)))))))
set_option maxHeartbeats 4000000 in
theorem lX13_sheet_86 {p : Program} {l : Launch} {e : Env} {s : State} {m : MethodId} {av : Array Value} {below : List Frame} {meth : Method} {c : Code} {Q : State → Prop} {E : xE} {b1 : Int32} {b2 : Int32} {b3 : Int32} (F : xFx p m c cX13_sheet 5 s av RX13 E) : ∀ (n : Nat) (x4 : Int32) (σ : xM) (q : (Int32 × xM)), gX13_sheet_86 b1 n x4 σ = some q → ∀ (H : Heap) (locs : List Loc) (ls : Array Slot), xW E σ H → va_S (xA E) s.heap H locs → lv_has ls 5 [(4, .int x4), (0, .ref (xa E 186)), (1, .int b1), (2, .int b2), (3, .int b3)] → (∀ (H : Heap) (locs : List Loc) (ls : Array Slot), xW E q.2 H → va_S (xA E) s.heap H locs → lv_has ls 5 [(4, .int q.1), (0, .ref (xa E 186)), (1, .int b1), (2, .int b2), (3, .int b3)] → W p l e ({ frames := 2, cells := 0, slots := 0, locals := 42 } : Room) s m av below meth c H locs 0 0 Q (F0 m 112 ls [])) → W p l e ({ frames := 2, cells := 0, slots := 0, locals := 42 } : Room) s m av below meth c H locs 0 0 Q (F0 m 86 ls []) := by
  obtain ⟨hx, hb, hml, hown, hts⟩ := id F.1
  have hK := F.2.1.1
  intro n
  induction n with
  | zero =>
    intro x4 σ q h
    cases h
  | succ n ih =>
    intro x4 σ q h H locs ls hW hS hl kk
    rw [gX13_sheet_86] at h
    refine lv_iload hx hb dX13_sheet_86 (lv_at hl 0 rfl) ?_
    refine lv_bipush (v := 40) hx hb dX13_sheet_88 (by decide) ?_
    refine lv_icmp_ge (tgt := 112) hx hb dX13_sheet_90 (by decide) (fun c10 => ?_) (fun c10 => ?_)
    · rw [if_pos c10] at h
      have h := Option.some.inj h; subst h
      exact kk _ _ _ hW hS (lv_sub hl [0, 1, 2, 3, 4] rfl)
    · rw [if_neg c10] at h
      refine lv_aload_n hx hb dX13_sheet_93 rfl (lv_at hl 1 rfl) ?_
      refine va_get (D := xD E) (ci := 13) (v := .ref (xa E 199)) (C := RX13) (T := TX13) (N := 24) hx hb hts in_X13 hown hK (xO_M hW) 0 rfl rfl 22 (by decide) (hts _ q1218) (fun _ h9 => h9) rfl dX13_sheet_94 ?_
      refine lv_bipush (v := 40) hx hb dX13_sheet_97 (by decide) ?_
      refine lv_iload_n hx hb dX13_sheet_99 rfl (lv_at hl 2 rfl) ?_
      refine lv_imul hx hb dX13_sheet_100 ?_
      refine lv_iload hx hb dX13_sheet_101 (lv_at hl 0 rfl) ?_
      refine lv_iadd hx hb dX13_sheet_103 ?_
      refine lv_iconst (v := 0) hx hb dX13_sheet_104 (by decide) ?_
      by_cases hi11 : xin ((40 * b1) + x4) 160
      · rw [if_pos hi11] at h
        refine x_iast F hW hS 199 160 30 (fun j => j) xp_199.1 xp_199.2.1 xp_199.2.2.1 xp_199.2.2.2 hi11 dX13_sheet_105 (fun H locs hW hS => ?_)
        refine lv_iinc (k := 0) (v := (x4 + 1)) (lv' := [(4, .int (x4 + 1)), (0, .ref (xa E 186)), (1, .int b1), (2, .int b2), (3, .int b3)]) hx hb dX13_sheet_106 hl rfl rfl (by decide) rfl (fun ls hl => ?_)
        refine lv_goto (tgt := 86) hx hb dX13_sheet_109 (by decide) ?_
        exact ih (x4 + 1) (xup σ 30 (((40 * b1) + x4).toNatClampNeg) 0) _ h _ _ _ hW hS (lv_sub hl [0, 1, 2, 3, 4] rfl) kk
      · rw [if_neg hi11] at h; cases h
set_option maxHeartbeats 4000000 in
theorem mX13_sheet (l : Launch) (E : xE) (σ : xM) (a1 : Int32) (a2 : Int32) (a3 : Int32) (r : Int32) (σ' : xM) (h : fX13_sheet σ a1 a2 a3 = some (r, σ')) : Met l yX13_sheet (ws_ yX13_sheet cX13_sheet 5 (some .int)) ({ frames := 2, cells := 0, slots := 0, locals := 42 } : Room) (xPc E σ [.ref (xa E 186), .int a1, .int a2, .int a3]) (xQc E (.returned (some (.int r))) σ') 0 0 (xA E) := by
  refine x_of (C := RX13) (n := "sheet") (d := "(III)I") (r := (some .int)) (by decide) rfl (by first | decide | exact Nat.le_of_ble_eq_true rfl) ?_
  intro p e s m below meth c ls F hr hlk hW hS hl
  have hl : lv_has ls 5 [(0, .ref (xa E 186)), (1, .int a1), (2, .int a2), (3, .int a3)] := hl
  obtain ⟨hx, hb, hml, hown, hts⟩ := id F.1
  have hK := F.2.1.1
  unfold fX13_sheet at h
  refine lv_iload_n hx hb dX13_sheet_0 rfl (lv_at hl 1 rfl) ?_
  refine x_backi (va_runS (As := [.int a1]) (rest := []) F.1 (mX13_isSheet l E σ a1) (va_cwS 1 hts (lw_S q1507 q1508 q115 q1509) rfl rfl rfl (by decide +kernel) ⟨Nat.le_of_ble_eq_true rfl, Nat.le_of_ble_eq_true rfl⟩) ⟨xPc.blind, F.pre hW hS [.int a1]⟩ rfl rfl hl.1 rfl (lv_room (Nat.le_of_ble_eq_true rfl)) dX13_sheet_1 ⟨Nat.le_refl _, Nat.le_refl _⟩) hS (fun H locs hW hS => ?_)
  refine lv_if_eq (tgt := 29) hx hb dX13_sheet_4 (by decide) (fun c1 => ?_) (fun c1 => ?_)
  · rw [if_pos c1] at h
    refine lv_aload_n hx hb dX13_sheet_29 rfl (lv_at hl 0 rfl) ?_
    refine lv_ldc (v := (-1000001)) hx hb hown (hts _ q1279) dX13_sheet_30 ?_
    cases g2 : fX13_finding σ (-1000001) with
    | none => rw [g2] at h; cases h
    | some r3 =>
      rw [g2, Option.bind_some] at h
      refine x_backi (va_runV (C := RX13) (b := (xa E 186)) (As := [.int (-1000001)]) (rest := []) F.1 (mX13_finding l E σ (-1000001) r3.1 r3.2 g2) (cwV 1 hts (lw_V q1280 q1282 qs52 q115 q1283) rfl rfl rfl (by decide +kernel) ⟨Nat.le_of_ble_eq_true rfl, Nat.le_of_ble_eq_true rfl⟩) ⟨xPc.blind, va_recv hK (xO_M hW) (ci := 13) (q0 := 0) rfl rfl, F.pre hW hS (.ref (xa E 186) :: [.int (-1000001)])⟩ rfl rfl hl.1 rfl (lv_room (Nat.le_of_ble_eq_true rfl)) dX13_sheet_32 ⟨Nat.le_refl _, Nat.le_refl _⟩) hS (fun H locs hW hS => ?_)
      obtain ⟨h1, h2⟩ := Prod.mk.inj (Option.some.inj h); subst h1; subst h2
      exact x_iret F hr hlk hW hS dX13_sheet_35
  · rw [if_neg c1] at h
    refine lv_iload_n hx hb dX13_sheet_7 rfl (lv_at hl 2 rfl) ?_
    refine lv_if_eq (tgt := 36) hx hb dX13_sheet_8 (by decide) (fun c4 => ?_) (fun c4 => ?_)
    · rw [if_pos c4] at h
      refine lv_iload_n hx hb dX13_sheet_36 rfl (lv_at hl 3 rfl) ?_
      refine lv_if_ge (tgt := 48) hx hb dX13_sheet_37 (by decide) (fun c5 => ?_) (fun c5 => ?_)
      · rw [if_pos c5] at h
        refine lv_iload_n hx hb dX13_sheet_48 rfl (lv_at hl 3 rfl) ?_
        refine lv_bipush (v := 40) hx hb dX13_sheet_49 (by decide) ?_
        refine lv_icmp_le (tgt := 61) hx hb dX13_sheet_51 (by decide) (fun c6 => ?_) (fun c6 => ?_)
        · rw [if_pos c6] at h
          refine lv_aload_n hx hb dX13_sheet_61 rfl (lv_at hl 0 rfl) ?_
          refine va_get (D := xD E) (ci := 13) (v := .ref (xa E 197)) (C := RX13) (T := TX13) (N := 24) hx hb hts in_X13 hown hK (xO_M hW) 0 rfl rfl 20 (by decide) (hts _ q1216) (fun _ h9 => h9) rfl dX13_sheet_62 ?_
          refine lv_iload_n hx hb dX13_sheet_65 rfl (lv_at hl 1 rfl) ?_
          refine lv_iload_n hx hb dX13_sheet_66 rfl (lv_at hl 2 rfl) ?_
          by_cases hi7 : xin a1 4
          · rw [if_pos hi7] at h
            refine x_iast F hW hS 197 4 28 (fun j => j) xp_197.1 xp_197.2.1 xp_197.2.2.1 xp_197.2.2.2 hi7 dX13_sheet_67 (fun H locs hW hS => ?_)
            refine lv_aload_n hx hb dX13_sheet_68 rfl (lv_at hl 0 rfl) ?_
            refine va_get (D := xD E) (ci := 13) (v := .ref (xa E 198)) (C := RX13) (T := TX13) (N := 24) hx hb hts in_X13 hown hK (xO_M hW) 0 rfl rfl 21 (by decide) (hts _ q1217) (fun _ h9 => h9) rfl dX13_sheet_69 ?_
            refine lv_iload_n hx hb dX13_sheet_72 rfl (lv_at hl 1 rfl) ?_
            refine lv_iload_n hx hb dX13_sheet_73 rfl (lv_at hl 2 rfl) ?_
            refine lv_if_ne (tgt := 81) hx hb dX13_sheet_74 (by decide) (fun c8 => ?_) (fun c8 => ?_)
            · rw [if_neg c8] at h
              refine lv_iload_n hx hb dX13_sheet_81 rfl (lv_at hl 3 rfl) ?_
              by_cases hi9 : xin a1 4
              · rw [if_pos hi9] at h
                refine x_iast F hW hS 198 4 29 (fun j => j) xp_198.1 xp_198.2.1 xp_198.2.2.1 xp_198.2.2.2 hi9 dX13_sheet_82 (fun H locs hW hS => ?_)
                refine lv_iconst (v := 0) hx hb dX13_sheet_83 (by decide) ?_
                refine lv_istore (lv' := [(4, .int 0), (0, .ref (xa E 186)), (1, .int a1), (2, .int a2), (3, .int a3)]) hx hb dX13_sheet_84 hl (by decide) rfl (fun ls hl => ?_)
                cases g12 : gX13_sheet_86 a1 xfu 0 (xup (xup σ 28 (a1.toNatClampNeg) a2) 29 (a1.toNatClampNeg) a3) with
                | none => rw [g12] at h; cases h
                | some q13 =>
                  rw [g12, Option.bind_some] at h
                  refine lX13_sheet_86 F xfu 0 (xup (xup σ 28 (a1.toNatClampNeg) a2) 29 (a1.toNatClampNeg) a3) q13 g12 _ _ _ hW hS (lv_sub hl [0, 1, 2, 3, 4] rfl) (fun H locs ls hW hS hl => ?_)
                  refine lv_aload_n hx hb dX13_sheet_112 rfl (lv_at hl 1 rfl) ?_
                  refine va_get (D := xD E) (ci := 13) (v := .ref (xa E 198)) (C := RX13) (T := TX13) (N := 24) hx hb hts in_X13 hown hK (xO_M hW) 0 rfl rfl 21 (by decide) (hts _ q1217) (fun _ h9 => h9) rfl dX13_sheet_113 ?_
                  refine lv_iload_n hx hb dX13_sheet_116 rfl (lv_at hl 2 rfl) ?_
                  by_cases hi14 : xin a1 4
                  · rw [if_pos hi14] at h
                    refine va_iald hx hb hK (xV_p hW xp_198) 0 0 rfl rfl hi14 dX13_sheet_117 ?_
                    obtain ⟨h1, h2⟩ := Prod.mk.inj (Option.some.inj h); subst h1; subst h2
                    exact x_iret F hr hlk hW hS dX13_sheet_118
                  · rw [if_neg hi14] at h; cases h
              · rw [if_neg hi9] at h; cases h
            · rw [if_pos c8] at h
              refine lv_iconst (v := 0) hx hb dX13_sheet_77 (by decide) ?_
              refine lv_goto (tgt := 82) hx hb dX13_sheet_78 (by decide) ?_
              by_cases hi15 : xin a1 4
              · rw [if_pos hi15] at h
                refine x_iast F hW hS 198 4 29 (fun j => j) xp_198.1 xp_198.2.1 xp_198.2.2.1 xp_198.2.2.2 hi15 dX13_sheet_82 (fun H locs hW hS => ?_)
                refine lv_iconst (v := 0) hx hb dX13_sheet_83 (by decide) ?_
                refine lv_istore (lv' := [(4, .int 0), (0, .ref (xa E 186)), (1, .int a1), (2, .int a2), (3, .int a3)]) hx hb dX13_sheet_84 hl (by decide) rfl (fun ls hl => ?_)
                cases g16 : gX13_sheet_86 a1 xfu 0 (xup (xup σ 28 (a1.toNatClampNeg) a2) 29 (a1.toNatClampNeg) 0) with
                | none => rw [g16] at h; cases h
                | some q17 =>
                  rw [g16, Option.bind_some] at h
                  refine lX13_sheet_86 F xfu 0 (xup (xup σ 28 (a1.toNatClampNeg) a2) 29 (a1.toNatClampNeg) 0) q17 g16 _ _ _ hW hS (lv_sub hl [0, 1, 2, 3, 4] rfl) (fun H locs ls hW hS hl => ?_)
                  refine lv_aload_n hx hb dX13_sheet_112 rfl (lv_at hl 1 rfl) ?_
                  refine va_get (D := xD E) (ci := 13) (v := .ref (xa E 198)) (C := RX13) (T := TX13) (N := 24) hx hb hts in_X13 hown hK (xO_M hW) 0 rfl rfl 21 (by decide) (hts _ q1217) (fun _ h9 => h9) rfl dX13_sheet_113 ?_
                  refine lv_iload_n hx hb dX13_sheet_116 rfl (lv_at hl 2 rfl) ?_
                  by_cases hi18 : xin a1 4
                  · rw [if_pos hi18] at h
                    refine va_iald hx hb hK (xV_p hW xp_198) 0 0 rfl rfl hi18 dX13_sheet_117 ?_
                    obtain ⟨h1, h2⟩ := Prod.mk.inj (Option.some.inj h); subst h1; subst h2
                    exact x_iret F hr hlk hW hS dX13_sheet_118
                  · rw [if_neg hi18] at h; cases h
              · rw [if_neg hi15] at h; cases h
          · rw [if_neg hi7] at h; cases h
        · rw [if_neg c6] at h
          refine lv_aload_n hx hb dX13_sheet_54 rfl (lv_at hl 0 rfl) ?_
          refine lv_ldc (v := (-1000001)) hx hb hown (hts _ q1279) dX13_sheet_55 ?_
          cases g19 : fX13_finding σ (-1000001) with
          | none => rw [g19] at h; cases h
          | some r20 =>
            rw [g19, Option.bind_some] at h
            refine x_backi (va_runV (C := RX13) (b := (xa E 186)) (As := [.int (-1000001)]) (rest := []) F.1 (mX13_finding l E σ (-1000001) r20.1 r20.2 g19) (cwV 1 hts (lw_V q1280 q1282 qs52 q115 q1283) rfl rfl rfl (by decide +kernel) ⟨Nat.le_of_ble_eq_true rfl, Nat.le_of_ble_eq_true rfl⟩) ⟨xPc.blind, va_recv hK (xO_M hW) (ci := 13) (q0 := 0) rfl rfl, F.pre hW hS (.ref (xa E 186) :: [.int (-1000001)])⟩ rfl rfl hl.1 rfl (lv_room (Nat.le_of_ble_eq_true rfl)) dX13_sheet_57 ⟨Nat.le_refl _, Nat.le_refl _⟩) hS (fun H locs hW hS => ?_)
            obtain ⟨h1, h2⟩ := Prod.mk.inj (Option.some.inj h); subst h1; subst h2
            exact x_iret F hr hlk hW hS dX13_sheet_60
      · rw [if_neg c5] at h
        refine lv_aload_n hx hb dX13_sheet_40 rfl (lv_at hl 0 rfl) ?_
        refine lv_ldcw (v := (-1000007)) hx hb hown (hts _ q1688) dX13_sheet_41 ?_
        cases g21 : fX13_finding σ (-1000007) with
        | none => rw [g21] at h; cases h
        | some r22 =>
          rw [g21, Option.bind_some] at h
          refine x_backi (va_runV (C := RX13) (b := (xa E 186)) (As := [.int (-1000007)]) (rest := []) F.1 (mX13_finding l E σ (-1000007) r22.1 r22.2 g21) (cwV 1 hts (lw_V q1280 q1282 qs52 q115 q1283) rfl rfl rfl (by decide +kernel) ⟨Nat.le_of_ble_eq_true rfl, Nat.le_of_ble_eq_true rfl⟩) ⟨xPc.blind, va_recv hK (xO_M hW) (ci := 13) (q0 := 0) rfl rfl, F.pre hW hS (.ref (xa E 186) :: [.int (-1000007)])⟩ rfl rfl hl.1 rfl (lv_room (Nat.le_of_ble_eq_true rfl)) dX13_sheet_44 ⟨Nat.le_refl _, Nat.le_refl _⟩) hS (fun H locs hW hS => ?_)
          obtain ⟨h1, h2⟩ := Prod.mk.inj (Option.some.inj h); subst h1; subst h2
          exact x_iret F hr hlk hW hS dX13_sheet_47
    · rw [if_neg c4] at h
      refine lv_iload_n hx hb dX13_sheet_11 rfl (lv_at hl 2 rfl) ?_
      refine lv_bipush (v := 8) hx hb dX13_sheet_12 (by decide) ?_
      refine lv_icmp_eq (tgt := 36) hx hb dX13_sheet_14 (by decide) (fun c23 => ?_) (fun c23 => ?_)
      · rw [if_pos c23] at h
        refine lv_iload_n hx hb dX13_sheet_36 rfl (lv_at hl 3 rfl) ?_
        refine lv_if_ge (tgt := 48) hx hb dX13_sheet_37 (by decide) (fun c24 => ?_) (fun c24 => ?_)
        · rw [if_pos c24] at h
          refine lv_iload_n hx hb dX13_sheet_48 rfl (lv_at hl 3 rfl) ?_
          refine lv_bipush (v := 40) hx hb dX13_sheet_49 (by decide) ?_
          refine lv_icmp_le (tgt := 61) hx hb dX13_sheet_51 (by decide) (fun c25 => ?_) (fun c25 => ?_)
          · rw [if_pos c25] at h
            refine lv_aload_n hx hb dX13_sheet_61 rfl (lv_at hl 0 rfl) ?_
            refine va_get (D := xD E) (ci := 13) (v := .ref (xa E 197)) (C := RX13) (T := TX13) (N := 24) hx hb hts in_X13 hown hK (xO_M hW) 0 rfl rfl 20 (by decide) (hts _ q1216) (fun _ h9 => h9) rfl dX13_sheet_62 ?_
            refine lv_iload_n hx hb dX13_sheet_65 rfl (lv_at hl 1 rfl) ?_
            refine lv_iload_n hx hb dX13_sheet_66 rfl (lv_at hl 2 rfl) ?_
            by_cases hi26 : xin a1 4
            · rw [if_pos hi26] at h
              refine x_iast F hW hS 197 4 28 (fun j => j) xp_197.1 xp_197.2.1 xp_197.2.2.1 xp_197.2.2.2 hi26 dX13_sheet_67 (fun H locs hW hS => ?_)
              refine lv_aload_n hx hb dX13_sheet_68 rfl (lv_at hl 0 rfl) ?_
              refine va_get (D := xD E) (ci := 13) (v := .ref (xa E 198)) (C := RX13) (T := TX13) (N := 24) hx hb hts in_X13 hown hK (xO_M hW) 0 rfl rfl 21 (by decide) (hts _ q1217) (fun _ h9 => h9) rfl dX13_sheet_69 ?_
              refine lv_iload_n hx hb dX13_sheet_72 rfl (lv_at hl 1 rfl) ?_
              refine lv_iload_n hx hb dX13_sheet_73 rfl (lv_at hl 2 rfl) ?_
              refine lv_if_ne (tgt := 81) hx hb dX13_sheet_74 (by decide) (fun c27 => ?_) (fun c27 => ?_)
              · rw [if_neg c27] at h
                refine lv_iload_n hx hb dX13_sheet_81 rfl (lv_at hl 3 rfl) ?_
                by_cases hi28 : xin a1 4
                · rw [if_pos hi28] at h
                  refine x_iast F hW hS 198 4 29 (fun j => j) xp_198.1 xp_198.2.1 xp_198.2.2.1 xp_198.2.2.2 hi28 dX13_sheet_82 (fun H locs hW hS => ?_)
                  refine lv_iconst (v := 0) hx hb dX13_sheet_83 (by decide) ?_
                  refine lv_istore (lv' := [(4, .int 0), (0, .ref (xa E 186)), (1, .int a1), (2, .int a2), (3, .int a3)]) hx hb dX13_sheet_84 hl (by decide) rfl (fun ls hl => ?_)
                  cases g29 : gX13_sheet_86 a1 xfu 0 (xup (xup σ 28 (a1.toNatClampNeg) a2) 29 (a1.toNatClampNeg) a3) with
                  | none => rw [g29] at h; cases h
                  | some q30 =>
                    rw [g29, Option.bind_some] at h
                    refine lX13_sheet_86 F xfu 0 (xup (xup σ 28 (a1.toNatClampNeg) a2) 29 (a1.toNatClampNeg) a3) q30 g29 _ _ _ hW hS (lv_sub hl [0, 1, 2, 3, 4] rfl) (fun H locs ls hW hS hl => ?_)
                    refine lv_aload_n hx hb dX13_sheet_112 rfl (lv_at hl 1 rfl) ?_
                    refine va_get (D := xD E) (ci := 13) (v := .ref (xa E 198)) (C := RX13) (T := TX13) (N := 24) hx hb hts in_X13 hown hK (xO_M hW) 0 rfl rfl 21 (by decide) (hts _ q1217) (fun _ h9 => h9) rfl dX13_sheet_113 ?_
                    refine lv_iload_n hx hb dX13_sheet_116 rfl (lv_at hl 2 rfl) ?_
                    by_cases hi31 : xin a1 4
                    · rw [if_pos hi31] at h
                      refine va_iald hx hb hK (xV_p hW xp_198) 0 0 rfl rfl hi31 dX13_sheet_117 ?_
                      obtain ⟨h1, h2⟩ := Prod.mk.inj (Option.some.inj h); subst h1; subst h2
                      exact x_iret F hr hlk hW hS dX13_sheet_118
                    · rw [if_neg hi31] at h; cases h
                · rw [if_neg hi28] at h; cases h
              · rw [if_pos c27] at h
                refine lv_iconst (v := 0) hx hb dX13_sheet_77 (by decide) ?_
                refine lv_goto (tgt := 82) hx hb dX13_sheet_78 (by decide) ?_
                by_cases hi32 : xin a1 4
                · rw [if_pos hi32] at h
                  refine x_iast F hW hS 198 4 29 (fun j => j) xp_198.1 xp_198.2.1 xp_198.2.2.1 xp_198.2.2.2 hi32 dX13_sheet_82 (fun H locs hW hS => ?_)
                  refine lv_iconst (v := 0) hx hb dX13_sheet_83 (by decide) ?_
                  refine lv_istore (lv' := [(4, .int 0), (0, .ref (xa E 186)), (1, .int a1), (2, .int a2), (3, .int a3)]) hx hb dX13_sheet_84 hl (by decide) rfl (fun ls hl => ?_)
                  cases g33 : gX13_sheet_86 a1 xfu 0 (xup (xup σ 28 (a1.toNatClampNeg) a2) 29 (a1.toNatClampNeg) 0) with
                  | none => rw [g33] at h; cases h
                  | some q34 =>
                    rw [g33, Option.bind_some] at h
                    refine lX13_sheet_86 F xfu 0 (xup (xup σ 28 (a1.toNatClampNeg) a2) 29 (a1.toNatClampNeg) 0) q34 g33 _ _ _ hW hS (lv_sub hl [0, 1, 2, 3, 4] rfl) (fun H locs ls hW hS hl => ?_)
                    refine lv_aload_n hx hb dX13_sheet_112 rfl (lv_at hl 1 rfl) ?_
                    refine va_get (D := xD E) (ci := 13) (v := .ref (xa E 198)) (C := RX13) (T := TX13) (N := 24) hx hb hts in_X13 hown hK (xO_M hW) 0 rfl rfl 21 (by decide) (hts _ q1217) (fun _ h9 => h9) rfl dX13_sheet_113 ?_
                    refine lv_iload_n hx hb dX13_sheet_116 rfl (lv_at hl 2 rfl) ?_
                    by_cases hi35 : xin a1 4
                    · rw [if_pos hi35] at h
                      refine va_iald hx hb hK (xV_p hW xp_198) 0 0 rfl rfl hi35 dX13_sheet_117 ?_
                      obtain ⟨h1, h2⟩ := Prod.mk.inj (Option.some.inj h); subst h1; subst h2
                      exact x_iret F hr hlk hW hS dX13_sheet_118
                    · rw [if_neg hi35] at h; cases h
                · rw [if_neg hi32] at h; cases h
            · rw [if_neg hi26] at h; cases h
          · rw [if_neg c25] at h
            refine lv_aload_n hx hb dX13_sheet_54 rfl (lv_at hl 0 rfl) ?_
            refine lv_ldc (v := (-1000001)) hx hb hown (hts _ q1279) dX13_sheet_55 ?_
            cases g36 : fX13_finding σ (-1000001) with
            | none => rw [g36] at h; cases h
            | some r37 =>
              rw [g36, Option.bind_some] at h
              refine x_backi (va_runV (C := RX13) (b := (xa E 186)) (As := [.int (-1000001)]) (rest := []) F.1 (mX13_finding l E σ (-1000001) r37.1 r37.2 g36) (cwV 1 hts (lw_V q1280 q1282 qs52 q115 q1283) rfl rfl rfl (by decide +kernel) ⟨Nat.le_of_ble_eq_true rfl, Nat.le_of_ble_eq_true rfl⟩) ⟨xPc.blind, va_recv hK (xO_M hW) (ci := 13) (q0 := 0) rfl rfl, F.pre hW hS (.ref (xa E 186) :: [.int (-1000001)])⟩ rfl rfl hl.1 rfl (lv_room (Nat.le_of_ble_eq_true rfl)) dX13_sheet_57 ⟨Nat.le_refl _, Nat.le_refl _⟩) hS (fun H locs hW hS => ?_)
              obtain ⟨h1, h2⟩ := Prod.mk.inj (Option.some.inj h); subst h1; subst h2
              exact x_iret F hr hlk hW hS dX13_sheet_60
        · rw [if_neg c24] at h
          refine lv_aload_n hx hb dX13_sheet_40 rfl (lv_at hl 0 rfl) ?_
          refine lv_ldcw (v := (-1000007)) hx hb hown (hts _ q1688) dX13_sheet_41 ?_
          cases g38 : fX13_finding σ (-1000007) with
          | none => rw [g38] at h; cases h
          | some r39 =>
            rw [g38, Option.bind_some] at h
            refine x_backi (va_runV (C := RX13) (b := (xa E 186)) (As := [.int (-1000007)]) (rest := []) F.1 (mX13_finding l E σ (-1000007) r39.1 r39.2 g38) (cwV 1 hts (lw_V q1280 q1282 qs52 q115 q1283) rfl rfl rfl (by decide +kernel) ⟨Nat.le_of_ble_eq_true rfl, Nat.le_of_ble_eq_true rfl⟩) ⟨xPc.blind, va_recv hK (xO_M hW) (ci := 13) (q0 := 0) rfl rfl, F.pre hW hS (.ref (xa E 186) :: [.int (-1000007)])⟩ rfl rfl hl.1 rfl (lv_room (Nat.le_of_ble_eq_true rfl)) dX13_sheet_44 ⟨Nat.le_refl _, Nat.le_refl _⟩) hS (fun H locs hW hS => ?_)
            obtain ⟨h1, h2⟩ := Prod.mk.inj (Option.some.inj h); subst h1; subst h2
            exact x_iret F hr hlk hW hS dX13_sheet_47
      · rw [if_neg c23] at h
        refine lv_iload_n hx hb dX13_sheet_17 rfl (lv_at hl 2 rfl) ?_
        refine lv_bipush (v := 16) hx hb dX13_sheet_18 (by decide) ?_
        refine lv_icmp_eq (tgt := 36) hx hb dX13_sheet_20 (by decide) (fun c40 => ?_) (fun c40 => ?_)
        · rw [if_pos c40] at h
          refine lv_iload_n hx hb dX13_sheet_36 rfl (lv_at hl 3 rfl) ?_
          refine lv_if_ge (tgt := 48) hx hb dX13_sheet_37 (by decide) (fun c41 => ?_) (fun c41 => ?_)
          · rw [if_pos c41] at h
            refine lv_iload_n hx hb dX13_sheet_48 rfl (lv_at hl 3 rfl) ?_
            refine lv_bipush (v := 40) hx hb dX13_sheet_49 (by decide) ?_
            refine lv_icmp_le (tgt := 61) hx hb dX13_sheet_51 (by decide) (fun c42 => ?_) (fun c42 => ?_)
            · rw [if_pos c42] at h
              refine lv_aload_n hx hb dX13_sheet_61 rfl (lv_at hl 0 rfl) ?_
              refine va_get (D := xD E) (ci := 13) (v := .ref (xa E 197)) (C := RX13) (T := TX13) (N := 24) hx hb hts in_X13 hown hK (xO_M hW) 0 rfl rfl 20 (by decide) (hts _ q1216) (fun _ h9 => h9) rfl dX13_sheet_62 ?_
              refine lv_iload_n hx hb dX13_sheet_65 rfl (lv_at hl 1 rfl) ?_
              refine lv_iload_n hx hb dX13_sheet_66 rfl (lv_at hl 2 rfl) ?_
              by_cases hi43 : xin a1 4
              · rw [if_pos hi43] at h
                refine x_iast F hW hS 197 4 28 (fun j => j) xp_197.1 xp_197.2.1 xp_197.2.2.1 xp_197.2.2.2 hi43 dX13_sheet_67 (fun H locs hW hS => ?_)
                refine lv_aload_n hx hb dX13_sheet_68 rfl (lv_at hl 0 rfl) ?_
                refine va_get (D := xD E) (ci := 13) (v := .ref (xa E 198)) (C := RX13) (T := TX13) (N := 24) hx hb hts in_X13 hown hK (xO_M hW) 0 rfl rfl 21 (by decide) (hts _ q1217) (fun _ h9 => h9) rfl dX13_sheet_69 ?_
                refine lv_iload_n hx hb dX13_sheet_72 rfl (lv_at hl 1 rfl) ?_
                refine lv_iload_n hx hb dX13_sheet_73 rfl (lv_at hl 2 rfl) ?_
                refine lv_if_ne (tgt := 81) hx hb dX13_sheet_74 (by decide) (fun c44 => ?_) (fun c44 => ?_)
                · rw [if_neg c44] at h
                  refine lv_iload_n hx hb dX13_sheet_81 rfl (lv_at hl 3 rfl) ?_
                  by_cases hi45 : xin a1 4
                  · rw [if_pos hi45] at h
                    refine x_iast F hW hS 198 4 29 (fun j => j) xp_198.1 xp_198.2.1 xp_198.2.2.1 xp_198.2.2.2 hi45 dX13_sheet_82 (fun H locs hW hS => ?_)
                    refine lv_iconst (v := 0) hx hb dX13_sheet_83 (by decide) ?_
                    refine lv_istore (lv' := [(4, .int 0), (0, .ref (xa E 186)), (1, .int a1), (2, .int a2), (3, .int a3)]) hx hb dX13_sheet_84 hl (by decide) rfl (fun ls hl => ?_)
                    cases g46 : gX13_sheet_86 a1 xfu 0 (xup (xup σ 28 (a1.toNatClampNeg) a2) 29 (a1.toNatClampNeg) a3) with
                    | none => rw [g46] at h; cases h
                    | some q47 =>
                      rw [g46, Option.bind_some] at h
                      refine lX13_sheet_86 F xfu 0 (xup (xup σ 28 (a1.toNatClampNeg) a2) 29 (a1.toNatClampNeg) a3) q47 g46 _ _ _ hW hS (lv_sub hl [0, 1, 2, 3, 4] rfl) (fun H locs ls hW hS hl => ?_)
                      refine lv_aload_n hx hb dX13_sheet_112 rfl (lv_at hl 1 rfl) ?_
                      refine va_get (D := xD E) (ci := 13) (v := .ref (xa E 198)) (C := RX13) (T := TX13) (N := 24) hx hb hts in_X13 hown hK (xO_M hW) 0 rfl rfl 21 (by decide) (hts _ q1217) (fun _ h9 => h9) rfl dX13_sheet_113 ?_
                      refine lv_iload_n hx hb dX13_sheet_116 rfl (lv_at hl 2 rfl) ?_
                      by_cases hi48 : xin a1 4
                      · rw [if_pos hi48] at h
                        refine va_iald hx hb hK (xV_p hW xp_198) 0 0 rfl rfl hi48 dX13_sheet_117 ?_
                        obtain ⟨h1, h2⟩ := Prod.mk.inj (Option.some.inj h); subst h1; subst h2
                        exact x_iret F hr hlk hW hS dX13_sheet_118
                      · rw [if_neg hi48] at h; cases h
                  · rw [if_neg hi45] at h; cases h
                · rw [if_pos c44] at h
                  refine lv_iconst (v := 0) hx hb dX13_sheet_77 (by decide) ?_
                  refine lv_goto (tgt := 82) hx hb dX13_sheet_78 (by decide) ?_
                  by_cases hi49 : xin a1 4
                  · rw [if_pos hi49] at h
                    refine x_iast F hW hS 198 4 29 (fun j => j) xp_198.1 xp_198.2.1 xp_198.2.2.1 xp_198.2.2.2 hi49 dX13_sheet_82 (fun H locs hW hS => ?_)
                    refine lv_iconst (v := 0) hx hb dX13_sheet_83 (by decide) ?_
                    refine lv_istore (lv' := [(4, .int 0), (0, .ref (xa E 186)), (1, .int a1), (2, .int a2), (3, .int a3)]) hx hb dX13_sheet_84 hl (by decide) rfl (fun ls hl => ?_)
                    cases g50 : gX13_sheet_86 a1 xfu 0 (xup (xup σ 28 (a1.toNatClampNeg) a2) 29 (a1.toNatClampNeg) 0) with
                    | none => rw [g50] at h; cases h
                    | some q51 =>
                      rw [g50, Option.bind_some] at h
                      refine lX13_sheet_86 F xfu 0 (xup (xup σ 28 (a1.toNatClampNeg) a2) 29 (a1.toNatClampNeg) 0) q51 g50 _ _ _ hW hS (lv_sub hl [0, 1, 2, 3, 4] rfl) (fun H locs ls hW hS hl => ?_)
                      refine lv_aload_n hx hb dX13_sheet_112 rfl (lv_at hl 1 rfl) ?_
                      refine va_get (D := xD E) (ci := 13) (v := .ref (xa E 198)) (C := RX13) (T := TX13) (N := 24) hx hb hts in_X13 hown hK (xO_M hW) 0 rfl rfl 21 (by decide) (hts _ q1217) (fun _ h9 => h9) rfl dX13_sheet_113 ?_
                      refine lv_iload_n hx hb dX13_sheet_116 rfl (lv_at hl 2 rfl) ?_
                      by_cases hi52 : xin a1 4
                      · rw [if_pos hi52] at h
                        refine va_iald hx hb hK (xV_p hW xp_198) 0 0 rfl rfl hi52 dX13_sheet_117 ?_
                        obtain ⟨h1, h2⟩ := Prod.mk.inj (Option.some.inj h); subst h1; subst h2
                        exact x_iret F hr hlk hW hS dX13_sheet_118
                      · rw [if_neg hi52] at h; cases h
                  · rw [if_neg hi49] at h; cases h
              · rw [if_neg hi43] at h; cases h
            · rw [if_neg c42] at h
              refine lv_aload_n hx hb dX13_sheet_54 rfl (lv_at hl 0 rfl) ?_
              refine lv_ldc (v := (-1000001)) hx hb hown (hts _ q1279) dX13_sheet_55 ?_
              cases g53 : fX13_finding σ (-1000001) with
              | none => rw [g53] at h; cases h
              | some r54 =>
                rw [g53, Option.bind_some] at h
                refine x_backi (va_runV (C := RX13) (b := (xa E 186)) (As := [.int (-1000001)]) (rest := []) F.1 (mX13_finding l E σ (-1000001) r54.1 r54.2 g53) (cwV 1 hts (lw_V q1280 q1282 qs52 q115 q1283) rfl rfl rfl (by decide +kernel) ⟨Nat.le_of_ble_eq_true rfl, Nat.le_of_ble_eq_true rfl⟩) ⟨xPc.blind, va_recv hK (xO_M hW) (ci := 13) (q0 := 0) rfl rfl, F.pre hW hS (.ref (xa E 186) :: [.int (-1000001)])⟩ rfl rfl hl.1 rfl (lv_room (Nat.le_of_ble_eq_true rfl)) dX13_sheet_57 ⟨Nat.le_refl _, Nat.le_refl _⟩) hS (fun H locs hW hS => ?_)
                obtain ⟨h1, h2⟩ := Prod.mk.inj (Option.some.inj h); subst h1; subst h2
                exact x_iret F hr hlk hW hS dX13_sheet_60
          · rw [if_neg c41] at h
            refine lv_aload_n hx hb dX13_sheet_40 rfl (lv_at hl 0 rfl) ?_
            refine lv_ldcw (v := (-1000007)) hx hb hown (hts _ q1688) dX13_sheet_41 ?_
            cases g55 : fX13_finding σ (-1000007) with
            | none => rw [g55] at h; cases h
            | some r56 =>
              rw [g55, Option.bind_some] at h
              refine x_backi (va_runV (C := RX13) (b := (xa E 186)) (As := [.int (-1000007)]) (rest := []) F.1 (mX13_finding l E σ (-1000007) r56.1 r56.2 g55) (cwV 1 hts (lw_V q1280 q1282 qs52 q115 q1283) rfl rfl rfl (by decide +kernel) ⟨Nat.le_of_ble_eq_true rfl, Nat.le_of_ble_eq_true rfl⟩) ⟨xPc.blind, va_recv hK (xO_M hW) (ci := 13) (q0 := 0) rfl rfl, F.pre hW hS (.ref (xa E 186) :: [.int (-1000007)])⟩ rfl rfl hl.1 rfl (lv_room (Nat.le_of_ble_eq_true rfl)) dX13_sheet_44 ⟨Nat.le_refl _, Nat.le_refl _⟩) hS (fun H locs hW hS => ?_)
              obtain ⟨h1, h2⟩ := Prod.mk.inj (Option.some.inj h); subst h1; subst h2
              exact x_iret F hr hlk hW hS dX13_sheet_47
        · rw [if_neg c40] at h
          refine lv_iload_n hx hb dX13_sheet_23 rfl (lv_at hl 2 rfl) ?_
          refine lv_bipush (v := 32) hx hb dX13_sheet_24 (by decide) ?_
          refine lv_icmp_eq (tgt := 36) hx hb dX13_sheet_26 (by decide) (fun c57 => ?_) (fun c57 => ?_)
          · rw [if_pos c57] at h
            refine lv_iload_n hx hb dX13_sheet_36 rfl (lv_at hl 3 rfl) ?_
            refine lv_if_ge (tgt := 48) hx hb dX13_sheet_37 (by decide) (fun c58 => ?_) (fun c58 => ?_)
            · rw [if_pos c58] at h
              refine lv_iload_n hx hb dX13_sheet_48 rfl (lv_at hl 3 rfl) ?_
              refine lv_bipush (v := 40) hx hb dX13_sheet_49 (by decide) ?_
              refine lv_icmp_le (tgt := 61) hx hb dX13_sheet_51 (by decide) (fun c59 => ?_) (fun c59 => ?_)
              · rw [if_pos c59] at h
                refine lv_aload_n hx hb dX13_sheet_61 rfl (lv_at hl 0 rfl) ?_
                refine va_get (D := xD E) (ci := 13) (v := .ref (xa E 197)) (C := RX13) (T := TX13) (N := 24) hx hb hts in_X13 hown hK (xO_M hW) 0 rfl rfl 20 (by decide) (hts _ q1216) (fun _ h9 => h9) rfl dX13_sheet_62 ?_
                refine lv_iload_n hx hb dX13_sheet_65 rfl (lv_at hl 1 rfl) ?_
                refine lv_iload_n hx hb dX13_sheet_66 rfl (lv_at hl 2 rfl) ?_
                by_cases hi60 : xin a1 4
                · rw [if_pos hi60] at h
                  refine x_iast F hW hS 197 4 28 (fun j => j) xp_197.1 xp_197.2.1 xp_197.2.2.1 xp_197.2.2.2 hi60 dX13_sheet_67 (fun H locs hW hS => ?_)
                  refine lv_aload_n hx hb dX13_sheet_68 rfl (lv_at hl 0 rfl) ?_
                  refine va_get (D := xD E) (ci := 13) (v := .ref (xa E 198)) (C := RX13) (T := TX13) (N := 24) hx hb hts in_X13 hown hK (xO_M hW) 0 rfl rfl 21 (by decide) (hts _ q1217) (fun _ h9 => h9) rfl dX13_sheet_69 ?_
                  refine lv_iload_n hx hb dX13_sheet_72 rfl (lv_at hl 1 rfl) ?_
                  refine lv_iload_n hx hb dX13_sheet_73 rfl (lv_at hl 2 rfl) ?_
                  refine lv_if_ne (tgt := 81) hx hb dX13_sheet_74 (by decide) (fun c61 => ?_) (fun c61 => ?_)
                  · rw [if_neg c61] at h
                    refine lv_iload_n hx hb dX13_sheet_81 rfl (lv_at hl 3 rfl) ?_
                    by_cases hi62 : xin a1 4
                    · rw [if_pos hi62] at h
                      refine x_iast F hW hS 198 4 29 (fun j => j) xp_198.1 xp_198.2.1 xp_198.2.2.1 xp_198.2.2.2 hi62 dX13_sheet_82 (fun H locs hW hS => ?_)
                      refine lv_iconst (v := 0) hx hb dX13_sheet_83 (by decide) ?_
                      refine lv_istore (lv' := [(4, .int 0), (0, .ref (xa E 186)), (1, .int a1), (2, .int a2), (3, .int a3)]) hx hb dX13_sheet_84 hl (by decide) rfl (fun ls hl => ?_)
                      cases g63 : gX13_sheet_86 a1 xfu 0 (xup (xup σ 28 (a1.toNatClampNeg) a2) 29 (a1.toNatClampNeg) a3) with
                      | none => rw [g63] at h; cases h
                      | some q64 =>
                        rw [g63, Option.bind_some] at h
                        refine lX13_sheet_86 F xfu 0 (xup (xup σ 28 (a1.toNatClampNeg) a2) 29 (a1.toNatClampNeg) a3) q64 g63 _ _ _ hW hS (lv_sub hl [0, 1, 2, 3, 4] rfl) (fun H locs ls hW hS hl => ?_)
                        refine lv_aload_n hx hb dX13_sheet_112 rfl (lv_at hl 1 rfl) ?_
                        refine va_get (D := xD E) (ci := 13) (v := .ref (xa E 198)) (C := RX13) (T := TX13) (N := 24) hx hb hts in_X13 hown hK (xO_M hW) 0 rfl rfl 21 (by decide) (hts _ q1217) (fun _ h9 => h9) rfl dX13_sheet_113 ?_
                        refine lv_iload_n hx hb dX13_sheet_116 rfl (lv_at hl 2 rfl) ?_
                        by_cases hi65 : xin a1 4
                        · rw [if_pos hi65] at h
                          refine va_iald hx hb hK (xV_p hW xp_198) 0 0 rfl rfl hi65 dX13_sheet_117 ?_
                          obtain ⟨h1, h2⟩ := Prod.mk.inj (Option.some.inj h); subst h1; subst h2
                          exact x_iret F hr hlk hW hS dX13_sheet_118
                        · rw [if_neg hi65] at h; cases h
                    · rw [if_neg hi62] at h; cases h
                  · rw [if_pos c61] at h
                    refine lv_iconst (v := 0) hx hb dX13_sheet_77 (by decide) ?_
                    refine lv_goto (tgt := 82) hx hb dX13_sheet_78 (by decide) ?_
                    by_cases hi66 : xin a1 4
                    · rw [if_pos hi66] at h
                      refine x_iast F hW hS 198 4 29 (fun j => j) xp_198.1 xp_198.2.1 xp_198.2.2.1 xp_198.2.2.2 hi66 dX13_sheet_82 (fun H locs hW hS => ?_)
                      refine lv_iconst (v := 0) hx hb dX13_sheet_83 (by decide) ?_
                      refine lv_istore (lv' := [(4, .int 0), (0, .ref (xa E 186)), (1, .int a1), (2, .int a2), (3, .int a3)]) hx hb dX13_sheet_84 hl (by decide) rfl (fun ls hl => ?_)
                      cases g67 : gX13_sheet_86 a1 xfu 0 (xup (xup σ 28 (a1.toNatClampNeg) a2) 29 (a1.toNatClampNeg) 0) with
                      | none => rw [g67] at h; cases h
                      | some q68 =>
                        rw [g67, Option.bind_some] at h
                        refine lX13_sheet_86 F xfu 0 (xup (xup σ 28 (a1.toNatClampNeg) a2) 29 (a1.toNatClampNeg) 0) q68 g67 _ _ _ hW hS (lv_sub hl [0, 1, 2, 3, 4] rfl) (fun H locs ls hW hS hl => ?_)
                        refine lv_aload_n hx hb dX13_sheet_112 rfl (lv_at hl 1 rfl) ?_
                        refine va_get (D := xD E) (ci := 13) (v := .ref (xa E 198)) (C := RX13) (T := TX13) (N := 24) hx hb hts in_X13 hown hK (xO_M hW) 0 rfl rfl 21 (by decide) (hts _ q1217) (fun _ h9 => h9) rfl dX13_sheet_113 ?_
                        refine lv_iload_n hx hb dX13_sheet_116 rfl (lv_at hl 2 rfl) ?_
                        by_cases hi69 : xin a1 4
                        · rw [if_pos hi69] at h
                          refine va_iald hx hb hK (xV_p hW xp_198) 0 0 rfl rfl hi69 dX13_sheet_117 ?_
                          obtain ⟨h1, h2⟩ := Prod.mk.inj (Option.some.inj h); subst h1; subst h2
                          exact x_iret F hr hlk hW hS dX13_sheet_118
                        · rw [if_neg hi69] at h; cases h
                    · rw [if_neg hi66] at h; cases h
                · rw [if_neg hi60] at h; cases h
              · rw [if_neg c59] at h
                refine lv_aload_n hx hb dX13_sheet_54 rfl (lv_at hl 0 rfl) ?_
                refine lv_ldc (v := (-1000001)) hx hb hown (hts _ q1279) dX13_sheet_55 ?_
                cases g70 : fX13_finding σ (-1000001) with
                | none => rw [g70] at h; cases h
                | some r71 =>
                  rw [g70, Option.bind_some] at h
                  refine x_backi (va_runV (C := RX13) (b := (xa E 186)) (As := [.int (-1000001)]) (rest := []) F.1 (mX13_finding l E σ (-1000001) r71.1 r71.2 g70) (cwV 1 hts (lw_V q1280 q1282 qs52 q115 q1283) rfl rfl rfl (by decide +kernel) ⟨Nat.le_of_ble_eq_true rfl, Nat.le_of_ble_eq_true rfl⟩) ⟨xPc.blind, va_recv hK (xO_M hW) (ci := 13) (q0 := 0) rfl rfl, F.pre hW hS (.ref (xa E 186) :: [.int (-1000001)])⟩ rfl rfl hl.1 rfl (lv_room (Nat.le_of_ble_eq_true rfl)) dX13_sheet_57 ⟨Nat.le_refl _, Nat.le_refl _⟩) hS (fun H locs hW hS => ?_)
                  obtain ⟨h1, h2⟩ := Prod.mk.inj (Option.some.inj h); subst h1; subst h2
                  exact x_iret F hr hlk hW hS dX13_sheet_60
            · rw [if_neg c58] at h
              refine lv_aload_n hx hb dX13_sheet_40 rfl (lv_at hl 0 rfl) ?_
              refine lv_ldcw (v := (-1000007)) hx hb hown (hts _ q1688) dX13_sheet_41 ?_
              cases g72 : fX13_finding σ (-1000007) with
              | none => rw [g72] at h; cases h
              | some r73 =>
                rw [g72, Option.bind_some] at h
                refine x_backi (va_runV (C := RX13) (b := (xa E 186)) (As := [.int (-1000007)]) (rest := []) F.1 (mX13_finding l E σ (-1000007) r73.1 r73.2 g72) (cwV 1 hts (lw_V q1280 q1282 qs52 q115 q1283) rfl rfl rfl (by decide +kernel) ⟨Nat.le_of_ble_eq_true rfl, Nat.le_of_ble_eq_true rfl⟩) ⟨xPc.blind, va_recv hK (xO_M hW) (ci := 13) (q0 := 0) rfl rfl, F.pre hW hS (.ref (xa E 186) :: [.int (-1000007)])⟩ rfl rfl hl.1 rfl (lv_room (Nat.le_of_ble_eq_true rfl)) dX13_sheet_44 ⟨Nat.le_refl _, Nat.le_refl _⟩) hS (fun H locs hW hS => ?_)
                obtain ⟨h1, h2⟩ := Prod.mk.inj (Option.some.inj h); subst h1; subst h2
                exact x_iret F hr hlk hW hS dX13_sheet_47
          · rw [if_neg c57] at h
            refine lv_aload_n hx hb dX13_sheet_29 rfl (lv_at hl 0 rfl) ?_
            refine lv_ldc (v := (-1000001)) hx hb hown (hts _ q1279) dX13_sheet_30 ?_
            cases g74 : fX13_finding σ (-1000001) with
            | none => rw [g74] at h; cases h
            | some r75 =>
              rw [g74, Option.bind_some] at h
              refine x_backi (va_runV (C := RX13) (b := (xa E 186)) (As := [.int (-1000001)]) (rest := []) F.1 (mX13_finding l E σ (-1000001) r75.1 r75.2 g74) (cwV 1 hts (lw_V q1280 q1282 qs52 q115 q1283) rfl rfl rfl (by decide +kernel) ⟨Nat.le_of_ble_eq_true rfl, Nat.le_of_ble_eq_true rfl⟩) ⟨xPc.blind, va_recv hK (xO_M hW) (ci := 13) (q0 := 0) rfl rfl, F.pre hW hS (.ref (xa E 186) :: [.int (-1000001)])⟩ rfl rfl hl.1 rfl (lv_room (Nat.le_of_ble_eq_true rfl)) dX13_sheet_32 ⟨Nat.le_refl _, Nat.le_refl _⟩) hS (fun H locs hW hS => ?_)
              obtain ⟨h1, h2⟩ := Prod.mk.inj (Option.some.inj h); subst h1; subst h2
              exact x_iret F hr hlk hW hS dX13_sheet_35
/-! WildBellsModel.write(III)I -/
def fX13_write (σ : xM) (a1 : Int32) (a2 : Int32) (a3 : Int32) : Option (Int32 × xM) :=
  if (fX13_isSheet a1) = 0 then ((fX13_finding σ (-1000001)).bind (fun r13 => some (r13.1, r13.2))) else (if xin a1 4 then (if (σ 28 (a1.toNatClampNeg)) = 0 then ((fX13_finding σ (-1000006)).bind (fun r11 => some (r11.1, r11.2))) else (if xin a1 4 then (if (fX13_within a2 0 ((σ 29 (a1.toNatClampNeg)) - 1)) = 0 then ((fX13_finding σ (-1000001)).bind (fun r9 => some (r9.1, r9.2))) else (if xin a1 4 then (if xin ((40 * a1) + a2) 160 then (some (1, (xup σ 30 (((40 * a1) + a2).toNatClampNeg) (fX13_cutTo a3 (σ 28 (a1.toNatClampNeg)))))) else none) else none)) else none)) else none)
set_option maxHeartbeats 4000000 in
theorem mX13_write (l : Launch) (E : xE) (σ : xM) (a1 : Int32) (a2 : Int32) (a3 : Int32) (r : Int32) (σ' : xM) (h : fX13_write σ a1 a2 a3 = some (r, σ')) : Met l yX13_write (ws_ yX13_write cX13_write 4 (some .int)) ({ frames := 2, cells := 0, slots := 0, locals := 42 } : Room) (xPc E σ [.ref (xa E 186), .int a1, .int a2, .int a3]) (xQc E (.returned (some (.int r))) σ') 0 0 (xA E) := by
  refine x_of (C := RX13) (n := "write") (d := "(III)I") (r := (some .int)) (by decide) rfl (by first | decide | exact Nat.le_of_ble_eq_true rfl) ?_
  intro p e s m below meth c ls F hr hlk hW hS hl
  have hl : lv_has ls 4 [(0, .ref (xa E 186)), (1, .int a1), (2, .int a2), (3, .int a3)] := hl
  obtain ⟨hx, hb, hml, hown, hts⟩ := id F.1
  have hK := F.2.1.1
  unfold fX13_write at h
  refine lv_iload_n hx hb dX13_write_0 rfl (lv_at hl 1 rfl) ?_
  refine x_backi (va_runS (As := [.int a1]) (rest := []) F.1 (mX13_isSheet l E σ a1) (va_cwS 1 hts (lw_S q1507 q1508 q115 q1509) rfl rfl rfl (by decide +kernel) ⟨Nat.le_of_ble_eq_true rfl, Nat.le_of_ble_eq_true rfl⟩) ⟨xPc.blind, F.pre hW hS [.int a1]⟩ rfl rfl hl.1 rfl (lv_room (Nat.le_of_ble_eq_true rfl)) dX13_write_1 ⟨Nat.le_refl _, Nat.le_refl _⟩) hS (fun H locs hW hS => ?_)
  refine lv_if_ne (tgt := 14) hx hb dX13_write_4 (by decide) (fun c1 => ?_) (fun c1 => ?_)
  · rw [if_neg c1] at h
    refine lv_aload_n hx hb dX13_write_14 rfl (lv_at hl 0 rfl) ?_
    refine va_get (D := xD E) (ci := 13) (v := .ref (xa E 197)) (C := RX13) (T := TX13) (N := 24) hx hb hts in_X13 hown hK (xO_M hW) 0 rfl rfl 20 (by decide) (hts _ q1216) (fun _ h9 => h9) rfl dX13_write_15 ?_
    refine lv_iload_n hx hb dX13_write_18 rfl (lv_at hl 1 rfl) ?_
    by_cases hi2 : xin a1 4
    · rw [if_pos hi2] at h
      refine va_iald hx hb hK (xV_p hW xp_197) 0 0 rfl rfl hi2 dX13_write_19 ?_
      refine lv_if_ne (tgt := 30) hx hb dX13_write_20 (by decide) (fun c3 => ?_) (fun c3 => ?_)
      · rw [if_neg c3] at h
        refine lv_iload_n hx hb dX13_write_30 rfl (lv_at hl 2 rfl) ?_
        refine lv_iconst (v := 0) hx hb dX13_write_31 (by decide) ?_
        refine lv_aload_n hx hb dX13_write_32 rfl (lv_at hl 0 rfl) ?_
        refine va_get (D := xD E) (ci := 13) (v := .ref (xa E 198)) (C := RX13) (T := TX13) (N := 24) hx hb hts in_X13 hown hK (xO_M hW) 0 rfl rfl 21 (by decide) (hts _ q1217) (fun _ h9 => h9) rfl dX13_write_33 ?_
        refine lv_iload_n hx hb dX13_write_36 rfl (lv_at hl 1 rfl) ?_
        by_cases hi4 : xin a1 4
        · rw [if_pos hi4] at h
          refine va_iald hx hb hK (xV_p hW xp_198) 0 0 rfl rfl hi4 dX13_write_37 ?_
          refine lv_iconst (v := 1) hx hb dX13_write_38 (by decide) ?_
          refine lv_isub hx hb dX13_write_39 ?_
          refine x_backi (va_runS (As := [.int a2, .int 0, .int ((σ 29 (a1.toNatClampNeg)) - 1)]) (rest := []) F.1 (mX13_within l E σ a2 0 ((σ 29 (a1.toNatClampNeg)) - 1)) (va_cwS 3 hts (lw_S q1276 q1277 q115 q1278) rfl rfl rfl (by decide +kernel) ⟨Nat.le_of_ble_eq_true rfl, Nat.le_of_ble_eq_true rfl⟩) ⟨xPc.blind, F.pre hW hS [.int a2, .int 0, .int ((σ 29 (a1.toNatClampNeg)) - 1)]⟩ rfl rfl hl.1 rfl (lv_room (Nat.le_of_ble_eq_true rfl)) dX13_write_40 ⟨Nat.le_refl _, Nat.le_refl _⟩) hS (fun H locs hW hS => ?_)
          refine lv_if_ne (tgt := 53) hx hb dX13_write_43 (by decide) (fun c5 => ?_) (fun c5 => ?_)
          · rw [if_neg c5] at h
            refine lv_aload_n hx hb dX13_write_53 rfl (lv_at hl 0 rfl) ?_
            refine va_get (D := xD E) (ci := 13) (v := .ref (xa E 199)) (C := RX13) (T := TX13) (N := 24) hx hb hts in_X13 hown hK (xO_M hW) 0 rfl rfl 22 (by decide) (hts _ q1218) (fun _ h9 => h9) rfl dX13_write_54 ?_
            refine lv_bipush (v := 40) hx hb dX13_write_57 (by decide) ?_
            refine lv_iload_n hx hb dX13_write_59 rfl (lv_at hl 1 rfl) ?_
            refine lv_imul hx hb dX13_write_60 ?_
            refine lv_iload_n hx hb dX13_write_61 rfl (lv_at hl 2 rfl) ?_
            refine lv_iadd hx hb dX13_write_62 ?_
            refine lv_iload_n hx hb dX13_write_63 rfl (lv_at hl 3 rfl) ?_
            refine lv_aload_n hx hb dX13_write_64 rfl (lv_at hl 0 rfl) ?_
            refine va_get (D := xD E) (ci := 13) (v := .ref (xa E 197)) (C := RX13) (T := TX13) (N := 24) hx hb hts in_X13 hown hK (xO_M hW) 0 rfl rfl 20 (by decide) (hts _ q1216) (fun _ h9 => h9) rfl dX13_write_65 ?_
            refine lv_iload_n hx hb dX13_write_68 rfl (lv_at hl 1 rfl) ?_
            by_cases hi6 : xin a1 4
            · rw [if_pos hi6] at h
              refine va_iald hx hb hK (xV_p hW xp_197) 0 0 rfl rfl hi6 dX13_write_69 ?_
              refine x_backi (va_runS (As := [.int a3, .int (σ 28 (a1.toNatClampNeg))]) (rest := [.int ((40 * a1) + a2), .ref (xa E 199)]) F.1 (mX13_cutTo l E σ a3 (σ 28 (a1.toNatClampNeg))) (va_cwS 2 hts (lw_S q1693 q1694 q115 q1695) rfl rfl rfl (by decide +kernel) ⟨Nat.le_of_ble_eq_true rfl, Nat.le_of_ble_eq_true rfl⟩) ⟨xPc.blind, F.pre hW hS [.int a3, .int (σ 28 (a1.toNatClampNeg))]⟩ rfl rfl hl.1 rfl (lv_room (Nat.le_of_ble_eq_true rfl)) dX13_write_70 ⟨Nat.le_refl _, Nat.le_refl _⟩) hS (fun H locs hW hS => ?_)
              by_cases hi7 : xin ((40 * a1) + a2) 160
              · rw [if_pos hi7] at h
                refine x_iast F hW hS 199 160 30 (fun j => j) xp_199.1 xp_199.2.1 xp_199.2.2.1 xp_199.2.2.2 hi7 dX13_write_73 (fun H locs hW hS => ?_)
                refine lv_iconst (v := 1) hx hb dX13_write_74 (by decide) ?_
                obtain ⟨h1, h2⟩ := Prod.mk.inj (Option.some.inj h); subst h1; subst h2
                exact x_iret F hr hlk hW hS dX13_write_75
              · rw [if_neg hi7] at h; cases h
            · rw [if_neg hi6] at h; cases h
          · rw [if_pos c5] at h
            refine lv_aload_n hx hb dX13_write_46 rfl (lv_at hl 0 rfl) ?_
            refine lv_ldc (v := (-1000001)) hx hb hown (hts _ q1279) dX13_write_47 ?_
            cases g8 : fX13_finding σ (-1000001) with
            | none => rw [g8] at h; cases h
            | some r9 =>
              rw [g8, Option.bind_some] at h
              refine x_backi (va_runV (C := RX13) (b := (xa E 186)) (As := [.int (-1000001)]) (rest := []) F.1 (mX13_finding l E σ (-1000001) r9.1 r9.2 g8) (cwV 1 hts (lw_V q1280 q1282 qs52 q115 q1283) rfl rfl rfl (by decide +kernel) ⟨Nat.le_of_ble_eq_true rfl, Nat.le_of_ble_eq_true rfl⟩) ⟨xPc.blind, va_recv hK (xO_M hW) (ci := 13) (q0 := 0) rfl rfl, F.pre hW hS (.ref (xa E 186) :: [.int (-1000001)])⟩ rfl rfl hl.1 rfl (lv_room (Nat.le_of_ble_eq_true rfl)) dX13_write_49 ⟨Nat.le_refl _, Nat.le_refl _⟩) hS (fun H locs hW hS => ?_)
              obtain ⟨h1, h2⟩ := Prod.mk.inj (Option.some.inj h); subst h1; subst h2
              exact x_iret F hr hlk hW hS dX13_write_52
        · rw [if_neg hi4] at h; cases h
      · rw [if_pos c3] at h
        refine lv_aload_n hx hb dX13_write_23 rfl (lv_at hl 0 rfl) ?_
        refine lv_ldc (v := (-1000006)) hx hb hown (hts _ q1510) dX13_write_24 ?_
        cases g10 : fX13_finding σ (-1000006) with
        | none => rw [g10] at h; cases h
        | some r11 =>
          rw [g10, Option.bind_some] at h
          refine x_backi (va_runV (C := RX13) (b := (xa E 186)) (As := [.int (-1000006)]) (rest := []) F.1 (mX13_finding l E σ (-1000006) r11.1 r11.2 g10) (cwV 1 hts (lw_V q1280 q1282 qs52 q115 q1283) rfl rfl rfl (by decide +kernel) ⟨Nat.le_of_ble_eq_true rfl, Nat.le_of_ble_eq_true rfl⟩) ⟨xPc.blind, va_recv hK (xO_M hW) (ci := 13) (q0 := 0) rfl rfl, F.pre hW hS (.ref (xa E 186) :: [.int (-1000006)])⟩ rfl rfl hl.1 rfl (lv_room (Nat.le_of_ble_eq_true rfl)) dX13_write_26 ⟨Nat.le_refl _, Nat.le_refl _⟩) hS (fun H locs hW hS => ?_)
          obtain ⟨h1, h2⟩ := Prod.mk.inj (Option.some.inj h); subst h1; subst h2
          exact x_iret F hr hlk hW hS dX13_write_29
    · rw [if_neg hi2] at h; cases h
  · rw [if_pos c1] at h
    refine lv_aload_n hx hb dX13_write_7 rfl (lv_at hl 0 rfl) ?_
    refine lv_ldc (v := (-1000001)) hx hb hown (hts _ q1279) dX13_write_8 ?_
    cases g12 : fX13_finding σ (-1000001) with
    | none => rw [g12] at h; cases h
    | some r13 =>
      rw [g12, Option.bind_some] at h
      refine x_backi (va_runV (C := RX13) (b := (xa E 186)) (As := [.int (-1000001)]) (rest := []) F.1 (mX13_finding l E σ (-1000001) r13.1 r13.2 g12) (cwV 1 hts (lw_V q1280 q1282 qs52 q115 q1283) rfl rfl rfl (by decide +kernel) ⟨Nat.le_of_ble_eq_true rfl, Nat.le_of_ble_eq_true rfl⟩) ⟨xPc.blind, va_recv hK (xO_M hW) (ci := 13) (q0 := 0) rfl rfl, F.pre hW hS (.ref (xa E 186) :: [.int (-1000001)])⟩ rfl rfl hl.1 rfl (lv_room (Nat.le_of_ble_eq_true rfl)) dX13_write_10 ⟨Nat.le_refl _, Nat.le_refl _⟩) hS (fun H locs hW hS => ?_)
      obtain ⟨h1, h2⟩ := Prod.mk.inj (Option.some.inj h); subst h1; subst h2
      exact x_iret F hr hlk hW hS dX13_write_13
/-! WildBellsModel.copy(IIIII)I -/
def gX13_copy_128 (b1 : Int32) (b2 : Int32) (b5 : Int32) : Nat → Int32 → xM → Option (Int32 × xM)
  | 0, _, _ => none
  | n + 1, x6, σ => if b5 ≤ x6 then (some (x6, σ)) else (if xin (((40 * b1) + b2) + x6) 160 then (if xin x6 40 then (gX13_copy_128 b1 b2 b5 n (x6 + 1) (xup σ 31 (x6.toNatClampNeg) (σ 30 ((((40 * b1) + b2) + x6).toNatClampNeg)))) else none) else none)
def gX13_copy_165 (b3 : Int32) (b4 : Int32) (b5 : Int32) : Nat → Int32 → xM → Option (Int32 × xM)
  | 0, _, _ => none
  | n + 1, x6, σ => if b5 ≤ x6 then (some (x6, σ)) else (if xin x6 40 then (if xin (((40 * b3) + b4) + x6) 160 then (gX13_copy_165 b3 b4 b5 n (x6 + 1) (xup σ 30 ((((40 * b3) + b4) + x6).toNatClampNeg) (σ 31 (x6.toNatClampNeg)))) else none) else none)
def fX13_copy (σ : xM) (a1 : Int32) (a2 : Int32) (a3 : Int32) (a4 : Int32) (a5 : Int32) : Option (Int32 × xM) :=
  if (fX13_isSheet a1) = 0 then ((fX13_finding σ (-1000001)).bind (fun r3 => some (r3.1, r3.2))) else (if (fX13_isSheet a3) = 0 then ((fX13_finding σ (-1000001)).bind (fun r46 => some (r46.1, r46.2))) else (if xin a1 4 then (if (σ 28 (a1.toNatClampNeg)) = 0 then ((fX13_finding σ (-1000006)).bind (fun r8 => some (r8.1, r8.2))) else (if xin a3 4 then (if (σ 28 (a3.toNatClampNeg)) = 0 then ((fX13_finding σ (-1000006)).bind (fun r44 => some (r44.1, r44.2))) else (if xin a1 4 then (if xin a3 4 then (if (σ 28 (a1.toNatClampNeg)) = (σ 28 (a3.toNatClampNeg)) then (if a2 < 0 then ((fX13_finding σ (-1000001)).bind (fun r16 => some (r16.1, r16.2))) else (if a4 < 0 then ((fX13_finding σ (-1000001)).bind (fun r19 => some (r19.1, r19.2))) else (if a5 < 0 then ((fX13_finding σ (-1000001)).bind (fun r22 => some (r22.1, r22.2))) else (if xin a1 4 then (if 0 < (lg_cmp (((a2 : Int32).toInt64) + ((a5 : Int32).toInt64)) (((σ 29 (a1.toNatClampNeg)) : Int32).toInt64)) then ((fX13_finding σ (-1000001)).bind (fun r26 => some (r26.1, r26.2))) else (if xin a3 4 then (if (lg_cmp (((a4 : Int32).toInt64) + ((a5 : Int32).toInt64)) (((σ 29 (a3.toNatClampNeg)) : Int32).toInt64)) ≤ 0 then ((gX13_copy_128 a1 a2 a5 xfu 0 σ).bind (fun q33 => (gX13_copy_165 a3 a4 a5 xfu 0 q33.2).bind (fun q38 => some (a5, q38.2)))) else ((fX13_finding σ (-1000001)).bind (fun r40 => some (r40.1, r40.2)))) else none)) else none)))) else ((fX13_finding σ (-1000003)).bind (fun r42 => some (r42.1, r42.2)))) else none) else none)) else none)) else none))
set_option maxHeartbeats 4000000 in
theorem lX13_copy_128 {p : Program} {l : Launch} {e : Env} {s : State} {m : MethodId} {av : Array Value} {below : List Frame} {meth : Method} {c : Code} {Q : State → Prop} {E : xE} {b1 : Int32} {b2 : Int32} {b3 : Int32} {b4 : Int32} {b5 : Int32} (F : xFx p m c cX13_copy 7 s av RX13 E) : ∀ (n : Nat) (x6 : Int32) (σ : xM) (q : (Int32 × xM)), gX13_copy_128 b1 b2 b5 n x6 σ = some q → ∀ (H : Heap) (locs : List Loc) (ls : Array Slot), xW E σ H → va_S (xA E) s.heap H locs → lv_has ls 7 [(6, .int x6), (0, .ref (xa E 186)), (1, .int b1), (2, .int b2), (3, .int b3), (4, .int b4), (5, .int b5)] → (∀ (H : Heap) (locs : List Loc) (ls : Array Slot), xW E q.2 H → va_S (xA E) s.heap H locs → lv_has ls 7 [(6, .int q.1), (0, .ref (xa E 186)), (1, .int b1), (2, .int b2), (3, .int b3), (4, .int b4), (5, .int b5)] → W p l e ({ frames := 2, cells := 0, slots := 0, locals := 42 } : Room) s m av below meth c H locs 0 0 Q (F0 m 162 ls [])) → W p l e ({ frames := 2, cells := 0, slots := 0, locals := 42 } : Room) s m av below meth c H locs 0 0 Q (F0 m 128 ls []) := by
  obtain ⟨hx, hb, hml, hown, hts⟩ := id F.1
  have hK := F.2.1.1
  intro n
  induction n with
  | zero =>
    intro x6 σ q h
    cases h
  | succ n ih =>
    intro x6 σ q h H locs ls hW hS hl kk
    rw [gX13_copy_128] at h
    refine lv_iload hx hb dX13_copy_128 (lv_at hl 0 rfl) ?_
    refine lv_iload hx hb dX13_copy_130 (lv_at hl 6 rfl) ?_
    refine lv_icmp_ge (tgt := 162) hx hb dX13_copy_132 (by decide) (fun c29 => ?_) (fun c29 => ?_)
    · rw [if_pos c29] at h
      have h := Option.some.inj h; subst h
      exact kk _ _ _ hW hS (lv_sub hl [0, 1, 2, 3, 4, 5, 6] rfl)
    · rw [if_neg c29] at h
      refine lv_aload_n hx hb dX13_copy_135 rfl (lv_at hl 1 rfl) ?_
      refine va_get (D := xD E) (ci := 13) (v := .ref (xa E 200)) (C := RX13) (T := TX13) (N := 24) hx hb hts in_X13 hown hK (xO_M hW) 0 rfl rfl 23 (by decide) (hts _ q1219) (fun _ h9 => h9) rfl dX13_copy_136 ?_
      refine lv_iload hx hb dX13_copy_139 (lv_at hl 0 rfl) ?_
      refine lv_aload_n hx hb dX13_copy_141 rfl (lv_at hl 1 rfl) ?_
      refine va_get (D := xD E) (ci := 13) (v := .ref (xa E 199)) (C := RX13) (T := TX13) (N := 24) hx hb hts in_X13 hown hK (xO_M hW) 0 rfl rfl 22 (by decide) (hts _ q1218) (fun _ h9 => h9) rfl dX13_copy_142 ?_
      refine lv_bipush (v := 40) hx hb dX13_copy_145 (by decide) ?_
      refine lv_iload_n hx hb dX13_copy_147 rfl (lv_at hl 2 rfl) ?_
      refine lv_imul hx hb dX13_copy_148 ?_
      refine lv_iload_n hx hb dX13_copy_149 rfl (lv_at hl 3 rfl) ?_
      refine lv_iadd hx hb dX13_copy_150 ?_
      refine lv_iload hx hb dX13_copy_151 (lv_at hl 0 rfl) ?_
      refine lv_iadd hx hb dX13_copy_153 ?_
      by_cases hi30 : xin (((40 * b1) + b2) + x6) 160
      · rw [if_pos hi30] at h
        refine va_iald hx hb hK (xV_p hW xp_199) 0 0 rfl rfl hi30 dX13_copy_154 ?_
        by_cases hi31 : xin x6 40
        · rw [if_pos hi31] at h
          refine x_iast F hW hS 200 40 31 (fun j => j) xp_200.1 xp_200.2.1 xp_200.2.2.1 xp_200.2.2.2 hi31 dX13_copy_155 (fun H locs hW hS => ?_)
          refine lv_iinc (k := 0) (v := (x6 + 1)) (lv' := [(6, .int (x6 + 1)), (0, .ref (xa E 186)), (1, .int b1), (2, .int b2), (3, .int b3), (4, .int b4), (5, .int b5)]) hx hb dX13_copy_156 hl rfl rfl (by decide) rfl (fun ls hl => ?_)
          refine lv_goto (tgt := 128) hx hb dX13_copy_159 (by decide) ?_
          exact ih (x6 + 1) (xup σ 31 (x6.toNatClampNeg) (σ 30 ((((40 * b1) + b2) + x6).toNatClampNeg))) _ h _ _ _ hW hS (lv_sub hl [0, 1, 2, 3, 4, 5, 6] rfl) kk
        · rw [if_neg hi31] at h; cases h
      · rw [if_neg hi30] at h; cases h
set_option maxHeartbeats 4000000 in
theorem lX13_copy_165 {p : Program} {l : Launch} {e : Env} {s : State} {m : MethodId} {av : Array Value} {below : List Frame} {meth : Method} {c : Code} {Q : State → Prop} {E : xE} {b1 : Int32} {b2 : Int32} {b3 : Int32} {b4 : Int32} {b5 : Int32} (F : xFx p m c cX13_copy 7 s av RX13 E) : ∀ (n : Nat) (x6 : Int32) (σ : xM) (q : (Int32 × xM)), gX13_copy_165 b3 b4 b5 n x6 σ = some q → ∀ (H : Heap) (locs : List Loc) (ls : Array Slot), xW E σ H → va_S (xA E) s.heap H locs → lv_has ls 7 [(6, .int x6), (0, .ref (xa E 186)), (1, .int b1), (2, .int b2), (3, .int b3), (4, .int b4), (5, .int b5)] → (∀ (H : Heap) (locs : List Loc) (ls : Array Slot), xW E q.2 H → va_S (xA E) s.heap H locs → lv_has ls 7 [(6, .int q.1), (0, .ref (xa E 186)), (1, .int b1), (2, .int b2), (3, .int b3), (4, .int b4), (5, .int b5)] → W p l e ({ frames := 2, cells := 0, slots := 0, locals := 42 } : Room) s m av below meth c H locs 0 0 Q (F0 m 200 ls [])) → W p l e ({ frames := 2, cells := 0, slots := 0, locals := 42 } : Room) s m av below meth c H locs 0 0 Q (F0 m 165 ls []) := by
  obtain ⟨hx, hb, hml, hown, hts⟩ := id F.1
  have hK := F.2.1.1
  intro n
  induction n with
  | zero =>
    intro x6 σ q h
    cases h
  | succ n ih =>
    intro x6 σ q h H locs ls hW hS hl kk
    rw [gX13_copy_165] at h
    refine lv_iload hx hb dX13_copy_165 (lv_at hl 0 rfl) ?_
    refine lv_iload hx hb dX13_copy_167 (lv_at hl 6 rfl) ?_
    refine lv_icmp_ge (tgt := 200) hx hb dX13_copy_169 (by decide) (fun c34 => ?_) (fun c34 => ?_)
    · rw [if_pos c34] at h
      have h := Option.some.inj h; subst h
      exact kk _ _ _ hW hS (lv_sub hl [0, 1, 2, 3, 4, 5, 6] rfl)
    · rw [if_neg c34] at h
      refine lv_aload_n hx hb dX13_copy_172 rfl (lv_at hl 1 rfl) ?_
      refine va_get (D := xD E) (ci := 13) (v := .ref (xa E 199)) (C := RX13) (T := TX13) (N := 24) hx hb hts in_X13 hown hK (xO_M hW) 0 rfl rfl 22 (by decide) (hts _ q1218) (fun _ h9 => h9) rfl dX13_copy_173 ?_
      refine lv_bipush (v := 40) hx hb dX13_copy_176 (by decide) ?_
      refine lv_iload_n hx hb dX13_copy_178 rfl (lv_at hl 4 rfl) ?_
      refine lv_imul hx hb dX13_copy_179 ?_
      refine lv_iload hx hb dX13_copy_180 (lv_at hl 5 rfl) ?_
      refine lv_iadd hx hb dX13_copy_182 ?_
      refine lv_iload hx hb dX13_copy_183 (lv_at hl 0 rfl) ?_
      refine lv_iadd hx hb dX13_copy_185 ?_
      refine lv_aload_n hx hb dX13_copy_186 rfl (lv_at hl 1 rfl) ?_
      refine va_get (D := xD E) (ci := 13) (v := .ref (xa E 200)) (C := RX13) (T := TX13) (N := 24) hx hb hts in_X13 hown hK (xO_M hW) 0 rfl rfl 23 (by decide) (hts _ q1219) (fun _ h9 => h9) rfl dX13_copy_187 ?_
      refine lv_iload hx hb dX13_copy_190 (lv_at hl 0 rfl) ?_
      by_cases hi35 : xin x6 40
      · rw [if_pos hi35] at h
        refine va_iald hx hb hK (xV_p hW xp_200) 0 0 rfl rfl hi35 dX13_copy_192 ?_
        by_cases hi36 : xin (((40 * b3) + b4) + x6) 160
        · rw [if_pos hi36] at h
          refine x_iast F hW hS 199 160 30 (fun j => j) xp_199.1 xp_199.2.1 xp_199.2.2.1 xp_199.2.2.2 hi36 dX13_copy_193 (fun H locs hW hS => ?_)
          refine lv_iinc (k := 0) (v := (x6 + 1)) (lv' := [(6, .int (x6 + 1)), (0, .ref (xa E 186)), (1, .int b1), (2, .int b2), (3, .int b3), (4, .int b4), (5, .int b5)]) hx hb dX13_copy_194 hl rfl rfl (by decide) rfl (fun ls hl => ?_)
          refine lv_goto (tgt := 165) hx hb dX13_copy_197 (by decide) ?_
          exact ih (x6 + 1) (xup σ 30 ((((40 * b3) + b4) + x6).toNatClampNeg) (σ 31 (x6.toNatClampNeg))) _ h _ _ _ hW hS (lv_sub hl [0, 1, 2, 3, 4, 5, 6] rfl) kk
        · rw [if_neg hi36] at h; cases h
      · rw [if_neg hi35] at h; cases h
set_option maxHeartbeats 4000000 in
theorem mX13_copy (l : Launch) (E : xE) (σ : xM) (a1 : Int32) (a2 : Int32) (a3 : Int32) (a4 : Int32) (a5 : Int32) (r : Int32) (σ' : xM) (h : fX13_copy σ a1 a2 a3 a4 a5 = some (r, σ')) : Met l yX13_copy (ws_ yX13_copy cX13_copy 7 (some .int)) ({ frames := 2, cells := 0, slots := 0, locals := 42 } : Room) (xPc E σ [.ref (xa E 186), .int a1, .int a2, .int a3, .int a4, .int a5]) (xQc E (.returned (some (.int r))) σ') 0 0 (xA E) := by
  refine x_of (C := RX13) (n := "copy") (d := "(IIIII)I") (r := (some .int)) (by decide) rfl (by first | decide | exact Nat.le_of_ble_eq_true rfl) ?_
  intro p e s m below meth c ls F hr hlk hW hS hl
  have hl : lv_has ls 7 [(0, .ref (xa E 186)), (1, .int a1), (2, .int a2), (3, .int a3), (4, .int a4), (5, .int a5)] := hl
  obtain ⟨hx, hb, hml, hown, hts⟩ := id F.1
  have hK := F.2.1.1
  unfold fX13_copy at h
  refine lv_iload_n hx hb dX13_copy_0 rfl (lv_at hl 1 rfl) ?_
  refine x_backi (va_runS (As := [.int a1]) (rest := []) F.1 (mX13_isSheet l E σ a1) (va_cwS 1 hts (lw_S q1507 q1508 q115 q1509) rfl rfl rfl (by decide +kernel) ⟨Nat.le_of_ble_eq_true rfl, Nat.le_of_ble_eq_true rfl⟩) ⟨xPc.blind, F.pre hW hS [.int a1]⟩ rfl rfl hl.1 rfl (lv_room (Nat.le_of_ble_eq_true rfl)) dX13_copy_1 ⟨Nat.le_refl _, Nat.le_refl _⟩) hS (fun H locs hW hS => ?_)
  refine lv_if_eq (tgt := 14) hx hb dX13_copy_4 (by decide) (fun c1 => ?_) (fun c1 => ?_)
  · rw [if_pos c1] at h
    refine lv_aload_n hx hb dX13_copy_14 rfl (lv_at hl 0 rfl) ?_
    refine lv_ldc (v := (-1000001)) hx hb hown (hts _ q1279) dX13_copy_15 ?_
    cases g2 : fX13_finding σ (-1000001) with
    | none => rw [g2] at h; cases h
    | some r3 =>
      rw [g2, Option.bind_some] at h
      refine x_backi (va_runV (C := RX13) (b := (xa E 186)) (As := [.int (-1000001)]) (rest := []) F.1 (mX13_finding l E σ (-1000001) r3.1 r3.2 g2) (cwV 1 hts (lw_V q1280 q1282 qs52 q115 q1283) rfl rfl rfl (by decide +kernel) ⟨Nat.le_of_ble_eq_true rfl, Nat.le_of_ble_eq_true rfl⟩) ⟨xPc.blind, va_recv hK (xO_M hW) (ci := 13) (q0 := 0) rfl rfl, F.pre hW hS (.ref (xa E 186) :: [.int (-1000001)])⟩ rfl rfl hl.1 rfl (lv_room (Nat.le_of_ble_eq_true rfl)) dX13_copy_17 ⟨Nat.le_refl _, Nat.le_refl _⟩) hS (fun H locs hW hS => ?_)
      obtain ⟨h1, h2⟩ := Prod.mk.inj (Option.some.inj h); subst h1; subst h2
      exact x_iret F hr hlk hW hS dX13_copy_20
  · rw [if_neg c1] at h
    refine lv_iload_n hx hb dX13_copy_7 rfl (lv_at hl 3 rfl) ?_
    refine x_backi (va_runS (As := [.int a3]) (rest := []) F.1 (mX13_isSheet l E σ a3) (va_cwS 1 hts (lw_S q1507 q1508 q115 q1509) rfl rfl rfl (by decide +kernel) ⟨Nat.le_of_ble_eq_true rfl, Nat.le_of_ble_eq_true rfl⟩) ⟨xPc.blind, F.pre hW hS [.int a3]⟩ rfl rfl hl.1 rfl (lv_room (Nat.le_of_ble_eq_true rfl)) dX13_copy_8 ⟨Nat.le_refl _, Nat.le_refl _⟩) hS (fun H locs hW hS => ?_)
    refine lv_if_ne (tgt := 21) hx hb dX13_copy_11 (by decide) (fun c4 => ?_) (fun c4 => ?_)
    · rw [if_neg c4] at h
      refine lv_aload_n hx hb dX13_copy_21 rfl (lv_at hl 0 rfl) ?_
      refine va_get (D := xD E) (ci := 13) (v := .ref (xa E 197)) (C := RX13) (T := TX13) (N := 24) hx hb hts in_X13 hown hK (xO_M hW) 0 rfl rfl 20 (by decide) (hts _ q1216) (fun _ h9 => h9) rfl dX13_copy_22 ?_
      refine lv_iload_n hx hb dX13_copy_25 rfl (lv_at hl 1 rfl) ?_
      by_cases hi5 : xin a1 4
      · rw [if_pos hi5] at h
        refine va_iald hx hb hK (xV_p hW xp_197) 0 0 rfl rfl hi5 dX13_copy_26 ?_
        refine lv_if_eq (tgt := 39) hx hb dX13_copy_27 (by decide) (fun c6 => ?_) (fun c6 => ?_)
        · rw [if_pos c6] at h
          refine lv_aload_n hx hb dX13_copy_39 rfl (lv_at hl 0 rfl) ?_
          refine lv_ldc (v := (-1000006)) hx hb hown (hts _ q1510) dX13_copy_40 ?_
          cases g7 : fX13_finding σ (-1000006) with
          | none => rw [g7] at h; cases h
          | some r8 =>
            rw [g7, Option.bind_some] at h
            refine x_backi (va_runV (C := RX13) (b := (xa E 186)) (As := [.int (-1000006)]) (rest := []) F.1 (mX13_finding l E σ (-1000006) r8.1 r8.2 g7) (cwV 1 hts (lw_V q1280 q1282 qs52 q115 q1283) rfl rfl rfl (by decide +kernel) ⟨Nat.le_of_ble_eq_true rfl, Nat.le_of_ble_eq_true rfl⟩) ⟨xPc.blind, va_recv hK (xO_M hW) (ci := 13) (q0 := 0) rfl rfl, F.pre hW hS (.ref (xa E 186) :: [.int (-1000006)])⟩ rfl rfl hl.1 rfl (lv_room (Nat.le_of_ble_eq_true rfl)) dX13_copy_42 ⟨Nat.le_refl _, Nat.le_refl _⟩) hS (fun H locs hW hS => ?_)
            obtain ⟨h1, h2⟩ := Prod.mk.inj (Option.some.inj h); subst h1; subst h2
            exact x_iret F hr hlk hW hS dX13_copy_45
        · rw [if_neg c6] at h
          refine lv_aload_n hx hb dX13_copy_30 rfl (lv_at hl 0 rfl) ?_
          refine va_get (D := xD E) (ci := 13) (v := .ref (xa E 197)) (C := RX13) (T := TX13) (N := 24) hx hb hts in_X13 hown hK (xO_M hW) 0 rfl rfl 20 (by decide) (hts _ q1216) (fun _ h9 => h9) rfl dX13_copy_31 ?_
          refine lv_iload_n hx hb dX13_copy_34 rfl (lv_at hl 3 rfl) ?_
          by_cases hi9 : xin a3 4
          · rw [if_pos hi9] at h
            refine va_iald hx hb hK (xV_p hW xp_197) 0 0 rfl rfl hi9 dX13_copy_35 ?_
            refine lv_if_ne (tgt := 46) hx hb dX13_copy_36 (by decide) (fun c10 => ?_) (fun c10 => ?_)
            · rw [if_neg c10] at h
              refine lv_aload_n hx hb dX13_copy_46 rfl (lv_at hl 0 rfl) ?_
              refine va_get (D := xD E) (ci := 13) (v := .ref (xa E 197)) (C := RX13) (T := TX13) (N := 24) hx hb hts in_X13 hown hK (xO_M hW) 0 rfl rfl 20 (by decide) (hts _ q1216) (fun _ h9 => h9) rfl dX13_copy_47 ?_
              refine lv_iload_n hx hb dX13_copy_50 rfl (lv_at hl 1 rfl) ?_
              by_cases hi11 : xin a1 4
              · rw [if_pos hi11] at h
                refine va_iald hx hb hK (xV_p hW xp_197) 0 0 rfl rfl hi11 dX13_copy_51 ?_
                refine lv_aload_n hx hb dX13_copy_52 rfl (lv_at hl 0 rfl) ?_
                refine va_get (D := xD E) (ci := 13) (v := .ref (xa E 197)) (C := RX13) (T := TX13) (N := 24) hx hb hts in_X13 hown hK (xO_M hW) 0 rfl rfl 20 (by decide) (hts _ q1216) (fun _ h9 => h9) rfl dX13_copy_53 ?_
                refine lv_iload_n hx hb dX13_copy_56 rfl (lv_at hl 3 rfl) ?_
                by_cases hi12 : xin a3 4
                · rw [if_pos hi12] at h
                  refine va_iald hx hb hK (xV_p hW xp_197) 0 0 rfl rfl hi12 dX13_copy_57 ?_
                  refine lv_icmp_eq (tgt := 69) hx hb dX13_copy_58 (by decide) (fun c13 => ?_) (fun c13 => ?_)
                  · rw [if_pos c13] at h
                    refine lv_iload_n hx hb dX13_copy_69 rfl (lv_at hl 2 rfl) ?_
                    refine lv_if_lt (tgt := 118) hx hb dX13_copy_70 (by decide) (fun c14 => ?_) (fun c14 => ?_)
                    · rw [if_pos c14] at h
                      refine lv_aload_n hx hb dX13_copy_118 rfl (lv_at hl 0 rfl) ?_
                      refine lv_ldc (v := (-1000001)) hx hb hown (hts _ q1279) dX13_copy_119 ?_
                      cases g15 : fX13_finding σ (-1000001) with
                      | none => rw [g15] at h; cases h
                      | some r16 =>
                        rw [g15, Option.bind_some] at h
                        refine x_backi (va_runV (C := RX13) (b := (xa E 186)) (As := [.int (-1000001)]) (rest := []) F.1 (mX13_finding l E σ (-1000001) r16.1 r16.2 g15) (cwV 1 hts (lw_V q1280 q1282 qs52 q115 q1283) rfl rfl rfl (by decide +kernel) ⟨Nat.le_of_ble_eq_true rfl, Nat.le_of_ble_eq_true rfl⟩) ⟨xPc.blind, va_recv hK (xO_M hW) (ci := 13) (q0 := 0) rfl rfl, F.pre hW hS (.ref (xa E 186) :: [.int (-1000001)])⟩ rfl rfl hl.1 rfl (lv_room (Nat.le_of_ble_eq_true rfl)) dX13_copy_121 ⟨Nat.le_refl _, Nat.le_refl _⟩) hS (fun H locs hW hS => ?_)
                        obtain ⟨h1, h2⟩ := Prod.mk.inj (Option.some.inj h); subst h1; subst h2
                        exact x_iret F hr hlk hW hS dX13_copy_124
                    · rw [if_neg c14] at h
                      refine lv_iload hx hb dX13_copy_73 (lv_at hl 4 rfl) ?_
                      refine lv_if_lt (tgt := 118) hx hb dX13_copy_75 (by decide) (fun c17 => ?_) (fun c17 => ?_)
                      · rw [if_pos c17] at h
                        refine lv_aload_n hx hb dX13_copy_118 rfl (lv_at hl 0 rfl) ?_
                        refine lv_ldc (v := (-1000001)) hx hb hown (hts _ q1279) dX13_copy_119 ?_
                        cases g18 : fX13_finding σ (-1000001) with
                        | none => rw [g18] at h; cases h
                        | some r19 =>
                          rw [g18, Option.bind_some] at h
                          refine x_backi (va_runV (C := RX13) (b := (xa E 186)) (As := [.int (-1000001)]) (rest := []) F.1 (mX13_finding l E σ (-1000001) r19.1 r19.2 g18) (cwV 1 hts (lw_V q1280 q1282 qs52 q115 q1283) rfl rfl rfl (by decide +kernel) ⟨Nat.le_of_ble_eq_true rfl, Nat.le_of_ble_eq_true rfl⟩) ⟨xPc.blind, va_recv hK (xO_M hW) (ci := 13) (q0 := 0) rfl rfl, F.pre hW hS (.ref (xa E 186) :: [.int (-1000001)])⟩ rfl rfl hl.1 rfl (lv_room (Nat.le_of_ble_eq_true rfl)) dX13_copy_121 ⟨Nat.le_refl _, Nat.le_refl _⟩) hS (fun H locs hW hS => ?_)
                          obtain ⟨h1, h2⟩ := Prod.mk.inj (Option.some.inj h); subst h1; subst h2
                          exact x_iret F hr hlk hW hS dX13_copy_124
                      · rw [if_neg c17] at h
                        refine lv_iload hx hb dX13_copy_78 (lv_at hl 5 rfl) ?_
                        refine lv_if_lt (tgt := 118) hx hb dX13_copy_80 (by decide) (fun c20 => ?_) (fun c20 => ?_)
                        · rw [if_pos c20] at h
                          refine lv_aload_n hx hb dX13_copy_118 rfl (lv_at hl 0 rfl) ?_
                          refine lv_ldc (v := (-1000001)) hx hb hown (hts _ q1279) dX13_copy_119 ?_
                          cases g21 : fX13_finding σ (-1000001) with
                          | none => rw [g21] at h; cases h
                          | some r22 =>
                            rw [g21, Option.bind_some] at h
                            refine x_backi (va_runV (C := RX13) (b := (xa E 186)) (As := [.int (-1000001)]) (rest := []) F.1 (mX13_finding l E σ (-1000001) r22.1 r22.2 g21) (cwV 1 hts (lw_V q1280 q1282 qs52 q115 q1283) rfl rfl rfl (by decide +kernel) ⟨Nat.le_of_ble_eq_true rfl, Nat.le_of_ble_eq_true rfl⟩) ⟨xPc.blind, va_recv hK (xO_M hW) (ci := 13) (q0 := 0) rfl rfl, F.pre hW hS (.ref (xa E 186) :: [.int (-1000001)])⟩ rfl rfl hl.1 rfl (lv_room (Nat.le_of_ble_eq_true rfl)) dX13_copy_121 ⟨Nat.le_refl _, Nat.le_refl _⟩) hS (fun H locs hW hS => ?_)
                            obtain ⟨h1, h2⟩ := Prod.mk.inj (Option.some.inj h); subst h1; subst h2
                            exact x_iret F hr hlk hW hS dX13_copy_124
                        · rw [if_neg c20] at h
                          refine lv_iload_n hx hb dX13_copy_83 rfl (lv_at hl 2 rfl) ?_
                          refine lv_i2l (v := (a2 : Int32).toInt64) hx hb dX13_copy_84 rfl ?_
                          refine lv_iload hx hb dX13_copy_85 (lv_at hl 5 rfl) ?_
                          refine lv_i2l (v := (a5 : Int32).toInt64) hx hb dX13_copy_87 rfl ?_
                          refine lv_ladd hx hb dX13_copy_88 ?_
                          refine lv_aload_n hx hb dX13_copy_89 rfl (lv_at hl 0 rfl) ?_
                          refine va_get (D := xD E) (ci := 13) (v := .ref (xa E 198)) (C := RX13) (T := TX13) (N := 24) hx hb hts in_X13 hown hK (xO_M hW) 0 rfl rfl 21 (by decide) (hts _ q1217) (fun _ h9 => h9) rfl dX13_copy_90 ?_
                          refine lv_iload_n hx hb dX13_copy_93 rfl (lv_at hl 1 rfl) ?_
                          by_cases hi23 : xin a1 4
                          · rw [if_pos hi23] at h
                            refine va_iald hx hb hK (xV_p hW xp_198) 0 0 rfl rfl hi23 dX13_copy_94 ?_
                            refine lv_i2l (v := ((σ 29 (a1.toNatClampNeg)) : Int32).toInt64) hx hb dX13_copy_95 rfl ?_
                            refine W.lcmp hx hb dX13_copy_96 ?_
                            refine lv_if_gt (tgt := 118) hx hb dX13_copy_97 (by decide) (fun c24 => ?_) (fun c24 => ?_)
                            · rw [if_pos c24] at h
                              refine lv_aload_n hx hb dX13_copy_118 rfl (lv_at hl 0 rfl) ?_
                              refine lv_ldc (v := (-1000001)) hx hb hown (hts _ q1279) dX13_copy_119 ?_
                              cases g25 : fX13_finding σ (-1000001) with
                              | none => rw [g25] at h; cases h
                              | some r26 =>
                                rw [g25, Option.bind_some] at h
                                refine x_backi (va_runV (C := RX13) (b := (xa E 186)) (As := [.int (-1000001)]) (rest := []) F.1 (mX13_finding l E σ (-1000001) r26.1 r26.2 g25) (cwV 1 hts (lw_V q1280 q1282 qs52 q115 q1283) rfl rfl rfl (by decide +kernel) ⟨Nat.le_of_ble_eq_true rfl, Nat.le_of_ble_eq_true rfl⟩) ⟨xPc.blind, va_recv hK (xO_M hW) (ci := 13) (q0 := 0) rfl rfl, F.pre hW hS (.ref (xa E 186) :: [.int (-1000001)])⟩ rfl rfl hl.1 rfl (lv_room (Nat.le_of_ble_eq_true rfl)) dX13_copy_121 ⟨Nat.le_refl _, Nat.le_refl _⟩) hS (fun H locs hW hS => ?_)
                                obtain ⟨h1, h2⟩ := Prod.mk.inj (Option.some.inj h); subst h1; subst h2
                                exact x_iret F hr hlk hW hS dX13_copy_124
                            · rw [if_neg c24] at h
                              refine lv_iload hx hb dX13_copy_100 (lv_at hl 4 rfl) ?_
                              refine lv_i2l (v := (a4 : Int32).toInt64) hx hb dX13_copy_102 rfl ?_
                              refine lv_iload hx hb dX13_copy_103 (lv_at hl 5 rfl) ?_
                              refine lv_i2l (v := (a5 : Int32).toInt64) hx hb dX13_copy_105 rfl ?_
                              refine lv_ladd hx hb dX13_copy_106 ?_
                              refine lv_aload_n hx hb dX13_copy_107 rfl (lv_at hl 0 rfl) ?_
                              refine va_get (D := xD E) (ci := 13) (v := .ref (xa E 198)) (C := RX13) (T := TX13) (N := 24) hx hb hts in_X13 hown hK (xO_M hW) 0 rfl rfl 21 (by decide) (hts _ q1217) (fun _ h9 => h9) rfl dX13_copy_108 ?_
                              refine lv_iload_n hx hb dX13_copy_111 rfl (lv_at hl 3 rfl) ?_
                              by_cases hi27 : xin a3 4
                              · rw [if_pos hi27] at h
                                refine va_iald hx hb hK (xV_p hW xp_198) 0 0 rfl rfl hi27 dX13_copy_112 ?_
                                refine lv_i2l (v := ((σ 29 (a3.toNatClampNeg)) : Int32).toInt64) hx hb dX13_copy_113 rfl ?_
                                refine W.lcmp hx hb dX13_copy_114 ?_
                                refine lv_if_le (tgt := 125) hx hb dX13_copy_115 (by decide) (fun c28 => ?_) (fun c28 => ?_)
                                · rw [if_pos c28] at h
                                  refine lv_iconst (v := 0) hx hb dX13_copy_125 (by decide) ?_
                                  refine lv_istore (lv' := [(6, .int 0), (0, .ref (xa E 186)), (1, .int a1), (2, .int a2), (3, .int a3), (4, .int a4), (5, .int a5)]) hx hb dX13_copy_126 hl (by decide) rfl (fun ls hl => ?_)
                                  cases g32 : gX13_copy_128 a1 a2 a5 xfu 0 σ with
                                  | none => rw [g32] at h; cases h
                                  | some q33 =>
                                    rw [g32, Option.bind_some] at h
                                    refine lX13_copy_128 F xfu 0 σ q33 g32 _ _ _ hW hS (lv_sub hl [0, 1, 2, 3, 4, 5, 6] rfl) (fun H locs ls hW hS hl => ?_)
                                    refine lv_iconst (v := 0) hx hb dX13_copy_162 (by decide) ?_
                                    refine lv_istore (lv' := [(6, .int 0), (0, .ref (xa E 186)), (1, .int a1), (2, .int a2), (3, .int a3), (4, .int a4), (5, .int a5)]) hx hb dX13_copy_163 hl (by decide) rfl (fun ls hl => ?_)
                                    cases g37 : gX13_copy_165 a3 a4 a5 xfu 0 q33.2 with
                                    | none => rw [g37] at h; cases h
                                    | some q38 =>
                                      rw [g37, Option.bind_some] at h
                                      refine lX13_copy_165 F xfu 0 q33.2 q38 g37 _ _ _ hW hS (lv_sub hl [0, 1, 2, 3, 4, 5, 6] rfl) (fun H locs ls hW hS hl => ?_)
                                      refine lv_iload hx hb dX13_copy_200 (lv_at hl 6 rfl) ?_
                                      obtain ⟨h1, h2⟩ := Prod.mk.inj (Option.some.inj h); subst h1; subst h2
                                      exact x_iret F hr hlk hW hS dX13_copy_202
                                · rw [if_neg c28] at h
                                  refine lv_aload_n hx hb dX13_copy_118 rfl (lv_at hl 0 rfl) ?_
                                  refine lv_ldc (v := (-1000001)) hx hb hown (hts _ q1279) dX13_copy_119 ?_
                                  cases g39 : fX13_finding σ (-1000001) with
                                  | none => rw [g39] at h; cases h
                                  | some r40 =>
                                    rw [g39, Option.bind_some] at h
                                    refine x_backi (va_runV (C := RX13) (b := (xa E 186)) (As := [.int (-1000001)]) (rest := []) F.1 (mX13_finding l E σ (-1000001) r40.1 r40.2 g39) (cwV 1 hts (lw_V q1280 q1282 qs52 q115 q1283) rfl rfl rfl (by decide +kernel) ⟨Nat.le_of_ble_eq_true rfl, Nat.le_of_ble_eq_true rfl⟩) ⟨xPc.blind, va_recv hK (xO_M hW) (ci := 13) (q0 := 0) rfl rfl, F.pre hW hS (.ref (xa E 186) :: [.int (-1000001)])⟩ rfl rfl hl.1 rfl (lv_room (Nat.le_of_ble_eq_true rfl)) dX13_copy_121 ⟨Nat.le_refl _, Nat.le_refl _⟩) hS (fun H locs hW hS => ?_)
                                    obtain ⟨h1, h2⟩ := Prod.mk.inj (Option.some.inj h); subst h1; subst h2
                                    exact x_iret F hr hlk hW hS dX13_copy_124
                              · rw [if_neg hi27] at h; cases h
                          · rw [if_neg hi23] at h; cases h
                  · rw [if_neg c13] at h
                    refine lv_aload_n hx hb dX13_copy_61 rfl (lv_at hl 0 rfl) ?_
                    refine lv_ldcw (v := (-1000003)) hx hb hown (hts _ q1683) dX13_copy_62 ?_
                    cases g41 : fX13_finding σ (-1000003) with
                    | none => rw [g41] at h; cases h
                    | some r42 =>
                      rw [g41, Option.bind_some] at h
                      refine x_backi (va_runV (C := RX13) (b := (xa E 186)) (As := [.int (-1000003)]) (rest := []) F.1 (mX13_finding l E σ (-1000003) r42.1 r42.2 g41) (cwV 1 hts (lw_V q1280 q1282 qs52 q115 q1283) rfl rfl rfl (by decide +kernel) ⟨Nat.le_of_ble_eq_true rfl, Nat.le_of_ble_eq_true rfl⟩) ⟨xPc.blind, va_recv hK (xO_M hW) (ci := 13) (q0 := 0) rfl rfl, F.pre hW hS (.ref (xa E 186) :: [.int (-1000003)])⟩ rfl rfl hl.1 rfl (lv_room (Nat.le_of_ble_eq_true rfl)) dX13_copy_65 ⟨Nat.le_refl _, Nat.le_refl _⟩) hS (fun H locs hW hS => ?_)
                      obtain ⟨h1, h2⟩ := Prod.mk.inj (Option.some.inj h); subst h1; subst h2
                      exact x_iret F hr hlk hW hS dX13_copy_68
                · rw [if_neg hi12] at h; cases h
              · rw [if_neg hi11] at h; cases h
            · rw [if_pos c10] at h
              refine lv_aload_n hx hb dX13_copy_39 rfl (lv_at hl 0 rfl) ?_
              refine lv_ldc (v := (-1000006)) hx hb hown (hts _ q1510) dX13_copy_40 ?_
              cases g43 : fX13_finding σ (-1000006) with
              | none => rw [g43] at h; cases h
              | some r44 =>
                rw [g43, Option.bind_some] at h
                refine x_backi (va_runV (C := RX13) (b := (xa E 186)) (As := [.int (-1000006)]) (rest := []) F.1 (mX13_finding l E σ (-1000006) r44.1 r44.2 g43) (cwV 1 hts (lw_V q1280 q1282 qs52 q115 q1283) rfl rfl rfl (by decide +kernel) ⟨Nat.le_of_ble_eq_true rfl, Nat.le_of_ble_eq_true rfl⟩) ⟨xPc.blind, va_recv hK (xO_M hW) (ci := 13) (q0 := 0) rfl rfl, F.pre hW hS (.ref (xa E 186) :: [.int (-1000006)])⟩ rfl rfl hl.1 rfl (lv_room (Nat.le_of_ble_eq_true rfl)) dX13_copy_42 ⟨Nat.le_refl _, Nat.le_refl _⟩) hS (fun H locs hW hS => ?_)
                obtain ⟨h1, h2⟩ := Prod.mk.inj (Option.some.inj h); subst h1; subst h2
                exact x_iret F hr hlk hW hS dX13_copy_45
          · rw [if_neg hi9] at h; cases h
      · rw [if_neg hi5] at h; cases h
    · rw [if_pos c4] at h
      refine lv_aload_n hx hb dX13_copy_14 rfl (lv_at hl 0 rfl) ?_
      refine lv_ldc (v := (-1000001)) hx hb hown (hts _ q1279) dX13_copy_15 ?_
      cases g45 : fX13_finding σ (-1000001) with
      | none => rw [g45] at h; cases h
      | some r46 =>
        rw [g45, Option.bind_some] at h
        refine x_backi (va_runV (C := RX13) (b := (xa E 186)) (As := [.int (-1000001)]) (rest := []) F.1 (mX13_finding l E σ (-1000001) r46.1 r46.2 g45) (cwV 1 hts (lw_V q1280 q1282 qs52 q115 q1283) rfl rfl rfl (by decide +kernel) ⟨Nat.le_of_ble_eq_true rfl, Nat.le_of_ble_eq_true rfl⟩) ⟨xPc.blind, va_recv hK (xO_M hW) (ci := 13) (q0 := 0) rfl rfl, F.pre hW hS (.ref (xa E 186) :: [.int (-1000001)])⟩ rfl rfl hl.1 rfl (lv_room (Nat.le_of_ble_eq_true rfl)) dX13_copy_17 ⟨Nat.le_refl _, Nat.le_refl _⟩) hS (fun H locs hW hS => ?_)
        obtain ⟨h1, h2⟩ := Prod.mk.inj (Option.some.inj h); subst h1; subst h2
        exact x_iret F hr hlk hW hS dX13_copy_20
/-! WildBellsModel.load(I)I -/
def gX13_load_20 (b1 : Int32) : Nat → Int32 → xM → Option (Int32 × xM)
  | 0, _, _ => none
  | n + 1, x2, σ => if xin b1 4 then (if (σ 29 (b1.toNatClampNeg)) ≤ x2 then (some (x2, σ)) else ((fX13_isBell σ x2).bind (fun r7 => if r7 = 0 then (some (x2, σ)) else (if xin ((40 * b1) + x2) 160 then (if (fX13_within (σ 30 (((40 * b1) + x2).toNatClampNeg)) 0 11) = 0 then (some (x2, σ)) else (if xin ((40 * b1) + x2) 160 then (if xin (fX13_at x2 2) 186 then (gX13_load_20 b1 n (x2 + 1) (xup σ 20 ((fX13_at x2 2).toNatClampNeg) (σ 30 (((40 * b1) + x2).toNatClampNeg)))) else none) else none)) else none)))) else none
def fX13_load (σ : xM) (a1 : Int32) : Option (Int32 × xM) :=
  (fX13_lacks σ a1).bind (fun r2 => if r2 = 0 then ((gX13_load_20 a1 xfu 0 σ).bind (fun q14 => some (q14.1, q14.2))) else ((fX13_finding σ r2).bind (fun r16 => some (r16.1, r16.2))))
set_option maxHeartbeats 4000000 in
theorem lX13_load_20 {p : Program} {l : Launch} {e : Env} {s : State} {m : MethodId} {av : Array Value} {below : List Frame} {meth : Method} {c : Code} {Q : State → Prop} {E : xE} {b1 : Int32} (F : xFx p m c cX13_load 3 s av RX13 E) : ∀ (n : Nat) (x2 : Int32) (σ : xM) (q : (Int32 × xM)), gX13_load_20 b1 n x2 σ = some q → ∀ (H : Heap) (locs : List Loc) (ls : Array Slot), xW E σ H → va_S (xA E) s.heap H locs → lv_has ls 3 [(2, .int x2), (0, .ref (xa E 186)), (1, .int b1)] → (∀ (H : Heap) (locs : List Loc) (ls : Array Slot), xW E q.2 H → va_S (xA E) s.heap H locs → lv_has ls 3 [(2, .int q.1), (0, .ref (xa E 186)), (1, .int b1)] → W p l e ({ frames := 3, cells := 0, slots := 0, locals := 63 } : Room) s m av below meth c H locs 0 0 Q (F0 m 85 ls [])) → W p l e ({ frames := 3, cells := 0, slots := 0, locals := 63 } : Room) s m av below meth c H locs 0 0 Q (F0 m 20 ls []) := by
  obtain ⟨hx, hb, hml, hown, hts⟩ := id F.1
  have hK := F.2.1.1
  intro n
  induction n with
  | zero =>
    intro x2 σ q h
    cases h
  | succ n ih =>
    intro x2 σ q h H locs ls hW hS hl kk
    rw [gX13_load_20] at h
    refine lv_iload_n hx hb dX13_load_20 rfl (lv_at hl 0 rfl) ?_
    refine lv_aload_n hx hb dX13_load_21 rfl (lv_at hl 1 rfl) ?_
    refine va_get (D := xD E) (ci := 13) (v := .ref (xa E 198)) (C := RX13) (T := TX13) (N := 24) hx hb hts in_X13 hown hK (xO_M hW) 0 rfl rfl 21 (by decide) (hts _ q1217) (fun _ h9 => h9) rfl dX13_load_22 ?_
    refine lv_iload_n hx hb dX13_load_25 rfl (lv_at hl 2 rfl) ?_
    by_cases hi4 : xin b1 4
    · rw [if_pos hi4] at h
      refine va_iald hx hb hK (xV_p hW xp_198) 0 0 rfl rfl hi4 dX13_load_26 ?_
      refine lv_icmp_ge (tgt := 85) hx hb dX13_load_27 (by decide) (fun c5 => ?_) (fun c5 => ?_)
      · rw [if_pos c5] at h
        have h := Option.some.inj h; subst h
        exact kk _ _ _ hW hS (lv_sub hl [0, 1, 2] rfl)
      · rw [if_neg c5] at h
        refine lv_aload_n hx hb dX13_load_30 rfl (lv_at hl 1 rfl) ?_
        refine lv_iload_n hx hb dX13_load_31 rfl (lv_at hl 0 rfl) ?_
        cases g6 : fX13_isBell σ x2 with
        | none => rw [g6] at h; cases h
        | some r7 =>
          rw [g6, Option.bind_some] at h
          refine x_backi (va_runV (C := RX13) (b := (xa E 186)) (As := [.int x2]) (rest := []) F.1 (mX13_isBell l E σ x2 r7 g6) (cwV 1 hts (lw_V q1322 q1324 qs55 q115 q1325) rfl rfl rfl (by decide +kernel) ⟨Nat.le_of_ble_eq_true rfl, Nat.le_of_ble_eq_true rfl⟩) ⟨xPc.blind, va_recv hK (xO_M hW) (ci := 13) (q0 := 0) rfl rfl, F.pre hW hS (.ref (xa E 186) :: [.int x2])⟩ rfl rfl hl.1 rfl (lv_room (Nat.le_of_ble_eq_true rfl)) dX13_load_32 ⟨Nat.le_refl _, Nat.le_refl _⟩) hS (fun H locs hW hS => ?_)
          refine lv_if_eq (tgt := 85) hx hb dX13_load_35 (by decide) (fun c8 => ?_) (fun c8 => ?_)
          · rw [if_pos c8] at h
            have h := Option.some.inj h; subst h
            exact kk _ _ _ hW hS (lv_sub hl [0, 1, 2] rfl)
          · rw [if_neg c8] at h
            refine lv_aload_n hx hb dX13_load_38 rfl (lv_at hl 1 rfl) ?_
            refine va_get (D := xD E) (ci := 13) (v := .ref (xa E 199)) (C := RX13) (T := TX13) (N := 24) hx hb hts in_X13 hown hK (xO_M hW) 0 rfl rfl 22 (by decide) (hts _ q1218) (fun _ h9 => h9) rfl dX13_load_39 ?_
            refine lv_bipush (v := 40) hx hb dX13_load_42 (by decide) ?_
            refine lv_iload_n hx hb dX13_load_44 rfl (lv_at hl 2 rfl) ?_
            refine lv_imul hx hb dX13_load_45 ?_
            refine lv_iload_n hx hb dX13_load_46 rfl (lv_at hl 0 rfl) ?_
            refine lv_iadd hx hb dX13_load_47 ?_
            by_cases hi9 : xin ((40 * b1) + x2) 160
            · rw [if_pos hi9] at h
              refine va_iald hx hb hK (xV_p hW xp_199) 0 0 rfl rfl hi9 dX13_load_48 ?_
              refine lv_iconst (v := 0) hx hb dX13_load_49 (by decide) ?_
              refine lv_bipush (v := 11) hx hb dX13_load_50 (by decide) ?_
              refine x_backi (va_runS (As := [.int (σ 30 (((40 * b1) + x2).toNatClampNeg)), .int 0, .int 11]) (rest := []) F.1 (mX13_within l E σ (σ 30 (((40 * b1) + x2).toNatClampNeg)) 0 11) (va_cwS 3 hts (lw_S q1276 q1277 q115 q1278) rfl rfl rfl (by decide +kernel) ⟨Nat.le_of_ble_eq_true rfl, Nat.le_of_ble_eq_true rfl⟩) ⟨xPc.blind, F.pre hW hS [.int (σ 30 (((40 * b1) + x2).toNatClampNeg)), .int 0, .int 11]⟩ rfl rfl hl.1 rfl (lv_room (Nat.le_of_ble_eq_true rfl)) dX13_load_52 ⟨Nat.le_refl _, Nat.le_refl _⟩) hS (fun H locs hW hS => ?_)
              refine lv_if_eq (tgt := 85) hx hb dX13_load_55 (by decide) (fun c10 => ?_) (fun c10 => ?_)
              · rw [if_pos c10] at h
                have h := Option.some.inj h; subst h
                exact kk _ _ _ hW hS (lv_sub hl [0, 1, 2] rfl)
              · rw [if_neg c10] at h
                refine lv_aload_n hx hb dX13_load_58 rfl (lv_at hl 1 rfl) ?_
                refine va_get (D := xD E) (ci := 13) (v := .ref (xa E 187)) (C := RX13) (T := TX13) (N := 24) hx hb hts in_X13 hown hK (xO_M hW) 0 rfl rfl 0 (by decide) (hts _ q1196) (fun _ h9 => h9) rfl dX13_load_59 ?_
                refine lv_iload_n hx hb dX13_load_62 rfl (lv_at hl 0 rfl) ?_
                refine lv_iconst (v := 2) hx hb dX13_load_63 (by decide) ?_
                refine x_backi (va_runS (As := [.int x2, .int 2]) (rest := [.ref (xa E 187)]) F.1 (mX13_at l E σ x2 2) (va_cwS 2 hts (lw_S q1315 q1316 q115 q1317) rfl rfl rfl (by decide +kernel) ⟨Nat.le_of_ble_eq_true rfl, Nat.le_of_ble_eq_true rfl⟩) ⟨xPc.blind, F.pre hW hS [.int x2, .int 2]⟩ rfl rfl hl.1 rfl (lv_room (Nat.le_of_ble_eq_true rfl)) dX13_load_64 ⟨Nat.le_refl _, Nat.le_refl _⟩) hS (fun H locs hW hS => ?_)
                refine lv_aload_n hx hb dX13_load_67 rfl (lv_at hl 1 rfl) ?_
                refine va_get (D := xD E) (ci := 13) (v := .ref (xa E 199)) (C := RX13) (T := TX13) (N := 24) hx hb hts in_X13 hown hK (xO_M hW) 0 rfl rfl 22 (by decide) (hts _ q1218) (fun _ h9 => h9) rfl dX13_load_68 ?_
                refine lv_bipush (v := 40) hx hb dX13_load_71 (by decide) ?_
                refine lv_iload_n hx hb dX13_load_73 rfl (lv_at hl 2 rfl) ?_
                refine lv_imul hx hb dX13_load_74 ?_
                refine lv_iload_n hx hb dX13_load_75 rfl (lv_at hl 0 rfl) ?_
                refine lv_iadd hx hb dX13_load_76 ?_
                by_cases hi11 : xin ((40 * b1) + x2) 160
                · rw [if_pos hi11] at h
                  refine va_iald hx hb hK (xV_p hW xp_199) 0 0 rfl rfl hi11 dX13_load_77 ?_
                  by_cases hi12 : xin (fX13_at x2 2) 186
                  · rw [if_pos hi12] at h
                    refine x_iast F hW hS 187 186 20 (fun j => j) xp_187.1 xp_187.2.1 xp_187.2.2.1 xp_187.2.2.2 hi12 dX13_load_78 (fun H locs hW hS => ?_)
                    refine lv_iinc (k := 0) (v := (x2 + 1)) (lv' := [(2, .int (x2 + 1)), (0, .ref (xa E 186)), (1, .int b1)]) hx hb dX13_load_79 hl rfl rfl (by decide) rfl (fun ls hl => ?_)
                    refine lv_goto (tgt := 20) hx hb dX13_load_82 (by decide) ?_
                    exact ih (x2 + 1) (xup σ 20 ((fX13_at x2 2).toNatClampNeg) (σ 30 (((40 * b1) + x2).toNatClampNeg))) _ h _ _ _ hW hS (lv_sub hl [0, 1, 2] rfl) kk
                  · rw [if_neg hi12] at h; cases h
                · rw [if_neg hi11] at h; cases h
            · rw [if_neg hi9] at h; cases h
    · rw [if_neg hi4] at h; cases h
set_option maxHeartbeats 4000000 in
theorem mX13_load (l : Launch) (E : xE) (σ : xM) (a1 : Int32) (r : Int32) (σ' : xM) (h : fX13_load σ a1 = some (r, σ')) : Met l yX13_load (ws_ yX13_load cX13_load 3 (some .int)) ({ frames := 3, cells := 0, slots := 0, locals := 63 } : Room) (xPc E σ [.ref (xa E 186), .int a1]) (xQc E (.returned (some (.int r))) σ') 0 0 (xA E) := by
  refine x_of (C := RX13) (n := "load") (d := "(I)I") (r := (some .int)) (by decide) rfl (by first | decide | exact Nat.le_of_ble_eq_true rfl) ?_
  intro p e s m below meth c ls F hr hlk hW hS hl
  have hl : lv_has ls 3 [(0, .ref (xa E 186)), (1, .int a1)] := hl
  obtain ⟨hx, hb, hml, hown, hts⟩ := id F.1
  have hK := F.2.1.1
  unfold fX13_load at h
  refine lv_aload_n hx hb dX13_load_0 rfl (lv_at hl 0 rfl) ?_
  refine lv_iload_n hx hb dX13_load_1 rfl (lv_at hl 1 rfl) ?_
  cases g1 : fX13_lacks σ a1 with
  | none => rw [g1] at h; cases h
  | some r2 =>
    rw [g1, Option.bind_some] at h
    refine x_backi (va_runV (C := RX13) (b := (xa E 186)) (As := [.int a1]) (rest := []) F.1 (mX13_lacks l E σ a1 r2 g1) (cwV 1 hts (lw_V q1503 q1505 qs79 q115 q1506) rfl rfl rfl (by decide +kernel) ⟨Nat.le_of_ble_eq_true rfl, Nat.le_of_ble_eq_true rfl⟩) ⟨xPc.blind, va_recv hK (xO_M hW) (ci := 13) (q0 := 0) rfl rfl, F.pre hW hS (.ref (xa E 186) :: [.int a1])⟩ rfl rfl hl.1 rfl (lv_room (Nat.le_of_ble_eq_true rfl)) dX13_load_2 ⟨Nat.le_refl _, Nat.le_refl _⟩) hS (fun H locs hW hS => ?_)
    refine lv_if_eq (tgt := 18) hx hb dX13_load_5 (by decide) (fun c3 => ?_) (fun c3 => ?_)
    · rw [if_pos c3] at h
      refine lv_iconst (v := 0) hx hb dX13_load_18 (by decide) ?_
      refine lv_istore_n (lv' := [(2, .int 0), (0, .ref (xa E 186)), (1, .int a1)]) hx hb dX13_load_19 rfl hl (by decide) rfl (fun ls hl => ?_)
      cases g13 : gX13_load_20 a1 xfu 0 σ with
      | none => rw [g13] at h; cases h
      | some q14 =>
        rw [g13, Option.bind_some] at h
        refine lX13_load_20 F xfu 0 σ q14 g13 _ _ _ hW hS (lv_sub hl [0, 1, 2] rfl) (fun H locs ls hW hS hl => ?_)
        refine lv_iload_n hx hb dX13_load_85 rfl (lv_at hl 0 rfl) ?_
        obtain ⟨h1, h2⟩ := Prod.mk.inj (Option.some.inj h); subst h1; subst h2
        exact x_iret F hr hlk hW hS dX13_load_86
    · rw [if_neg c3] at h
      refine lv_aload_n hx hb dX13_load_8 rfl (lv_at hl 0 rfl) ?_
      refine lv_aload_n hx hb dX13_load_9 rfl (lv_at hl 0 rfl) ?_
      refine lv_iload_n hx hb dX13_load_10 rfl (lv_at hl 1 rfl) ?_
      refine x_backi (va_runV (C := RX13) (b := (xa E 186)) (As := [.int a1]) (rest := [.ref (xa E 186)]) F.1 (mX13_lacks l E σ a1 r2 g1) (cwV 1 hts (lw_V q1503 q1505 qs79 q115 q1506) rfl rfl rfl (by decide +kernel) ⟨Nat.le_of_ble_eq_true rfl, Nat.le_of_ble_eq_true rfl⟩) ⟨xPc.blind, va_recv hK (xO_M hW) (ci := 13) (q0 := 0) rfl rfl, F.pre hW hS (.ref (xa E 186) :: [.int a1])⟩ rfl rfl hl.1 rfl (lv_room (Nat.le_of_ble_eq_true rfl)) dX13_load_11 ⟨Nat.le_refl _, Nat.le_refl _⟩) hS (fun H locs hW hS => ?_)
      cases g15 : fX13_finding σ r2 with
      | none => rw [g15] at h; cases h
      | some r16 =>
        rw [g15, Option.bind_some] at h
        refine x_backi (va_runV (C := RX13) (b := (xa E 186)) (As := [.int r2]) (rest := []) F.1 (mX13_finding l E σ r2 r16.1 r16.2 g15) (cwV 1 hts (lw_V q1280 q1282 qs52 q115 q1283) rfl rfl rfl (by decide +kernel) ⟨Nat.le_of_ble_eq_true rfl, Nat.le_of_ble_eq_true rfl⟩) ⟨xPc.blind, va_recv hK (xO_M hW) (ci := 13) (q0 := 0) rfl rfl, F.pre hW hS (.ref (xa E 186) :: [.int r2])⟩ rfl rfl hl.1 rfl (lv_room (Nat.le_of_ble_eq_true rfl)) dX13_load_14 ⟨Nat.le_refl _, Nat.le_refl _⟩) hS (fun H locs hW hS => ?_)
        obtain ⟨h1, h2⟩ := Prod.mk.inj (Option.some.inj h); subst h1; subst h2
        exact x_iret F hr hlk hW hS dX13_load_17
/-! WildBellsModel.judge(I)I -/
def gX13_judge_25 (σ : xM) (b1 : Int32) : Nat → Int32 → Int32 → Int32 → Option (Int32 × Int32 × Int32)
  | 0, _, _, _ => none
  | n + 1, x2, x3, x4 => if xin b1 4 then (if (σ 29 (b1.toNatClampNeg)) ≤ x2 then (some (x2, x3, x4)) else (if x4 = 0 then (some (x2, x3, x4)) else (if xin ((40 * b1) + x2) 160 then ((fX13_isBell σ (σ 30 (((40 * b1) + x2).toNatClampNeg))).bind (fun r9 => if r9 = 0 then (gX13_judge_25 σ b1 n (x2 + 0) x3 0) else (if x2 = 0 then ((fX13_bellIs σ (σ 30 (((40 * b1) + x2).toNatClampNeg)) 2).bind (fun r13 => gX13_judge_25 σ b1 n (x2 + 1) r13 1)) else ((fX13_bellIs σ (σ 30 (((40 * b1) + x2).toNatClampNeg)) 2).bind (fun r15 => if (fX13_within (r15 - x3) 1 2) = 0 then (gX13_judge_25 σ b1 n (x2 + 0) x3 0) else (gX13_judge_25 σ b1 n (x2 + 1) r15 1)))))) else none))) else none
def fX13_judge (σ : xM) (a1 : Int32) : Option (Int32 × xM) :=
  (fX13_lacks σ a1).bind (fun r2 => if r2 = 0 then ((gX13_judge_25 σ a1 xfu 0 (-1) 1).bind (fun q18 => if q18.2.2 = 0 then (some ((1 + q18.1), σ)) else (some (0, σ)))) else ((fX13_finding σ r2).bind (fun r21 => some (r21.1, r21.2))))
set_option maxHeartbeats 4000000 in
theorem lX13_judge_25 {p : Program} {l : Launch} {e : Env} {s : State} {m : MethodId} {av : Array Value} {below : List Frame} {meth : Method} {c : Code} {Q : State → Prop} {E : xE} {σ : xM} {b1 : Int32} (F : xFx p m c cX13_judge 6 s av RX13 E) : ∀ (n : Nat) (x2 : Int32) (x3 : Int32) (x4 : Int32) (q : (Int32 × Int32 × Int32)), gX13_judge_25 σ b1 n x2 x3 x4 = some q → ∀ (H : Heap) (locs : List Loc) (ls : Array Slot), xW E σ H → va_S (xA E) s.heap H locs → lv_has ls 6 [(4, .int x4), (3, .int x3), (2, .int x2), (0, .ref (xa E 186)), (1, .int b1)] → (∀ (H : Heap) (locs : List Loc) (ls : Array Slot), xW E σ H → va_S (xA E) s.heap H locs → lv_has ls 6 [(4, .int q.2.2), (3, .int q.2.1), (2, .int q.1), (0, .ref (xa E 186)), (1, .int b1)] → W p l e ({ frames := 3, cells := 0, slots := 0, locals := 63 } : Room) s m av below meth c H locs 0 0 Q (F0 m 123 ls [])) → W p l e ({ frames := 3, cells := 0, slots := 0, locals := 63 } : Room) s m av below meth c H locs 0 0 Q (F0 m 25 ls []) := by
  obtain ⟨hx, hb, hml, hown, hts⟩ := id F.1
  have hK := F.2.1.1
  intro n
  induction n with
  | zero =>
    intro x2 x3 x4 q h
    cases h
  | succ n ih =>
    intro x2 x3 x4 q h H locs ls hW hS hl kk
    rw [gX13_judge_25] at h
    refine lv_iload_n hx hb dX13_judge_25 rfl (lv_at hl 2 rfl) ?_
    refine lv_aload_n hx hb dX13_judge_26 rfl (lv_at hl 3 rfl) ?_
    refine va_get (D := xD E) (ci := 13) (v := .ref (xa E 198)) (C := RX13) (T := TX13) (N := 24) hx hb hts in_X13 hown hK (xO_M hW) 0 rfl rfl 21 (by decide) (hts _ q1217) (fun _ h9 => h9) rfl dX13_judge_27 ?_
    refine lv_iload_n hx hb dX13_judge_30 rfl (lv_at hl 4 rfl) ?_
    by_cases hi4 : xin b1 4
    · rw [if_pos hi4] at h
      refine va_iald hx hb hK (xV_p hW xp_198) 0 0 rfl rfl hi4 dX13_judge_31 ?_
      refine lv_icmp_ge (tgt := 123) hx hb dX13_judge_32 (by decide) (fun c5 => ?_) (fun c5 => ?_)
      · rw [if_pos c5] at h
        have h := Option.some.inj h; subst h
        exact kk _ _ _ hW hS (lv_sub hl [0, 1, 2, 3, 4] rfl)
      · rw [if_neg c5] at h
        refine lv_iload hx hb dX13_judge_35 (lv_at hl 0 rfl) ?_
        refine lv_if_eq (tgt := 123) hx hb dX13_judge_37 (by decide) (fun c6 => ?_) (fun c6 => ?_)
        · rw [if_pos c6] at h
          have h := Option.some.inj h; subst h
          exact kk _ _ _ hW hS (lv_sub hl [0, 1, 2, 3, 4] rfl)
        · rw [if_neg c6] at h
          refine lv_aload_n hx hb dX13_judge_40 rfl (lv_at hl 3 rfl) ?_
          refine va_get (D := xD E) (ci := 13) (v := .ref (xa E 199)) (C := RX13) (T := TX13) (N := 24) hx hb hts in_X13 hown hK (xO_M hW) 0 rfl rfl 22 (by decide) (hts _ q1218) (fun _ h9 => h9) rfl dX13_judge_41 ?_
          refine lv_bipush (v := 40) hx hb dX13_judge_44 (by decide) ?_
          refine lv_iload_n hx hb dX13_judge_46 rfl (lv_at hl 4 rfl) ?_
          refine lv_imul hx hb dX13_judge_47 ?_
          refine lv_iload_n hx hb dX13_judge_48 rfl (lv_at hl 2 rfl) ?_
          refine lv_iadd hx hb dX13_judge_49 ?_
          by_cases hi7 : xin ((40 * b1) + x2) 160
          · rw [if_pos hi7] at h
            refine va_iald hx hb hK (xV_p hW xp_199) 0 0 rfl rfl hi7 dX13_judge_50 ?_
            refine lv_istore (lv' := [(5, .int (σ 30 (((40 * b1) + x2).toNatClampNeg))), (4, .int x4), (3, .int x3), (2, .int x2), (0, .ref (xa E 186)), (1, .int b1)]) hx hb dX13_judge_51 hl (by decide) rfl (fun ls hl => ?_)
            refine lv_aload_n hx hb dX13_judge_53 rfl (lv_at hl 4 rfl) ?_
            refine lv_iload hx hb dX13_judge_54 (lv_at hl 0 rfl) ?_
            cases g8 : fX13_isBell σ (σ 30 (((40 * b1) + x2).toNatClampNeg)) with
            | none => rw [g8] at h; cases h
            | some r9 =>
              rw [g8, Option.bind_some] at h
              refine x_backi (va_runV (C := RX13) (b := (xa E 186)) (As := [.int (σ 30 (((40 * b1) + x2).toNatClampNeg))]) (rest := []) F.1 (mX13_isBell l E σ (σ 30 (((40 * b1) + x2).toNatClampNeg)) r9 g8) (cwV 1 hts (lw_V q1322 q1324 qs55 q115 q1325) rfl rfl rfl (by decide +kernel) ⟨Nat.le_of_ble_eq_true rfl, Nat.le_of_ble_eq_true rfl⟩) ⟨xPc.blind, va_recv hK (xO_M hW) (ci := 13) (q0 := 0) rfl rfl, F.pre hW hS (.ref (xa E 186) :: [.int (σ 30 (((40 * b1) + x2).toNatClampNeg))])⟩ rfl rfl hl.1 rfl (lv_room (Nat.le_of_ble_eq_true rfl)) dX13_judge_56 ⟨Nat.le_refl _, Nat.le_refl _⟩) hS (fun H locs hW hS => ?_)
              refine lv_if_eq (tgt := 87) hx hb dX13_judge_59 (by decide) (fun c10 => ?_) (fun c10 => ?_)
              · rw [if_pos c10] at h
                refine lv_iconst (v := 0) hx hb dX13_judge_87 (by decide) ?_
                refine lv_istore (lv' := [(4, .int 0), (5, .int (σ 30 (((40 * b1) + x2).toNatClampNeg))), (3, .int x3), (2, .int x2), (0, .ref (xa E 186)), (1, .int b1)]) hx hb dX13_judge_88 hl (by decide) rfl (fun ls hl => ?_)
                refine lv_iload hx hb dX13_judge_90 (lv_at hl 0 rfl) ?_
                refine lv_if_eq (tgt := 105) hx hb dX13_judge_92 (by decide) (fun c => ?_) (fun c => absurd c (by decide))
                refine lv_iload_n hx hb dX13_judge_105 rfl (lv_at hl 2 rfl) ?_
                refine lv_istore_n (lv' := [(3, .int x3), (4, .int 0), (5, .int (σ 30 (((40 * b1) + x2).toNatClampNeg))), (2, .int x2), (0, .ref (xa E 186)), (1, .int b1)]) hx hb dX13_judge_106 rfl hl (by decide) rfl (fun ls hl => ?_)
                refine lv_iload_n hx hb dX13_judge_107 rfl (lv_at hl 3 rfl) ?_
                refine lv_iload hx hb dX13_judge_108 (lv_at hl 1 rfl) ?_
                refine lv_if_eq (tgt := 117) hx hb dX13_judge_110 (by decide) (fun c => ?_) (fun c => absurd c (by decide))
                refine lv_iconst (v := 0) hx hb dX13_judge_117 (by decide) ?_
                refine lv_iadd hx hb dX13_judge_118 ?_
                refine lv_istore_n (lv' := [(2, .int (x2 + 0)), (3, .int x3), (4, .int 0), (5, .int (σ 30 (((40 * b1) + x2).toNatClampNeg))), (0, .ref (xa E 186)), (1, .int b1)]) hx hb dX13_judge_119 rfl hl (by decide) rfl (fun ls hl => ?_)
                refine lv_goto (tgt := 25) hx hb dX13_judge_120 (by decide) ?_
                exact ih (x2 + 0) x3 0 _ h _ _ _ hW hS (lv_sub hl [2, 1, 0, 4, 5] rfl) kk
              · rw [if_neg c10] at h
                refine lv_iload_n hx hb dX13_judge_62 rfl (lv_at hl 3 rfl) ?_
                refine lv_if_eq (tgt := 83) hx hb dX13_judge_63 (by decide) (fun c11 => ?_) (fun c11 => ?_)
                · rw [if_pos c11] at h
                  refine lv_iconst (v := 1) hx hb dX13_judge_83 (by decide) ?_
                  refine lv_goto (tgt := 88) hx hb dX13_judge_84 (by decide) ?_
                  refine lv_istore (lv' := [(4, .int 1), (5, .int (σ 30 (((40 * b1) + x2).toNatClampNeg))), (3, .int x3), (2, .int x2), (0, .ref (xa E 186)), (1, .int b1)]) hx hb dX13_judge_88 hl (by decide) rfl (fun ls hl => ?_)
                  refine lv_iload hx hb dX13_judge_90 (lv_at hl 0 rfl) ?_
                  refine lv_if_eq (tgt := 105) hx hb dX13_judge_92 (by decide) (fun c => absurd c (by decide)) (fun c => ?_)
                  refine lv_aload_n hx hb dX13_judge_95 rfl (lv_at hl 4 rfl) ?_
                  refine lv_iload hx hb dX13_judge_96 (lv_at hl 1 rfl) ?_
                  refine lv_iconst (v := 2) hx hb dX13_judge_98 (by decide) ?_
                  cases g12 : fX13_bellIs σ (σ 30 (((40 * b1) + x2).toNatClampNeg)) 2 with
                  | none => rw [g12] at h; cases h
                  | some r13 =>
                    rw [g12, Option.bind_some] at h
                    refine x_backi (va_runV (C := RX13) (b := (xa E 186)) (As := [.int (σ 30 (((40 * b1) + x2).toNatClampNeg)), .int 2]) (rest := []) F.1 (mX13_bellIs l E σ (σ 30 (((40 * b1) + x2).toNatClampNeg)) 2 r13 g12) (cwV 2 hts (lw_V q1326 q1328 qs56 q115 q1329) rfl rfl rfl (by decide +kernel) ⟨Nat.le_of_ble_eq_true rfl, Nat.le_of_ble_eq_true rfl⟩) ⟨xPc.blind, va_recv hK (xO_M hW) (ci := 13) (q0 := 0) rfl rfl, F.pre hW hS (.ref (xa E 186) :: [.int (σ 30 (((40 * b1) + x2).toNatClampNeg)), .int 2])⟩ rfl rfl hl.1 rfl (lv_room (Nat.le_of_ble_eq_true rfl)) dX13_judge_99 ⟨Nat.le_refl _, Nat.le_refl _⟩) hS (fun H locs hW hS => ?_)
                    refine lv_goto (tgt := 106) hx hb dX13_judge_102 (by decide) ?_
                    refine lv_istore_n (lv' := [(3, .int r13), (4, .int 1), (5, .int (σ 30 (((40 * b1) + x2).toNatClampNeg))), (2, .int x2), (0, .ref (xa E 186)), (1, .int b1)]) hx hb dX13_judge_106 rfl hl (by decide) rfl (fun ls hl => ?_)
                    refine lv_iload_n hx hb dX13_judge_107 rfl (lv_at hl 3 rfl) ?_
                    refine lv_iload hx hb dX13_judge_108 (lv_at hl 1 rfl) ?_
                    refine lv_if_eq (tgt := 117) hx hb dX13_judge_110 (by decide) (fun c => absurd c (by decide)) (fun c => ?_)
                    refine lv_iconst (v := 1) hx hb dX13_judge_113 (by decide) ?_
                    refine lv_goto (tgt := 118) hx hb dX13_judge_114 (by decide) ?_
                    refine lv_iadd hx hb dX13_judge_118 ?_
                    refine lv_istore_n (lv' := [(2, .int (x2 + 1)), (3, .int r13), (4, .int 1), (5, .int (σ 30 (((40 * b1) + x2).toNatClampNeg))), (0, .ref (xa E 186)), (1, .int b1)]) hx hb dX13_judge_119 rfl hl (by decide) rfl (fun ls hl => ?_)
                    refine lv_goto (tgt := 25) hx hb dX13_judge_120 (by decide) ?_
                    exact ih (x2 + 1) r13 1 _ h _ _ _ hW hS (lv_sub hl [2, 1, 0, 4, 5] rfl) kk
                · rw [if_neg c11] at h
                  refine lv_aload_n hx hb dX13_judge_66 rfl (lv_at hl 4 rfl) ?_
                  refine lv_iload hx hb dX13_judge_67 (lv_at hl 0 rfl) ?_
                  refine lv_iconst (v := 2) hx hb dX13_judge_69 (by decide) ?_
                  cases g14 : fX13_bellIs σ (σ 30 (((40 * b1) + x2).toNatClampNeg)) 2 with
                  | none => rw [g14] at h; cases h
                  | some r15 =>
                    rw [g14, Option.bind_some] at h
                    refine x_backi (va_runV (C := RX13) (b := (xa E 186)) (As := [.int (σ 30 (((40 * b1) + x2).toNatClampNeg)), .int 2]) (rest := []) F.1 (mX13_bellIs l E σ (σ 30 (((40 * b1) + x2).toNatClampNeg)) 2 r15 g14) (cwV 2 hts (lw_V q1326 q1328 qs56 q115 q1329) rfl rfl rfl (by decide +kernel) ⟨Nat.le_of_ble_eq_true rfl, Nat.le_of_ble_eq_true rfl⟩) ⟨xPc.blind, va_recv hK (xO_M hW) (ci := 13) (q0 := 0) rfl rfl, F.pre hW hS (.ref (xa E 186) :: [.int (σ 30 (((40 * b1) + x2).toNatClampNeg)), .int 2])⟩ rfl rfl hl.1 rfl (lv_room (Nat.le_of_ble_eq_true rfl)) dX13_judge_70 ⟨Nat.le_refl _, Nat.le_refl _⟩) hS (fun H locs hW hS => ?_)
                    refine lv_iload_n hx hb dX13_judge_73 rfl (lv_at hl 2 rfl) ?_
                    refine lv_isub hx hb dX13_judge_74 ?_
                    refine lv_iconst (v := 1) hx hb dX13_judge_75 (by decide) ?_
                    refine lv_iconst (v := 2) hx hb dX13_judge_76 (by decide) ?_
                    refine x_backi (va_runS (As := [.int (r15 - x3), .int 1, .int 2]) (rest := []) F.1 (mX13_within l E σ (r15 - x3) 1 2) (va_cwS 3 hts (lw_S q1276 q1277 q115 q1278) rfl rfl rfl (by decide +kernel) ⟨Nat.le_of_ble_eq_true rfl, Nat.le_of_ble_eq_true rfl⟩) ⟨xPc.blind, F.pre hW hS [.int (r15 - x3), .int 1, .int 2]⟩ rfl rfl hl.1 rfl (lv_room (Nat.le_of_ble_eq_true rfl)) dX13_judge_77 ⟨Nat.le_refl _, Nat.le_refl _⟩) hS (fun H locs hW hS => ?_)
                    refine lv_if_eq (tgt := 87) hx hb dX13_judge_80 (by decide) (fun c16 => ?_) (fun c16 => ?_)
                    · rw [if_pos c16] at h
                      refine lv_iconst (v := 0) hx hb dX13_judge_87 (by decide) ?_
                      refine lv_istore (lv' := [(4, .int 0), (5, .int (σ 30 (((40 * b1) + x2).toNatClampNeg))), (3, .int x3), (2, .int x2), (0, .ref (xa E 186)), (1, .int b1)]) hx hb dX13_judge_88 hl (by decide) rfl (fun ls hl => ?_)
                      refine lv_iload hx hb dX13_judge_90 (lv_at hl 0 rfl) ?_
                      refine lv_if_eq (tgt := 105) hx hb dX13_judge_92 (by decide) (fun c => ?_) (fun c => absurd c (by decide))
                      refine lv_iload_n hx hb dX13_judge_105 rfl (lv_at hl 2 rfl) ?_
                      refine lv_istore_n (lv' := [(3, .int x3), (4, .int 0), (5, .int (σ 30 (((40 * b1) + x2).toNatClampNeg))), (2, .int x2), (0, .ref (xa E 186)), (1, .int b1)]) hx hb dX13_judge_106 rfl hl (by decide) rfl (fun ls hl => ?_)
                      refine lv_iload_n hx hb dX13_judge_107 rfl (lv_at hl 3 rfl) ?_
                      refine lv_iload hx hb dX13_judge_108 (lv_at hl 1 rfl) ?_
                      refine lv_if_eq (tgt := 117) hx hb dX13_judge_110 (by decide) (fun c => ?_) (fun c => absurd c (by decide))
                      refine lv_iconst (v := 0) hx hb dX13_judge_117 (by decide) ?_
                      refine lv_iadd hx hb dX13_judge_118 ?_
                      refine lv_istore_n (lv' := [(2, .int (x2 + 0)), (3, .int x3), (4, .int 0), (5, .int (σ 30 (((40 * b1) + x2).toNatClampNeg))), (0, .ref (xa E 186)), (1, .int b1)]) hx hb dX13_judge_119 rfl hl (by decide) rfl (fun ls hl => ?_)
                      refine lv_goto (tgt := 25) hx hb dX13_judge_120 (by decide) ?_
                      exact ih (x2 + 0) x3 0 _ h _ _ _ hW hS (lv_sub hl [2, 1, 0, 4, 5] rfl) kk
                    · rw [if_neg c16] at h
                      refine lv_iconst (v := 1) hx hb dX13_judge_83 (by decide) ?_
                      refine lv_goto (tgt := 88) hx hb dX13_judge_84 (by decide) ?_
                      refine lv_istore (lv' := [(4, .int 1), (5, .int (σ 30 (((40 * b1) + x2).toNatClampNeg))), (3, .int x3), (2, .int x2), (0, .ref (xa E 186)), (1, .int b1)]) hx hb dX13_judge_88 hl (by decide) rfl (fun ls hl => ?_)
                      refine lv_iload hx hb dX13_judge_90 (lv_at hl 0 rfl) ?_
                      refine lv_if_eq (tgt := 105) hx hb dX13_judge_92 (by decide) (fun c => absurd c (by decide)) (fun c => ?_)
                      refine lv_aload_n hx hb dX13_judge_95 rfl (lv_at hl 4 rfl) ?_
                      refine lv_iload hx hb dX13_judge_96 (lv_at hl 1 rfl) ?_
                      refine lv_iconst (v := 2) hx hb dX13_judge_98 (by decide) ?_
                      refine x_backi (va_runV (C := RX13) (b := (xa E 186)) (As := [.int (σ 30 (((40 * b1) + x2).toNatClampNeg)), .int 2]) (rest := []) F.1 (mX13_bellIs l E σ (σ 30 (((40 * b1) + x2).toNatClampNeg)) 2 r15 g14) (cwV 2 hts (lw_V q1326 q1328 qs56 q115 q1329) rfl rfl rfl (by decide +kernel) ⟨Nat.le_of_ble_eq_true rfl, Nat.le_of_ble_eq_true rfl⟩) ⟨xPc.blind, va_recv hK (xO_M hW) (ci := 13) (q0 := 0) rfl rfl, F.pre hW hS (.ref (xa E 186) :: [.int (σ 30 (((40 * b1) + x2).toNatClampNeg)), .int 2])⟩ rfl rfl hl.1 rfl (lv_room (Nat.le_of_ble_eq_true rfl)) dX13_judge_99 ⟨Nat.le_refl _, Nat.le_refl _⟩) hS (fun H locs hW hS => ?_)
                      refine lv_goto (tgt := 106) hx hb dX13_judge_102 (by decide) ?_
                      refine lv_istore_n (lv' := [(3, .int r15), (4, .int 1), (5, .int (σ 30 (((40 * b1) + x2).toNatClampNeg))), (2, .int x2), (0, .ref (xa E 186)), (1, .int b1)]) hx hb dX13_judge_106 rfl hl (by decide) rfl (fun ls hl => ?_)
                      refine lv_iload_n hx hb dX13_judge_107 rfl (lv_at hl 3 rfl) ?_
                      refine lv_iload hx hb dX13_judge_108 (lv_at hl 1 rfl) ?_
                      refine lv_if_eq (tgt := 117) hx hb dX13_judge_110 (by decide) (fun c => absurd c (by decide)) (fun c => ?_)
                      refine lv_iconst (v := 1) hx hb dX13_judge_113 (by decide) ?_
                      refine lv_goto (tgt := 118) hx hb dX13_judge_114 (by decide) ?_
                      refine lv_iadd hx hb dX13_judge_118 ?_
                      refine lv_istore_n (lv' := [(2, .int (x2 + 1)), (3, .int r15), (4, .int 1), (5, .int (σ 30 (((40 * b1) + x2).toNatClampNeg))), (0, .ref (xa E 186)), (1, .int b1)]) hx hb dX13_judge_119 rfl hl (by decide) rfl (fun ls hl => ?_)
                      refine lv_goto (tgt := 25) hx hb dX13_judge_120 (by decide) ?_
                      exact ih (x2 + 1) r15 1 _ h _ _ _ hW hS (lv_sub hl [2, 1, 0, 4, 5] rfl) kk
          · rw [if_neg hi7] at h; cases h
    · rw [if_neg hi4] at h; cases h
set_option maxHeartbeats 4000000 in
theorem mX13_judge (l : Launch) (E : xE) (σ : xM) (a1 : Int32) (r : Int32) (σ' : xM) (h : fX13_judge σ a1 = some (r, σ')) : Met l yX13_judge (ws_ yX13_judge cX13_judge 6 (some .int)) ({ frames := 3, cells := 0, slots := 0, locals := 63 } : Room) (xPc E σ [.ref (xa E 186), .int a1]) (xQc E (.returned (some (.int r))) σ') 0 0 (xA E) := by
  refine x_of (C := RX13) (n := "judge") (d := "(I)I") (r := (some .int)) (by decide) rfl (by first | decide | exact Nat.le_of_ble_eq_true rfl) ?_
  intro p e s m below meth c ls F hr hlk hW hS hl
  have hl : lv_has ls 6 [(0, .ref (xa E 186)), (1, .int a1)] := hl
  obtain ⟨hx, hb, hml, hown, hts⟩ := id F.1
  have hK := F.2.1.1
  unfold fX13_judge at h
  refine lv_aload_n hx hb dX13_judge_0 rfl (lv_at hl 0 rfl) ?_
  refine lv_iload_n hx hb dX13_judge_1 rfl (lv_at hl 1 rfl) ?_
  cases g1 : fX13_lacks σ a1 with
  | none => rw [g1] at h; cases h
  | some r2 =>
    rw [g1, Option.bind_some] at h
    refine x_backi (va_runV (C := RX13) (b := (xa E 186)) (As := [.int a1]) (rest := []) F.1 (mX13_lacks l E σ a1 r2 g1) (cwV 1 hts (lw_V q1503 q1505 qs79 q115 q1506) rfl rfl rfl (by decide +kernel) ⟨Nat.le_of_ble_eq_true rfl, Nat.le_of_ble_eq_true rfl⟩) ⟨xPc.blind, va_recv hK (xO_M hW) (ci := 13) (q0 := 0) rfl rfl, F.pre hW hS (.ref (xa E 186) :: [.int a1])⟩ rfl rfl hl.1 rfl (lv_room (Nat.le_of_ble_eq_true rfl)) dX13_judge_2 ⟨Nat.le_refl _, Nat.le_refl _⟩) hS (fun H locs hW hS => ?_)
    refine lv_if_eq (tgt := 18) hx hb dX13_judge_5 (by decide) (fun c3 => ?_) (fun c3 => ?_)
    · rw [if_pos c3] at h
      refine lv_iconst (v := 0) hx hb dX13_judge_18 (by decide) ?_
      refine lv_istore_n (lv' := [(2, .int 0), (0, .ref (xa E 186)), (1, .int a1)]) hx hb dX13_judge_19 rfl hl (by decide) rfl (fun ls hl => ?_)
      refine lv_iconst (v := (-1)) hx hb dX13_judge_20 (by decide) ?_
      refine lv_istore_n (lv' := [(3, .int (-1)), (2, .int 0), (0, .ref (xa E 186)), (1, .int a1)]) hx hb dX13_judge_21 rfl hl (by decide) rfl (fun ls hl => ?_)
      refine lv_iconst (v := 1) hx hb dX13_judge_22 (by decide) ?_
      refine lv_istore (lv' := [(4, .int 1), (3, .int (-1)), (2, .int 0), (0, .ref (xa E 186)), (1, .int a1)]) hx hb dX13_judge_23 hl (by decide) rfl (fun ls hl => ?_)
      cases g17 : gX13_judge_25 σ a1 xfu 0 (-1) 1 with
      | none => rw [g17] at h; cases h
      | some q18 =>
        rw [g17, Option.bind_some] at h
        refine lX13_judge_25 F xfu 0 (-1) 1 q18 g17 _ _ _ hW hS (lv_sub hl [0, 1, 2, 3, 4] rfl) (fun H locs ls hW hS hl => ?_)
        refine lv_iload hx hb dX13_judge_123 (lv_at hl 0 rfl) ?_
        refine lv_if_eq (tgt := 132) hx hb dX13_judge_125 (by decide) (fun c19 => ?_) (fun c19 => ?_)
        · rw [if_pos c19] at h
          refine lv_iconst (v := 1) hx hb dX13_judge_132 (by decide) ?_
          refine lv_iload_n hx hb dX13_judge_133 rfl (lv_at hl 2 rfl) ?_
          refine lv_iadd hx hb dX13_judge_134 ?_
          obtain ⟨h1, h2⟩ := Prod.mk.inj (Option.some.inj h); subst h1; subst h2
          exact x_iret F hr hlk hW hS dX13_judge_135
        · rw [if_neg c19] at h
          refine lv_iconst (v := 0) hx hb dX13_judge_128 (by decide) ?_
          refine lv_goto (tgt := 135) hx hb dX13_judge_129 (by decide) ?_
          obtain ⟨h1, h2⟩ := Prod.mk.inj (Option.some.inj h); subst h1; subst h2
          exact x_iret F hr hlk hW hS dX13_judge_135
    · rw [if_neg c3] at h
      refine lv_aload_n hx hb dX13_judge_8 rfl (lv_at hl 0 rfl) ?_
      refine lv_aload_n hx hb dX13_judge_9 rfl (lv_at hl 0 rfl) ?_
      refine lv_iload_n hx hb dX13_judge_10 rfl (lv_at hl 1 rfl) ?_
      refine x_backi (va_runV (C := RX13) (b := (xa E 186)) (As := [.int a1]) (rest := [.ref (xa E 186)]) F.1 (mX13_lacks l E σ a1 r2 g1) (cwV 1 hts (lw_V q1503 q1505 qs79 q115 q1506) rfl rfl rfl (by decide +kernel) ⟨Nat.le_of_ble_eq_true rfl, Nat.le_of_ble_eq_true rfl⟩) ⟨xPc.blind, va_recv hK (xO_M hW) (ci := 13) (q0 := 0) rfl rfl, F.pre hW hS (.ref (xa E 186) :: [.int a1])⟩ rfl rfl hl.1 rfl (lv_room (Nat.le_of_ble_eq_true rfl)) dX13_judge_11 ⟨Nat.le_refl _, Nat.le_refl _⟩) hS (fun H locs hW hS => ?_)
      cases g20 : fX13_finding σ r2 with
      | none => rw [g20] at h; cases h
      | some r21 =>
        rw [g20, Option.bind_some] at h
        refine x_backi (va_runV (C := RX13) (b := (xa E 186)) (As := [.int r2]) (rest := []) F.1 (mX13_finding l E σ r2 r21.1 r21.2 g20) (cwV 1 hts (lw_V q1280 q1282 qs52 q115 q1283) rfl rfl rfl (by decide +kernel) ⟨Nat.le_of_ble_eq_true rfl, Nat.le_of_ble_eq_true rfl⟩) ⟨xPc.blind, va_recv hK (xO_M hW) (ci := 13) (q0 := 0) rfl rfl, F.pre hW hS (.ref (xa E 186) :: [.int r2])⟩ rfl rfl hl.1 rfl (lv_room (Nat.le_of_ble_eq_true rfl)) dX13_judge_14 ⟨Nat.le_refl _, Nat.le_refl _⟩) hS (fun H locs hW hS => ?_)
        obtain ⟨h1, h2⟩ := Prod.mk.inj (Option.some.inj h); subst h1; subst h2
        exact x_iret F hr hlk hW hS dX13_judge_17
/-! WildBellsModel.image()I -/
def fX13_image (σ : xM) : Option (Int32 × xM) :=
  (fX13_copyRow σ 20 21).bind (fun r2 => some (1, (xup r2 24 0 1)))
set_option maxHeartbeats 4000000 in
theorem mX13_image (l : Launch) (E : xE) (σ : xM) (r : Int32) (σ' : xM) (h : fX13_image σ = some (r, σ')) : Met l yX13_image (ws_ yX13_image cX13_image 1 (some .int)) ({ frames := 1, cells := 0, slots := 0, locals := 22 } : Room) (xPc E σ [.ref (xa E 186)]) (xQc E (.returned (some (.int r))) σ') 0 0 (xA E) := by
  refine x_of (C := RX13) (n := "image") (d := "()I") (r := (some .int)) (by decide) rfl (by first | decide | exact Nat.le_of_ble_eq_true rfl) ?_
  intro p e s m below meth c ls F hr hlk hW hS hl
  have hl : lv_has ls 1 [(0, .ref (xa E 186))] := hl
  obtain ⟨hx, hb, hml, hown, hts⟩ := id F.1
  have hK := F.2.1.1
  unfold fX13_image at h
  refine lv_aload_n hx hb dX13_image_0 rfl (lv_at hl 0 rfl) ?_
  refine va_get (D := xD E) (ci := 13) (v := .ref (xa E 187)) (C := RX13) (T := TX13) (N := 24) hx hb hts in_X13 hown hK (xO_M hW) 0 rfl rfl 0 (by decide) (hts _ q1196) (fun _ h9 => h9) rfl dX13_image_1 ?_
  refine lv_aload_n hx hb dX13_image_4 rfl (lv_at hl 0 rfl) ?_
  refine va_get (D := xD E) (ci := 13) (v := .ref (xa E 188)) (C := RX13) (T := TX13) (N := 24) hx hb hts in_X13 hown hK (xO_M hW) 0 rfl rfl 1 (by decide) (hts _ q1197) (fun _ h9 => h9) rfl dX13_image_5 ?_
  cases g1 : fX13_copyRow σ 20 21 with
  | none => rw [g1] at h; cases h
  | some r2 =>
    rw [g1, Option.bind_some] at h
    refine x_backv (va_runS (As := [.ref (xa E 187), .ref (xa E 188)]) (rest := []) F.1 (mX13_copyRow l E σ 187 20 xp_187 188 21 xp_188 r2 g1) (va_cwS 2 hts (lw_S q1442 q1443 q115 q1444) rfl rfl rfl (by decide +kernel) ⟨Nat.le_of_ble_eq_true rfl, Nat.le_of_ble_eq_true rfl⟩) ⟨xPc.blind, F.pre hW hS [.ref (xa E 187), .ref (xa E 188)]⟩ rfl rfl hl.1 rfl (lv_room (Nat.le_of_ble_eq_true rfl)) dX13_image_8 ⟨Nat.le_refl _, Nat.le_refl _⟩) hS (fun H locs hW hS => ?_)
    refine lv_aload_n hx hb dX13_image_11 rfl (lv_at hl 0 rfl) ?_
    refine lv_iconst (v := 1) hx hb dX13_image_12 (by decide) ?_
    refine x_put (C := RX13) (T := TX13) (N := 24) (ci := 13) (ty := .boolean) F hW hS in_X13 tyX13 tyX13_ok nmX13 rfl 186 3 24 0 (by decide) rfl (by decide) rfl (by decide) (hts _ q1199) (fun _ h9 => h9) rfl (by decide +kernel) rfl rfl dX13_image_13 (fun H locs hW hS => ?_)
    refine lv_iconst (v := 1) hx hb dX13_image_16 (by decide) ?_
    obtain ⟨h1, h2⟩ := Prod.mk.inj (Option.some.inj h); subst h1; subst h2
    exact x_iret F hr hlk hW hS dX13_image_17
/-! WildBellsModel.undo()I -/
def fX13_undo (σ : xM) : Option (Int32 × xM) :=
  if (σ 24 0) = 0 then ((fX13_finding σ (-1000004)).bind (fun r5 => some (r5.1, r5.2))) else ((fX13_copyRow σ 21 20).bind (fun r3 => some ((r3 20 ((0 : Int32).toNatClampNeg)), r3)))
set_option maxHeartbeats 4000000 in
theorem mX13_undo (l : Launch) (E : xE) (σ : xM) (r : Int32) (σ' : xM) (h : fX13_undo σ = some (r, σ')) : Met l yX13_undo (ws_ yX13_undo cX13_undo 1 (some .int)) ({ frames := 1, cells := 0, slots := 0, locals := 22 } : Room) (xPc E σ [.ref (xa E 186)]) (xQc E (.returned (some (.int r))) σ') 0 0 (xA E) := by
  refine x_of (C := RX13) (n := "undo") (d := "()I") (r := (some .int)) (by decide) rfl (by first | decide | exact Nat.le_of_ble_eq_true rfl) ?_
  intro p e s m below meth c ls F hr hlk hW hS hl
  have hl : lv_has ls 1 [(0, .ref (xa E 186))] := hl
  obtain ⟨hx, hb, hml, hown, hts⟩ := id F.1
  have hK := F.2.1.1
  unfold fX13_undo at h
  refine lv_aload_n hx hb dX13_undo_0 rfl (lv_at hl 0 rfl) ?_
  refine va_get (D := xD E) (ci := 13) (v := .int (σ 24 0)) (C := RX13) (T := TX13) (N := 24) hx hb hts in_X13 hown hK (xO_M hW) 0 rfl rfl 3 (by decide) (hts _ q1199) (fun _ h9 => h9) rfl dX13_undo_1 ?_
  refine lv_if_ne (tgt := 14) hx hb dX13_undo_4 (by decide) (fun c1 => ?_) (fun c1 => ?_)
  · rw [if_neg c1] at h
    refine lv_aload_n hx hb dX13_undo_14 rfl (lv_at hl 0 rfl) ?_
    refine va_get (D := xD E) (ci := 13) (v := .ref (xa E 188)) (C := RX13) (T := TX13) (N := 24) hx hb hts in_X13 hown hK (xO_M hW) 0 rfl rfl 1 (by decide) (hts _ q1197) (fun _ h9 => h9) rfl dX13_undo_15 ?_
    refine lv_aload_n hx hb dX13_undo_18 rfl (lv_at hl 0 rfl) ?_
    refine va_get (D := xD E) (ci := 13) (v := .ref (xa E 187)) (C := RX13) (T := TX13) (N := 24) hx hb hts in_X13 hown hK (xO_M hW) 0 rfl rfl 0 (by decide) (hts _ q1196) (fun _ h9 => h9) rfl dX13_undo_19 ?_
    cases g2 : fX13_copyRow σ 21 20 with
    | none => rw [g2] at h; cases h
    | some r3 =>
      rw [g2, Option.bind_some] at h
      refine x_backv (va_runS (As := [.ref (xa E 188), .ref (xa E 187)]) (rest := []) F.1 (mX13_copyRow l E σ 188 21 xp_188 187 20 xp_187 r3 g2) (va_cwS 2 hts (lw_S q1442 q1443 q115 q1444) rfl rfl rfl (by decide +kernel) ⟨Nat.le_of_ble_eq_true rfl, Nat.le_of_ble_eq_true rfl⟩) ⟨xPc.blind, F.pre hW hS [.ref (xa E 188), .ref (xa E 187)]⟩ rfl rfl hl.1 rfl (lv_room (Nat.le_of_ble_eq_true rfl)) dX13_undo_22 ⟨Nat.le_refl _, Nat.le_refl _⟩) hS (fun H locs hW hS => ?_)
      refine lv_aload_n hx hb dX13_undo_25 rfl (lv_at hl 0 rfl) ?_
      refine va_get (D := xD E) (ci := 13) (v := .ref (xa E 187)) (C := RX13) (T := TX13) (N := 24) hx hb hts in_X13 hown hK (xO_M hW) 0 rfl rfl 0 (by decide) (hts _ q1196) (fun _ h9 => h9) rfl dX13_undo_26 ?_
      refine lv_iconst (v := 0) hx hb dX13_undo_29 (by decide) ?_
      refine va_iald hx hb hK (xV_p hW xp_187) 0 0 rfl rfl (x_lit (by decide)) dX13_undo_30 ?_
      obtain ⟨h1, h2⟩ := Prod.mk.inj (Option.some.inj h); subst h1; subst h2
      exact x_iret F hr hlk hW hS dX13_undo_31
  · rw [if_pos c1] at h
    refine lv_aload_n hx hb dX13_undo_7 rfl (lv_at hl 0 rfl) ?_
    refine lv_ldc (v := (-1000004)) hx hb hown (hts _ q1462) dX13_undo_8 ?_
    cases g4 : fX13_finding σ (-1000004) with
    | none => rw [g4] at h; cases h
    | some r5 =>
      rw [g4, Option.bind_some] at h
      refine x_backi (va_runV (C := RX13) (b := (xa E 186)) (As := [.int (-1000004)]) (rest := []) F.1 (mX13_finding l E σ (-1000004) r5.1 r5.2 g4) (cwV 1 hts (lw_V q1280 q1282 qs52 q115 q1283) rfl rfl rfl (by decide +kernel) ⟨Nat.le_of_ble_eq_true rfl, Nat.le_of_ble_eq_true rfl⟩) ⟨xPc.blind, va_recv hK (xO_M hW) (ci := 13) (q0 := 0) rfl rfl, F.pre hW hS (.ref (xa E 186) :: [.int (-1000004)])⟩ rfl rfl hl.1 rfl (lv_room (Nat.le_of_ble_eq_true rfl)) dX13_undo_10 ⟨Nat.le_refl _, Nat.le_refl _⟩) hS (fun H locs hW hS => ?_)
      obtain ⟨h1, h2⟩ := Prod.mk.inj (Option.some.inj h); subst h1; subst h2
      exact x_iret F hr hlk hW hS dX13_undo_13
/-! WildBellsModel.tear()I -/
def fX13_tear (σ : xM) : Option (Int32 × xM) :=
  if (σ 24 0) = 0 then (some (0, (xup σ 24 0 0))) else (some (1, (xup σ 24 0 0)))
set_option maxHeartbeats 4000000 in
theorem mX13_tear (l : Launch) (E : xE) (σ : xM) (r : Int32) (σ' : xM) (h : fX13_tear σ = some (r, σ')) : Met l yX13_tear (ws_ yX13_tear cX13_tear 2 (some .int)) ({ frames := 0, cells := 0, slots := 0, locals := 0 } : Room) (xPc E σ [.ref (xa E 186)]) (xQc E (.returned (some (.int r))) σ') 0 0 (xA E) := by
  refine x_of (C := RX13) (n := "tear") (d := "()I") (r := (some .int)) (by decide) rfl (by first | decide | exact Nat.le_of_ble_eq_true rfl) ?_
  intro p e s m below meth c ls F hr hlk hW hS hl
  have hl : lv_has ls 2 [(0, .ref (xa E 186))] := hl
  obtain ⟨hx, hb, hml, hown, hts⟩ := id F.1
  have hK := F.2.1.1
  unfold fX13_tear at h
  refine lv_aload_n hx hb dX13_tear_0 rfl (lv_at hl 0 rfl) ?_
  refine va_get (D := xD E) (ci := 13) (v := .int (σ 24 0)) (C := RX13) (T := TX13) (N := 24) hx hb hts in_X13 hown hK (xO_M hW) 0 rfl rfl 3 (by decide) (hts _ q1199) (fun _ h9 => h9) rfl dX13_tear_1 ?_
  refine lv_if_eq (tgt := 11) hx hb dX13_tear_4 (by decide) (fun c1 => ?_) (fun c1 => ?_)
  · rw [if_pos c1] at h
    refine lv_iconst (v := 0) hx hb dX13_tear_11 (by decide) ?_
    refine lv_istore_n (lv' := [(1, .int 0), (0, .ref (xa E 186))]) hx hb dX13_tear_12 rfl hl (by decide) rfl (fun ls hl => ?_)
    refine lv_aload_n hx hb dX13_tear_13 rfl (lv_at hl 1 rfl) ?_
    refine lv_iconst (v := 0) hx hb dX13_tear_14 (by decide) ?_
    refine x_put (C := RX13) (T := TX13) (N := 24) (ci := 13) (ty := .boolean) F hW hS in_X13 tyX13 tyX13_ok nmX13 rfl 186 3 24 0 (by decide) rfl (by decide) rfl (by decide) (hts _ q1199) (fun _ h9 => h9) rfl (by decide +kernel) rfl rfl dX13_tear_15 (fun H locs hW hS => ?_)
    refine lv_iload_n hx hb dX13_tear_18 rfl (lv_at hl 0 rfl) ?_
    obtain ⟨h1, h2⟩ := Prod.mk.inj (Option.some.inj h); subst h1; subst h2
    exact x_iret F hr hlk hW hS dX13_tear_19
  · rw [if_neg c1] at h
    refine lv_iconst (v := 1) hx hb dX13_tear_7 (by decide) ?_
    refine lv_goto (tgt := 12) hx hb dX13_tear_8 (by decide) ?_
    refine lv_istore_n (lv' := [(1, .int 1), (0, .ref (xa E 186))]) hx hb dX13_tear_12 rfl hl (by decide) rfl (fun ls hl => ?_)
    refine lv_aload_n hx hb dX13_tear_13 rfl (lv_at hl 1 rfl) ?_
    refine lv_iconst (v := 0) hx hb dX13_tear_14 (by decide) ?_
    refine x_put (C := RX13) (T := TX13) (N := 24) (ci := 13) (ty := .boolean) F hW hS in_X13 tyX13 tyX13_ok nmX13 rfl 186 3 24 0 (by decide) rfl (by decide) rfl (by decide) (hts _ q1199) (fun _ h9 => h9) rfl (by decide +kernel) rfl rfl dX13_tear_15 (fun H locs hW hS => ?_)
    refine lv_iload_n hx hb dX13_tear_18 rfl (lv_at hl 0 rfl) ?_
    obtain ⟨h1, h2⟩ := Prod.mk.inj (Option.some.inj h); subst h1; subst h2
    exact x_iret F hr hlk hW hS dX13_tear_19
/-! WildBellsModel.count(I)I -/
def gX13_count_77 (σ : xM) : Nat → Int32 → Int32 → Option (Int32 × Int32)
  | 0, _, _ => none
  | n + 1, x2, x3 => if (σ 20 ((2 : Int32).toNatClampNeg)) ≤ x3 then (some (x2, x3)) else ((fX13_bellIs σ x3 3).bind (fun r14 => gX13_count_77 σ n (x2 + r14) (x3 + 1)))
def gX13_count_118 (σ : xM) : Nat → Int32 → Int32 → Option (Int32 × Int32)
  | 0, _, _ => none
  | n + 1, x2, x3 => if 10 ≤ x3 then (some (x2, x3)) else (if xin (4 + x3) 186 then (if 0 ≤ (σ 20 ((4 + x3).toNatClampNeg)) then (gX13_count_118 σ n (x2 + 1) (x3 + 1)) else (gX13_count_118 σ n (x2 + 0) (x3 + 1))) else none)
def fX13_count (σ : xM) (a1 : Int32) : Option (Int32 × xM) :=
  (if a1 = 0 then (some ((σ 20 ((0 : Int32).toNatClampNeg)), σ)) else (if a1 = 1 then (some ((σ 20 ((2 : Int32).toNatClampNeg)), σ)) else (if a1 = 2 then ((fX13_caughtNow σ).bind (fun r5 => (fX13_bits r5).bind (fun r7 => some (r7, σ)))) else (if a1 = 3 then ((fX13_nets σ).bind (fun r10 => some (r10, σ))) else (if a1 = 4 then ((gX13_count_77 σ xfu 0 0).bind (fun q16 => some (q16.1, σ))) else (if a1 = 5 then (some ((σ 24 2), σ)) else (if a1 = 6 then (some ((σ 20 ((3 : Int32).toNatClampNeg)), σ)) else (if a1 = 7 then ((gX13_count_118 σ xfu 0 0).bind (fun q24 => some (q24.1, σ))) else ((fX13_finding σ (-1000001)).bind (fun r26 => some (r26.1, r26.2)))))))))))
set_option maxHeartbeats 4000000 in
theorem lX13_count_77 {p : Program} {l : Launch} {e : Env} {s : State} {m : MethodId} {av : Array Value} {below : List Frame} {meth : Method} {c : Code} {Q : State → Prop} {E : xE} {σ : xM} {b1 : Int32} (F : xFx p m c cX13_count 4 s av RX13 E) : ∀ (n : Nat) (x2 : Int32) (x3 : Int32) (q : (Int32 × Int32)), gX13_count_77 σ n x2 x3 = some q → ∀ (H : Heap) (locs : List Loc) (ls : Array Slot), xW E σ H → va_S (xA E) s.heap H locs → lv_has ls 4 [(3, .int x3), (2, .int x2), (0, .ref (xa E 186)), (1, .int b1)] → (∀ (H : Heap) (locs : List Loc) (ls : Array Slot), xW E σ H → va_S (xA E) s.heap H locs → lv_has ls 4 [(3, .int q.2), (2, .int q.1), (0, .ref (xa E 186)), (1, .int b1)] → W p l e ({ frames := 4, cells := 0, slots := 0, locals := 86 } : Room) s m av below meth c H locs 0 0 Q (F0 m 102 ls [])) → W p l e ({ frames := 4, cells := 0, slots := 0, locals := 86 } : Room) s m av below meth c H locs 0 0 Q (F0 m 77 ls []) := by
  obtain ⟨hx, hb, hml, hown, hts⟩ := id F.1
  have hK := F.2.1.1
  intro n
  induction n with
  | zero =>
    intro x2 x3 q h
    cases h
  | succ n ih =>
    intro x2 x3 q h H locs ls hW hS hl kk
    rw [gX13_count_77] at h
    refine lv_iload_n hx hb dX13_count_77 rfl (lv_at hl 0 rfl) ?_
    refine lv_aload_n hx hb dX13_count_78 rfl (lv_at hl 2 rfl) ?_
    refine va_get (D := xD E) (ci := 13) (v := .ref (xa E 187)) (C := RX13) (T := TX13) (N := 24) hx hb hts in_X13 hown hK (xO_M hW) 0 rfl rfl 0 (by decide) (hts _ q1196) (fun _ h9 => h9) rfl dX13_count_79 ?_
    refine lv_iconst (v := 2) hx hb dX13_count_82 (by decide) ?_
    refine va_iald hx hb hK (xV_p hW xp_187) 0 0 rfl rfl (x_lit (by decide)) dX13_count_83 ?_
    refine lv_icmp_ge (tgt := 102) hx hb dX13_count_84 (by decide) (fun c12 => ?_) (fun c12 => ?_)
    · rw [if_pos c12] at h
      have h := Option.some.inj h; subst h
      exact kk _ _ _ hW hS (lv_sub hl [0, 1, 2, 3] rfl)
    · rw [if_neg c12] at h
      refine lv_iload_n hx hb dX13_count_87 rfl (lv_at hl 1 rfl) ?_
      refine lv_aload_n hx hb dX13_count_88 rfl (lv_at hl 2 rfl) ?_
      refine lv_iload_n hx hb dX13_count_89 rfl (lv_at hl 0 rfl) ?_
      refine lv_iconst (v := 3) hx hb dX13_count_90 (by decide) ?_
      cases g13 : fX13_bellIs σ x3 3 with
      | none => rw [g13] at h; cases h
      | some r14 =>
        rw [g13, Option.bind_some] at h
        refine x_backi (va_runV (C := RX13) (b := (xa E 186)) (As := [.int x3, .int 3]) (rest := [.int x2]) F.1 (mX13_bellIs l E σ x3 3 r14 g13) (cwV 2 hts (lw_V q1326 q1328 qs56 q115 q1329) rfl rfl rfl (by decide +kernel) ⟨Nat.le_of_ble_eq_true rfl, Nat.le_of_ble_eq_true rfl⟩) ⟨xPc.blind, va_recv hK (xO_M hW) (ci := 13) (q0 := 0) rfl rfl, F.pre hW hS (.ref (xa E 186) :: [.int x3, .int 3])⟩ rfl rfl hl.1 rfl (lv_room (Nat.le_of_ble_eq_true rfl)) dX13_count_91 ⟨Nat.le_refl _, Nat.le_refl _⟩) hS (fun H locs hW hS => ?_)
        refine lv_iadd hx hb dX13_count_94 ?_
        refine lv_istore_n (lv' := [(2, .int (x2 + r14)), (3, .int x3), (0, .ref (xa E 186)), (1, .int b1)]) hx hb dX13_count_95 rfl hl (by decide) rfl (fun ls hl => ?_)
        refine lv_iinc (k := 1) (v := (x3 + 1)) (lv' := [(3, .int (x3 + 1)), (2, .int (x2 + r14)), (0, .ref (xa E 186)), (1, .int b1)]) hx hb dX13_count_96 hl rfl rfl (by decide) rfl (fun ls hl => ?_)
        refine lv_goto (tgt := 77) hx hb dX13_count_99 (by decide) ?_
        exact ih (x2 + r14) (x3 + 1) _ h _ _ _ hW hS (lv_sub hl [0, 1, 2, 3] rfl) kk
set_option maxHeartbeats 4000000 in
theorem lX13_count_118 {p : Program} {l : Launch} {e : Env} {s : State} {m : MethodId} {av : Array Value} {below : List Frame} {meth : Method} {c : Code} {Q : State → Prop} {E : xE} {σ : xM} {b1 : Int32} (F : xFx p m c cX13_count 4 s av RX13 E) : ∀ (n : Nat) (x2 : Int32) (x3 : Int32) (q : (Int32 × Int32)), gX13_count_118 σ n x2 x3 = some q → ∀ (H : Heap) (locs : List Loc) (ls : Array Slot), xW E σ H → va_S (xA E) s.heap H locs → lv_has ls 4 [(3, .int x3), (2, .int x2), (0, .ref (xa E 186)), (1, .int b1)] → (∀ (H : Heap) (locs : List Loc) (ls : Array Slot), xW E σ H → va_S (xA E) s.heap H locs → lv_has ls 4 [(3, .int q.2), (2, .int q.1), (0, .ref (xa E 186)), (1, .int b1)] → W p l e ({ frames := 4, cells := 0, slots := 0, locals := 86 } : Room) s m av below meth c H locs 0 0 Q (F0 m 149 ls [])) → W p l e ({ frames := 4, cells := 0, slots := 0, locals := 86 } : Room) s m av below meth c H locs 0 0 Q (F0 m 118 ls []) := by
  obtain ⟨hx, hb, hml, hown, hts⟩ := id F.1
  have hK := F.2.1.1
  intro n
  induction n with
  | zero =>
    intro x2 x3 q h
    cases h
  | succ n ih =>
    intro x2 x3 q h H locs ls hW hS hl kk
    rw [gX13_count_118] at h
    refine lv_iload_n hx hb dX13_count_118 rfl (lv_at hl 0 rfl) ?_
    refine lv_bipush (v := 10) hx hb dX13_count_119 (by decide) ?_
    refine lv_icmp_ge (tgt := 149) hx hb dX13_count_121 (by decide) (fun c20 => ?_) (fun c20 => ?_)
    · rw [if_pos c20] at h
      have h := Option.some.inj h; subst h
      exact kk _ _ _ hW hS (lv_sub hl [0, 1, 2, 3] rfl)
    · rw [if_neg c20] at h
      refine lv_iload_n hx hb dX13_count_124 rfl (lv_at hl 1 rfl) ?_
      refine lv_aload_n hx hb dX13_count_125 rfl (lv_at hl 2 rfl) ?_
      refine va_get (D := xD E) (ci := 13) (v := .ref (xa E 187)) (C := RX13) (T := TX13) (N := 24) hx hb hts in_X13 hown hK (xO_M hW) 0 rfl rfl 0 (by decide) (hts _ q1196) (fun _ h9 => h9) rfl dX13_count_126 ?_
      refine lv_iconst (v := 4) hx hb dX13_count_129 (by decide) ?_
      refine lv_iload_n hx hb dX13_count_130 rfl (lv_at hl 0 rfl) ?_
      refine lv_iadd hx hb dX13_count_131 ?_
      by_cases hi21 : xin (4 + x3) 186
      · rw [if_pos hi21] at h
        refine va_iald hx hb hK (xV_p hW xp_187) 0 0 rfl rfl hi21 dX13_count_132 ?_
        refine lv_if_ge (tgt := 140) hx hb dX13_count_133 (by decide) (fun c22 => ?_) (fun c22 => ?_)
        · rw [if_pos c22] at h
          refine lv_iconst (v := 1) hx hb dX13_count_140 (by decide) ?_
          refine lv_iadd hx hb dX13_count_141 ?_
          refine lv_istore_n (lv' := [(2, .int (x2 + 1)), (3, .int x3), (0, .ref (xa E 186)), (1, .int b1)]) hx hb dX13_count_142 rfl hl (by decide) rfl (fun ls hl => ?_)
          refine lv_iinc (k := 1) (v := (x3 + 1)) (lv' := [(3, .int (x3 + 1)), (2, .int (x2 + 1)), (0, .ref (xa E 186)), (1, .int b1)]) hx hb dX13_count_143 hl rfl rfl (by decide) rfl (fun ls hl => ?_)
          refine lv_goto (tgt := 118) hx hb dX13_count_146 (by decide) ?_
          exact ih (x2 + 1) (x3 + 1) _ h _ _ _ hW hS (lv_sub hl [0, 1, 2, 3] rfl) kk
        · rw [if_neg c22] at h
          refine lv_iconst (v := 0) hx hb dX13_count_136 (by decide) ?_
          refine lv_goto (tgt := 141) hx hb dX13_count_137 (by decide) ?_
          refine lv_iadd hx hb dX13_count_141 ?_
          refine lv_istore_n (lv' := [(2, .int (x2 + 0)), (3, .int x3), (0, .ref (xa E 186)), (1, .int b1)]) hx hb dX13_count_142 rfl hl (by decide) rfl (fun ls hl => ?_)
          refine lv_iinc (k := 1) (v := (x3 + 1)) (lv' := [(3, .int (x3 + 1)), (2, .int (x2 + 0)), (0, .ref (xa E 186)), (1, .int b1)]) hx hb dX13_count_143 hl rfl rfl (by decide) rfl (fun ls hl => ?_)
          refine lv_goto (tgt := 118) hx hb dX13_count_146 (by decide) ?_
          exact ih (x2 + 0) (x3 + 1) _ h _ _ _ hW hS (lv_sub hl [0, 1, 2, 3] rfl) kk
      · rw [if_neg hi21] at h; cases h
set_option maxHeartbeats 4000000 in
theorem mX13_count (l : Launch) (E : xE) (σ : xM) (a1 : Int32) (r : Int32) (σ' : xM) (h : fX13_count σ a1 = some (r, σ')) : Met l yX13_count (ws_ yX13_count cX13_count 4 (some .int)) ({ frames := 4, cells := 0, slots := 0, locals := 86 } : Room) (xPc E σ [.ref (xa E 186), .int a1]) (xQc E (.returned (some (.int r))) σ') 0 0 (xA E) := by
  refine x_of (C := RX13) (n := "count") (d := "(I)I") (r := (some .int)) (by decide) rfl (by first | decide | exact Nat.le_of_ble_eq_true rfl) ?_
  intro p e s m below meth c ls F hr hlk hW hS hl
  have hl : lv_has ls 4 [(0, .ref (xa E 186)), (1, .int a1)] := hl
  obtain ⟨hx, hb, hml, hown, hts⟩ := id F.1
  have hK := F.2.1.1
  unfold fX13_count at h
  refine lv_iconst (v := 0) hx hb dX13_count_0 (by decide) ?_
  refine lv_istore_n (lv' := [(2, .int 0), (0, .ref (xa E 186)), (1, .int a1)]) hx hb dX13_count_1 rfl hl (by decide) rfl (fun ls hl => ?_)
  refine lv_iload_n hx hb dX13_count_2 rfl (lv_at hl 2 rfl) ?_
  by_cases c1 : a1 = 0
  · rw [if_pos c1] at h
    refine lv_tableIn (tgt := 48) hx hb dX13_count_3 (by rw [c1]; decide) (by rw [c1]; decide) (by rw [c1]; rfl) (by decide) ?_
    refine lv_aload_n hx hb dX13_count_48 rfl (lv_at hl 1 rfl) ?_
    refine va_get (D := xD E) (ci := 13) (v := .ref (xa E 187)) (C := RX13) (T := TX13) (N := 24) hx hb hts in_X13 hown hK (xO_M hW) 0 rfl rfl 0 (by decide) (hts _ q1196) (fun _ h9 => h9) rfl dX13_count_49 ?_
    refine lv_iconst (v := 0) hx hb dX13_count_52 (by decide) ?_
    refine va_iald hx hb hK (xV_p hW xp_187) 0 0 rfl rfl (x_lit (by decide)) dX13_count_53 ?_
    obtain ⟨h1, h2⟩ := Prod.mk.inj (Option.some.inj h); subst h1; subst h2
    exact x_iret F hr hlk hW hS dX13_count_54
  · rw [if_neg c1] at h
    by_cases c2 : a1 = 1
    · rw [if_pos c2] at h
      refine lv_tableIn (tgt := 55) hx hb dX13_count_3 (by rw [c2]; decide) (by rw [c2]; decide) (by rw [c2]; rfl) (by decide) ?_
      refine lv_aload_n hx hb dX13_count_55 rfl (lv_at hl 1 rfl) ?_
      refine va_get (D := xD E) (ci := 13) (v := .ref (xa E 187)) (C := RX13) (T := TX13) (N := 24) hx hb hts in_X13 hown hK (xO_M hW) 0 rfl rfl 0 (by decide) (hts _ q1196) (fun _ h9 => h9) rfl dX13_count_56 ?_
      refine lv_iconst (v := 2) hx hb dX13_count_59 (by decide) ?_
      refine va_iald hx hb hK (xV_p hW xp_187) 0 0 rfl rfl (x_lit (by decide)) dX13_count_60 ?_
      obtain ⟨h1, h2⟩ := Prod.mk.inj (Option.some.inj h); subst h1; subst h2
      exact x_iret F hr hlk hW hS dX13_count_61
    · rw [if_neg c2] at h
      by_cases c3 : a1 = 2
      · rw [if_pos c3] at h
        refine lv_tableIn (tgt := 62) hx hb dX13_count_3 (by rw [c3]; decide) (by rw [c3]; decide) (by rw [c3]; rfl) (by decide) ?_
        refine lv_aload_n hx hb dX13_count_62 rfl (lv_at hl 1 rfl) ?_
        cases g4 : fX13_caughtNow σ with
        | none => rw [g4] at h; cases h
        | some r5 =>
          rw [g4, Option.bind_some] at h
          refine x_backi (va_runV (C := RX13) (b := (xa E 186)) (As := []) (rest := []) F.1 (mX13_caughtNow l E σ r5 g4) (cwV 0 hts (lw_V q1411 q1413 qs69 q115 q1414) rfl rfl rfl (by decide +kernel) ⟨Nat.le_of_ble_eq_true rfl, Nat.le_of_ble_eq_true rfl⟩) ⟨xPc.blind, va_recv hK (xO_M hW) (ci := 13) (q0 := 0) rfl rfl, F.pre hW hS (.ref (xa E 186) :: [])⟩ rfl rfl hl.1 rfl (lv_room (Nat.le_of_ble_eq_true rfl)) dX13_count_63 ⟨Nat.le_refl _, Nat.le_refl _⟩) hS (fun H locs hW hS => ?_)
          cases g6 : fX13_bits r5 with
          | none => rw [g6] at h; cases h
          | some r7 =>
            rw [g6, Option.bind_some] at h
            refine x_backi (va_runS (As := [.int r5]) (rest := []) F.1 (mX13_bits l E σ r5 r7 g6) (va_cwS 1 hts (lw_S q1415 q1416 q115 q1417) rfl rfl rfl (by decide +kernel) ⟨Nat.le_of_ble_eq_true rfl, Nat.le_of_ble_eq_true rfl⟩) ⟨xPc.blind, F.pre hW hS [.int r5]⟩ rfl rfl hl.1 rfl (lv_room (Nat.le_of_ble_eq_true rfl)) dX13_count_66 ⟨Nat.le_refl _, Nat.le_refl _⟩) hS (fun H locs hW hS => ?_)
            obtain ⟨h1, h2⟩ := Prod.mk.inj (Option.some.inj h); subst h1; subst h2
            exact x_iret F hr hlk hW hS dX13_count_69
      · rw [if_neg c3] at h
        by_cases c8 : a1 = 3
        · rw [if_pos c8] at h
          refine lv_tableIn (tgt := 70) hx hb dX13_count_3 (by rw [c8]; decide) (by rw [c8]; decide) (by rw [c8]; rfl) (by decide) ?_
          refine lv_aload_n hx hb dX13_count_70 rfl (lv_at hl 1 rfl) ?_
          cases g9 : fX13_nets σ with
          | none => rw [g9] at h; cases h
          | some r10 =>
            rw [g9, Option.bind_some] at h
            refine x_backi (va_runV (C := RX13) (b := (xa E 186)) (As := []) (rest := []) F.1 (mX13_nets l E σ r10 g9) (cwV 0 hts (lw_V q1422 q1424 qs70 q115 q1425) rfl rfl rfl (by decide +kernel) ⟨Nat.le_of_ble_eq_true rfl, Nat.le_of_ble_eq_true rfl⟩) ⟨xPc.blind, va_recv hK (xO_M hW) (ci := 13) (q0 := 0) rfl rfl, F.pre hW hS (.ref (xa E 186) :: [])⟩ rfl rfl hl.1 rfl (lv_room (Nat.le_of_ble_eq_true rfl)) dX13_count_71 ⟨Nat.le_refl _, Nat.le_refl _⟩) hS (fun H locs hW hS => ?_)
            obtain ⟨h1, h2⟩ := Prod.mk.inj (Option.some.inj h); subst h1; subst h2
            exact x_iret F hr hlk hW hS dX13_count_74
        · rw [if_neg c8] at h
          by_cases c11 : a1 = 4
          · rw [if_pos c11] at h
            refine lv_tableIn (tgt := 75) hx hb dX13_count_3 (by rw [c11]; decide) (by rw [c11]; decide) (by rw [c11]; rfl) (by decide) ?_
            refine lv_iconst (v := 0) hx hb dX13_count_75 (by decide) ?_
            refine lv_istore_n (lv' := [(3, .int 0), (2, .int 0), (0, .ref (xa E 186)), (1, .int a1)]) hx hb dX13_count_76 rfl hl (by decide) rfl (fun ls hl => ?_)
            cases g15 : gX13_count_77 σ xfu 0 0 with
            | none => rw [g15] at h; cases h
            | some q16 =>
              rw [g15, Option.bind_some] at h
              refine lX13_count_77 F xfu 0 0 q16 g15 _ _ _ hW hS (lv_sub hl [0, 1, 2, 3] rfl) (fun H locs ls hW hS hl => ?_)
              refine lv_iload_n hx hb dX13_count_102 rfl (lv_at hl 1 rfl) ?_
              obtain ⟨h1, h2⟩ := Prod.mk.inj (Option.some.inj h); subst h1; subst h2
              exact x_iret F hr hlk hW hS dX13_count_103
          · rw [if_neg c11] at h
            by_cases c17 : a1 = 5
            · rw [if_pos c17] at h
              refine lv_tableIn (tgt := 104) hx hb dX13_count_3 (by rw [c17]; decide) (by rw [c17]; decide) (by rw [c17]; rfl) (by decide) ?_
              refine lv_aload_n hx hb dX13_count_104 rfl (lv_at hl 1 rfl) ?_
              refine va_get (D := xD E) (ci := 13) (v := .int (σ 24 2)) (C := RX13) (T := TX13) (N := 24) hx hb hts in_X13 hown hK (xO_M hW) 0 rfl rfl 10 (by decide) (hts _ q1206) (fun _ h9 => h9) rfl dX13_count_105 ?_
              obtain ⟨h1, h2⟩ := Prod.mk.inj (Option.some.inj h); subst h1; subst h2
              exact x_iret F hr hlk hW hS dX13_count_108
            · rw [if_neg c17] at h
              by_cases c18 : a1 = 6
              · rw [if_pos c18] at h
                refine lv_tableIn (tgt := 109) hx hb dX13_count_3 (by rw [c18]; decide) (by rw [c18]; decide) (by rw [c18]; rfl) (by decide) ?_
                refine lv_aload_n hx hb dX13_count_109 rfl (lv_at hl 1 rfl) ?_
                refine va_get (D := xD E) (ci := 13) (v := .ref (xa E 187)) (C := RX13) (T := TX13) (N := 24) hx hb hts in_X13 hown hK (xO_M hW) 0 rfl rfl 0 (by decide) (hts _ q1196) (fun _ h9 => h9) rfl dX13_count_110 ?_
                refine lv_iconst (v := 3) hx hb dX13_count_113 (by decide) ?_
                refine va_iald hx hb hK (xV_p hW xp_187) 0 0 rfl rfl (x_lit (by decide)) dX13_count_114 ?_
                obtain ⟨h1, h2⟩ := Prod.mk.inj (Option.some.inj h); subst h1; subst h2
                exact x_iret F hr hlk hW hS dX13_count_115
              · rw [if_neg c18] at h
                by_cases c19 : a1 = 7
                · rw [if_pos c19] at h
                  refine lv_tableIn (tgt := 116) hx hb dX13_count_3 (by rw [c19]; decide) (by rw [c19]; decide) (by rw [c19]; rfl) (by decide) ?_
                  refine lv_iconst (v := 0) hx hb dX13_count_116 (by decide) ?_
                  refine lv_istore_n (lv' := [(3, .int 0), (2, .int 0), (0, .ref (xa E 186)), (1, .int a1)]) hx hb dX13_count_117 rfl hl (by decide) rfl (fun ls hl => ?_)
                  cases g23 : gX13_count_118 σ xfu 0 0 with
                  | none => rw [g23] at h; cases h
                  | some q24 =>
                    rw [g23, Option.bind_some] at h
                    refine lX13_count_118 F xfu 0 0 q24 g23 _ _ _ hW hS (lv_sub hl [0, 1, 2, 3] rfl) (fun H locs ls hW hS hl => ?_)
                    refine lv_iload_n hx hb dX13_count_149 rfl (lv_at hl 1 rfl) ?_
                    obtain ⟨h1, h2⟩ := Prod.mk.inj (Option.some.inj h); subst h1; subst h2
                    exact x_iret F hr hlk hW hS dX13_count_150
                · rw [if_neg c19] at h
                  refine lv_tableOut (tgt := 151) hx hb dX13_count_3 (by have := lv_neT (a := 0) c1 rfl; have := lv_neT (a := 1) c2 rfl; have := lv_neT (a := 2) c3 rfl; have := lv_neT (a := 3) c8 rfl; have := lv_neT (a := 4) c11 rfl; have := lv_neT (a := 5) c17 rfl; have := lv_neT (a := 6) c18 rfl; have := lv_neT (a := 7) c19 rfl; omega) (by decide) ?_
                  refine lv_aload_n hx hb dX13_count_151 rfl (lv_at hl 1 rfl) ?_
                  refine lv_ldc (v := (-1000001)) hx hb hown (hts _ q1279) dX13_count_152 ?_
                  cases g25 : fX13_finding σ (-1000001) with
                  | none => rw [g25] at h; cases h
                  | some r26 =>
                    rw [g25, Option.bind_some] at h
                    refine x_backi (va_runV (C := RX13) (b := (xa E 186)) (As := [.int (-1000001)]) (rest := []) F.1 (mX13_finding l E σ (-1000001) r26.1 r26.2 g25) (cwV 1 hts (lw_V q1280 q1282 qs52 q115 q1283) rfl rfl rfl (by decide +kernel) ⟨Nat.le_of_ble_eq_true rfl, Nat.le_of_ble_eq_true rfl⟩) ⟨xPc.blind, va_recv hK (xO_M hW) (ci := 13) (q0 := 0) rfl rfl, F.pre hW hS (.ref (xa E 186) :: [.int (-1000001)])⟩ rfl rfl hl.1 rfl (lv_room (Nat.le_of_ble_eq_true rfl)) dX13_count_154 ⟨Nat.le_refl _, Nat.le_refl _⟩) hS (fun H locs hW hS => ?_)
                    obtain ⟨h1, h2⟩ := Prod.mk.inj (Option.some.inj h); subst h1; subst h2
                    exact x_iret F hr hlk hW hS dX13_count_157
/-! WildBellsModel.status(I)I -/
def fX13_status (σ : xM) (a1 : Int32) : Option (Int32 × xM) :=
  if (fX13_within a1 (-1) 6) = 0 then ((fX13_finding σ (-1000001)).bind (fun r3 => some (r3.1, r3.2))) else (if xin (a1 + 1) 8 then (some ((σ 23 ((a1 + 1).toNatClampNeg)), σ)) else none)
set_option maxHeartbeats 4000000 in
theorem mX13_status (l : Launch) (E : xE) (σ : xM) (a1 : Int32) (r : Int32) (σ' : xM) (h : fX13_status σ a1 = some (r, σ')) : Met l yX13_status (ws_ yX13_status cX13_status 2 (some .int)) ({ frames := 1, cells := 0, slots := 0, locals := 22 } : Room) (xPc E σ [.ref (xa E 186), .int a1]) (xQc E (.returned (some (.int r))) σ') 0 0 (xA E) := by
  refine x_of (C := RX13) (n := "status") (d := "(I)I") (r := (some .int)) (by decide) rfl (by first | decide | exact Nat.le_of_ble_eq_true rfl) ?_
  intro p e s m below meth c ls F hr hlk hW hS hl
  have hl : lv_has ls 2 [(0, .ref (xa E 186)), (1, .int a1)] := hl
  obtain ⟨hx, hb, hml, hown, hts⟩ := id F.1
  have hK := F.2.1.1
  unfold fX13_status at h
  refine lv_iload_n hx hb dX13_status_0 rfl (lv_at hl 1 rfl) ?_
  refine lv_iconst (v := (-1)) hx hb dX13_status_1 (by decide) ?_
  refine lv_bipush (v := 6) hx hb dX13_status_2 (by decide) ?_
  refine x_backi (va_runS (As := [.int a1, .int (-1), .int 6]) (rest := []) F.1 (mX13_within l E σ a1 (-1) 6) (va_cwS 3 hts (lw_S q1276 q1277 q115 q1278) rfl rfl rfl (by decide +kernel) ⟨Nat.le_of_ble_eq_true rfl, Nat.le_of_ble_eq_true rfl⟩) ⟨xPc.blind, F.pre hW hS [.int a1, .int (-1), .int 6]⟩ rfl rfl hl.1 rfl (lv_room (Nat.le_of_ble_eq_true rfl)) dX13_status_4 ⟨Nat.le_refl _, Nat.le_refl _⟩) hS (fun H locs hW hS => ?_)
  refine lv_if_eq (tgt := 21) hx hb dX13_status_7 (by decide) (fun c1 => ?_) (fun c1 => ?_)
  · rw [if_pos c1] at h
    refine lv_aload_n hx hb dX13_status_21 rfl (lv_at hl 0 rfl) ?_
    refine lv_ldc (v := (-1000001)) hx hb hown (hts _ q1279) dX13_status_22 ?_
    cases g2 : fX13_finding σ (-1000001) with
    | none => rw [g2] at h; cases h
    | some r3 =>
      rw [g2, Option.bind_some] at h
      refine x_backi (va_runV (C := RX13) (b := (xa E 186)) (As := [.int (-1000001)]) (rest := []) F.1 (mX13_finding l E σ (-1000001) r3.1 r3.2 g2) (cwV 1 hts (lw_V q1280 q1282 qs52 q115 q1283) rfl rfl rfl (by decide +kernel) ⟨Nat.le_of_ble_eq_true rfl, Nat.le_of_ble_eq_true rfl⟩) ⟨xPc.blind, va_recv hK (xO_M hW) (ci := 13) (q0 := 0) rfl rfl, F.pre hW hS (.ref (xa E 186) :: [.int (-1000001)])⟩ rfl rfl hl.1 rfl (lv_room (Nat.le_of_ble_eq_true rfl)) dX13_status_24 ⟨Nat.le_refl _, Nat.le_refl _⟩) hS (fun H locs hW hS => ?_)
      obtain ⟨h1, h2⟩ := Prod.mk.inj (Option.some.inj h); subst h1; subst h2
      exact x_iret F hr hlk hW hS dX13_status_27
  · rw [if_neg c1] at h
    refine lv_aload_n hx hb dX13_status_10 rfl (lv_at hl 0 rfl) ?_
    refine va_get (D := xD E) (ci := 13) (v := .ref (xa E 190)) (C := RX13) (T := TX13) (N := 24) hx hb hts in_X13 hown hK (xO_M hW) 0 rfl rfl 4 (by decide) (hts _ q1200) (fun _ h9 => h9) rfl dX13_status_11 ?_
    refine lv_iload_n hx hb dX13_status_14 rfl (lv_at hl 1 rfl) ?_
    refine lv_iconst (v := 1) hx hb dX13_status_15 (by decide) ?_
    refine lv_iadd hx hb dX13_status_16 ?_
    by_cases hi4 : xin (a1 + 1) 8
    · rw [if_pos hi4] at h
      refine va_iald hx hb hK (xV_p hW xp_190) 0 0 rfl rfl hi4 dX13_status_17 ?_
      refine lv_goto (tgt := 27) hx hb dX13_status_18 (by decide) ?_
      obtain ⟨h1, h2⟩ := Prod.mk.inj (Option.some.inj h); subst h1; subst h2
      exact x_iret F hr hlk hW hS dX13_status_27
    · rw [if_neg hi4] at h; cases h
