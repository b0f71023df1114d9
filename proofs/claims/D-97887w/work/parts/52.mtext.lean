set_option maxRecDepth 100000
/-! WildBellsModel.isWord(Ljava/lang/String;)Z -/
def gX13_isWord_32 (σ : xM) (i : Nat) : Nat → Int32 → Int32 → Option (Int32 × Int32)
  | 0, _, _ => none
  | n + 1, x2, x3 => if (fJ5_length i) ≤ x3 then (some (x2, x3)) else (if x2 = 0 then (some (x2, x3)) else (if xin ((σ 24 3) + x3) 120 then ((fJ5_charAt i x3).bind (fun r6 => if (σ 26 (((σ 24 3) + x3).toNatClampNeg)) = r6 then (gX13_isWord_32 σ i n 1 (x3 + 1)) else (gX13_isWord_32 σ i n 0 (x3 + 1)))) else none))
def fX13_isWord (σ : xM) (i : Nat) : Option Int32 :=
  if (σ 24 5) = 1 then (if ((σ 24 4) - (σ 24 3)) = (fJ5_length i) then ((gX13_isWord_32 σ i xfu 1 0).bind (fun q16 => if q16.1 = 0 ∨ q16.1 = 1 then (some q16.1) else none)) else ((gX13_isWord_32 σ i xfu 0 0).bind (fun q13 => if q13.1 = 0 ∨ q13.1 = 1 then (some q13.1) else none))) else ((gX13_isWord_32 σ i xfu 0 0).bind (fun q9 => if q9.1 = 0 ∨ q9.1 = 1 then (some q9.1) else none))
set_option maxHeartbeats 4000000 in
theorem lX13_isWord_32 {p : Program} {l : Launch} {e : Env} {s : State} {m : MethodId} {av : Array Value} {below : List Frame} {meth : Method} {c : Code} {Q : State → Prop} {E : xE} {σ : xM} {i : Nat} (hi : i < 15) (F : xFx p m c cX13_isWord 4 s av RX13 E) : ∀ (n : Nat) (x2 : Int32) (x3 : Int32) (q : (Int32 × Int32)), gX13_isWord_32 σ i n x2 x3 = some q → ∀ (H : Heap) (locs : List Loc) (ls : Array Slot), xW E σ H → va_S (xA E) s.heap H locs → lv_has ls 4 [(3, .int x3), (2, .int x2), (0, .ref (xa E 186)), (1, .ref (xks E i))] → (∀ (H : Heap) (locs : List Loc) (ls : Array Slot), xW E σ H → va_S (xA E) s.heap H locs → lv_has ls 4 [(3, .int q.2), (2, .int q.1), (0, .ref (xa E 186)), (1, .ref (xks E i))] → W p l e ({ frames := 4, cells := 0, slots := 0, locals := 85 } : Room) s m av below meth c H locs 0 0 Q (F0 m 75 ls [])) → W p l e ({ frames := 4, cells := 0, slots := 0, locals := 85 } : Room) s m av below meth c H locs 0 0 Q (F0 m 32 ls []) := by
  obtain ⟨hx, hb, hml, hown, hts⟩ := id F.1
  have hK := F.2.1.1
  intro n
  induction n with
  | zero =>
    intro x2 x3 q h
    cases h
  | succ n ih =>
    intro x2 x3 q h H locs ls hW hS hl kk
    rw [gX13_isWord_32] at h
    refine lv_iload_n hx hb dX13_isWord_32 rfl (lv_at hl 0 rfl) ?_
    refine lv_aload_n hx hb dX13_isWord_33 rfl (lv_at hl 3 rfl) ?_
    refine x_backi (va_runV (C := RJ5) (b := (xks E i)) (As := []) (rest := [.int x3]) F.1 (mJ5_length l E σ i hi) (cwV 0 hts (lw_V q1636 q1637 q1638 q119 q1639) rfl rfl rfl (by decide +kernel) ⟨Nat.le_of_ble_eq_true rfl, Nat.le_of_ble_eq_true rfl⟩) ⟨xPc.blind, vk_recv F.2.2.1 hi hS, F.pre hW hS (.ref (xks E i) :: [])⟩ rfl rfl hl.1 rfl (lv_room (Nat.le_of_ble_eq_true rfl)) dX13_isWord_34 ⟨Nat.le_refl _, Nat.le_refl _⟩) hS (fun H locs hW hS => ?_)
    refine lv_icmp_ge (tgt := 75) hx hb dX13_isWord_37 (by decide) (fun c2 => ?_) (fun c2 => ?_)
    · rw [if_pos c2] at h
      have h := Option.some.inj h; subst h
      exact kk _ _ _ hW hS (lv_sub hl [0, 1, 2, 3] rfl)
    · rw [if_neg c2] at h
      refine lv_iload_n hx hb dX13_isWord_40 rfl (lv_at hl 1 rfl) ?_
      refine lv_if_eq (tgt := 75) hx hb dX13_isWord_41 (by decide) (fun c3 => ?_) (fun c3 => ?_)
      · rw [if_pos c3] at h
        have h := Option.some.inj h; subst h
        exact kk _ _ _ hW hS (lv_sub hl [0, 1, 2, 3] rfl)
      · rw [if_neg c3] at h
        refine lv_aload_n hx hb dX13_isWord_44 rfl (lv_at hl 2 rfl) ?_
        refine va_get (D := xD E) (ci := 13) (v := .ref (xa E 194)) (C := RX13) (T := TX13) (N := 24) hx hb hts in_X13 hown hK (xO_M hW) 0 rfl rfl 9 (by decide) (hts _ q1205) (fun _ h9 => h9) rfl dX13_isWord_45 ?_
        refine lv_aload_n hx hb dX13_isWord_48 rfl (lv_at hl 2 rfl) ?_
        refine va_get (D := xD E) (ci := 13) (v := .int (σ 24 3)) (C := RX13) (T := TX13) (N := 24) hx hb hts in_X13 hown hK (xO_M hW) 0 rfl rfl 11 (by decide) (hts _ q1207) (fun _ h9 => h9) rfl dX13_isWord_49 ?_
        refine lv_iload_n hx hb dX13_isWord_52 rfl (lv_at hl 0 rfl) ?_
        refine lv_iadd hx hb dX13_isWord_53 ?_
        by_cases hi4 : xin ((σ 24 3) + x3) 120
        · rw [if_pos hi4] at h
          refine va_iald hx hb hK (xV_p hW xp_194) 0 0 rfl rfl hi4 dX13_isWord_54 ?_
          refine lv_aload_n hx hb dX13_isWord_55 rfl (lv_at hl 3 rfl) ?_
          refine lv_iload_n hx hb dX13_isWord_56 rfl (lv_at hl 0 rfl) ?_
          cases g5 : fJ5_charAt i x3 with
          | none => rw [g5] at h; cases h
          | some r6 =>
            rw [g5, Option.bind_some] at h
            refine x_backi (va_runV (C := RJ5) (b := (xks E i)) (As := [.int x3]) (rest := [.int (σ 26 (((σ 24 3) + x3).toNatClampNeg))]) F.1 (mJ5_charAt l E σ i hi x3 r6 g5) (cwV 1 hts (lw_V q1644 q1017 q1018 q119 q1019) rfl rfl rfl (by decide +kernel) ⟨Nat.le_of_ble_eq_true rfl, Nat.le_of_ble_eq_true rfl⟩) ⟨xPc.blind, vk_recv F.2.2.1 hi hS, F.pre hW hS (.ref (xks E i) :: [.int x3])⟩ rfl rfl hl.1 rfl (lv_room (Nat.le_of_ble_eq_true rfl)) dX13_isWord_57 ⟨Nat.le_refl _, Nat.le_refl _⟩) hS (fun H locs hW hS => ?_)
            refine lv_icmp_ne (tgt := 67) hx hb dX13_isWord_60 (by decide) (fun c7 => ?_) (fun c7 => ?_)
            · rw [if_neg c7] at h
              refine lv_iconst (v := 0) hx hb dX13_isWord_67 (by decide) ?_
              refine lv_istore_n (lv' := [(2, .int 0), (3, .int x3), (0, .ref (xa E 186)), (1, .ref (xks E i))]) hx hb dX13_isWord_68 rfl hl (by decide) rfl (fun ls hl => ?_)
              refine lv_iinc (k := 1) (v := (x3 + 1)) (lv' := [(3, .int (x3 + 1)), (2, .int 0), (0, .ref (xa E 186)), (1, .ref (xks E i))]) hx hb dX13_isWord_69 hl rfl rfl (by decide) rfl (fun ls hl => ?_)
              refine lv_goto (tgt := 32) hx hb dX13_isWord_72 (by decide) ?_
              exact ih 0 (x3 + 1) _ h _ _ _ hW hS (lv_sub hl [0, 1, 2, 3] rfl) kk
            · rw [if_pos c7] at h
              refine lv_iconst (v := 1) hx hb dX13_isWord_63 (by decide) ?_
              refine lv_goto (tgt := 68) hx hb dX13_isWord_64 (by decide) ?_
              refine lv_istore_n (lv' := [(2, .int 1), (3, .int x3), (0, .ref (xa E 186)), (1, .ref (xks E i))]) hx hb dX13_isWord_68 rfl hl (by decide) rfl (fun ls hl => ?_)
              refine lv_iinc (k := 1) (v := (x3 + 1)) (lv' := [(3, .int (x3 + 1)), (2, .int 1), (0, .ref (xa E 186)), (1, .ref (xks E i))]) hx hb dX13_isWord_69 hl rfl rfl (by decide) rfl (fun ls hl => ?_)
              refine lv_goto (tgt := 32) hx hb dX13_isWord_72 (by decide) ?_
              exact ih 1 (x3 + 1) _ h _ _ _ hW hS (lv_sub hl [0, 1, 2, 3] rfl) kk
        · rw [if_neg hi4] at h; cases h
set_option maxHeartbeats 4000000 in
theorem mX13_isWord (l : Launch) (E : xE) (σ : xM) (i : Nat) (hi : i < 15) (r : Int32) (h : fX13_isWord σ i = some r) : Met l yX13_isWord (ws_ yX13_isWord cX13_isWord 4 (some .boolean)) ({ frames := 4, cells := 0, slots := 0, locals := 85 } : Room) (xPc E σ [.ref (xa E 186), .ref (xks E i)]) (xQc E (.returned (some (.int r))) σ) 0 0 (xA E) := by
  refine x_of (C := RX13) (n := "isWord") (d := "(Ljava/lang/String;)Z") (r := (some .boolean)) (by decide) rfl (by first | decide | exact Nat.le_of_ble_eq_true rfl) ?_
  intro p e s m below meth c ls F hr hlk hW hS hl
  have hl : lv_has ls 4 [(0, .ref (xa E 186)), (1, .ref (xks E i))] := hl
  obtain ⟨hx, hb, hml, hown, hts⟩ := id F.1
  have hK := F.2.1.1
  unfold fX13_isWord at h
  refine lv_aload_n hx hb dX13_isWord_0 rfl (lv_at hl 0 rfl) ?_
  refine va_get (D := xD E) (ci := 13) (v := .int (σ 24 5)) (C := RX13) (T := TX13) (N := 24) hx hb hts in_X13 hown hK (xO_M hW) 0 rfl rfl 13 (by decide) (hts _ q1209) (fun _ h9 => h9) rfl dX13_isWord_1 ?_
  refine lv_iconst (v := 1) hx hb dX13_isWord_4 (by decide) ?_
  refine lv_icmp_ne (tgt := 28) hx hb dX13_isWord_5 (by decide) (fun c1 => ?_) (fun c1 => ?_)
  · rw [if_neg c1] at h
    refine lv_iconst (v := 0) hx hb dX13_isWord_28 (by decide) ?_
    refine lv_istore_n (lv' := [(2, .int 0), (0, .ref (xa E 186)), (1, .ref (xks E i))]) hx hb dX13_isWord_29 rfl hl (by decide) rfl (fun ls hl => ?_)
    refine lv_iconst (v := 0) hx hb dX13_isWord_30 (by decide) ?_
    refine lv_istore_n (lv' := [(3, .int 0), (2, .int 0), (0, .ref (xa E 186)), (1, .ref (xks E i))]) hx hb dX13_isWord_31 rfl hl (by decide) rfl (fun ls hl => ?_)
    cases g8 : gX13_isWord_32 σ i xfu 0 0 with
    | none => rw [g8] at h; cases h
    | some q9 =>
      rw [g8, Option.bind_some] at h
      refine lX13_isWord_32 hi F xfu 0 0 q9 g8 _ _ _ hW hS (lv_sub hl [0, 1, 2, 3] rfl) (fun H locs ls hW hS hl => ?_)
      refine lv_iload_n hx hb dX13_isWord_75 rfl (lv_at hl 1 rfl) ?_
      by_cases hz10 : q9.1 = 0 ∨ q9.1 = 1
      · rw [if_pos hz10] at h
        have h := Option.some.inj h; subst h
        exact x_zret F hr hlk hW hS (x_b01 hz10) dX13_isWord_76
      · rw [if_neg hz10] at h; cases h
  · rw [if_pos c1] at h
    refine lv_aload_n hx hb dX13_isWord_8 rfl (lv_at hl 0 rfl) ?_
    refine va_get (D := xD E) (ci := 13) (v := .int (σ 24 4)) (C := RX13) (T := TX13) (N := 24) hx hb hts in_X13 hown hK (xO_M hW) 0 rfl rfl 12 (by decide) (hts _ q1208) (fun _ h9 => h9) rfl dX13_isWord_9 ?_
    refine lv_aload_n hx hb dX13_isWord_12 rfl (lv_at hl 0 rfl) ?_
    refine va_get (D := xD E) (ci := 13) (v := .int (σ 24 3)) (C := RX13) (T := TX13) (N := 24) hx hb hts in_X13 hown hK (xO_M hW) 0 rfl rfl 11 (by decide) (hts _ q1207) (fun _ h9 => h9) rfl dX13_isWord_13 ?_
    refine lv_isub hx hb dX13_isWord_16 ?_
    refine lv_aload_n hx hb dX13_isWord_17 rfl (lv_at hl 1 rfl) ?_
    refine x_backi (va_runV (C := RJ5) (b := (xks E i)) (As := []) (rest := [.int ((σ 24 4) - (σ 24 3))]) F.1 (mJ5_length l E σ i hi) (cwV 0 hts (lw_V q1636 q1637 q1638 q119 q1639) rfl rfl rfl (by decide +kernel) ⟨Nat.le_of_ble_eq_true rfl, Nat.le_of_ble_eq_true rfl⟩) ⟨xPc.blind, vk_recv F.2.2.1 hi hS, F.pre hW hS (.ref (xks E i) :: [])⟩ rfl rfl hl.1 rfl (lv_room (Nat.le_of_ble_eq_true rfl)) dX13_isWord_18 ⟨Nat.le_refl _, Nat.le_refl _⟩) hS (fun H locs hW hS => ?_)
    refine lv_icmp_ne (tgt := 28) hx hb dX13_isWord_21 (by decide) (fun c11 => ?_) (fun c11 => ?_)
    · rw [if_neg c11] at h
      refine lv_iconst (v := 0) hx hb dX13_isWord_28 (by decide) ?_
      refine lv_istore_n (lv' := [(2, .int 0), (0, .ref (xa E 186)), (1, .ref (xks E i))]) hx hb dX13_isWord_29 rfl hl (by decide) rfl (fun ls hl => ?_)
      refine lv_iconst (v := 0) hx hb dX13_isWord_30 (by decide) ?_
      refine lv_istore_n (lv' := [(3, .int 0), (2, .int 0), (0, .ref (xa E 186)), (1, .ref (xks E i))]) hx hb dX13_isWord_31 rfl hl (by decide) rfl (fun ls hl => ?_)
      cases g12 : gX13_isWord_32 σ i xfu 0 0 with
      | none => rw [g12] at h; cases h
      | some q13 =>
        rw [g12, Option.bind_some] at h
        refine lX13_isWord_32 hi F xfu 0 0 q13 g12 _ _ _ hW hS (lv_sub hl [0, 1, 2, 3] rfl) (fun H locs ls hW hS hl => ?_)
        refine lv_iload_n hx hb dX13_isWord_75 rfl (lv_at hl 1 rfl) ?_
        by_cases hz14 : q13.1 = 0 ∨ q13.1 = 1
        · rw [if_pos hz14] at h
          have h := Option.some.inj h; subst h
          exact x_zret F hr hlk hW hS (x_b01 hz14) dX13_isWord_76
        · rw [if_neg hz14] at h; cases h
    · rw [if_pos c11] at h
      refine lv_iconst (v := 1) hx hb dX13_isWord_24 (by decide) ?_
      refine lv_goto (tgt := 29) hx hb dX13_isWord_25 (by decide) ?_
      refine lv_istore_n (lv' := [(2, .int 1), (0, .ref (xa E 186)), (1, .ref (xks E i))]) hx hb dX13_isWord_29 rfl hl (by decide) rfl (fun ls hl => ?_)
      refine lv_iconst (v := 0) hx hb dX13_isWord_30 (by decide) ?_
      refine lv_istore_n (lv' := [(3, .int 0), (2, .int 1), (0, .ref (xa E 186)), (1, .ref (xks E i))]) hx hb dX13_isWord_31 rfl hl (by decide) rfl (fun ls hl => ?_)
      cases g15 : gX13_isWord_32 σ i xfu 1 0 with
      | none => rw [g15] at h; cases h
      | some q16 =>
        rw [g15, Option.bind_some] at h
        refine lX13_isWord_32 hi F xfu 1 0 q16 g15 _ _ _ hW hS (lv_sub hl [0, 1, 2, 3] rfl) (fun H locs ls hW hS hl => ?_)
        refine lv_iload_n hx hb dX13_isWord_75 rfl (lv_at hl 1 rfl) ?_
        by_cases hz17 : q16.1 = 0 ∨ q16.1 = 1
        · rw [if_pos hz17] at h
          have h := Option.some.inj h; subst h
          exact x_zret F hr hlk hW hS (x_b01 hz17) dX13_isWord_76
        · rw [if_neg hz17] at h; cases h
/-! WildBellsModel.kindTold()I -/
def gX13_kindTold_4 (σ : xM) : Nat → Int32 → Int32 → Option (Int32 × Int32)
  | 0, _, _ => none
  | n + 1, x1, x2 => if 7 ≤ x2 then (some (x1, x2)) else (if xin x2 7 then ((fX13_isWord σ x2.toNatClampNeg).bind (fun r4 => if r4 = 0 then (gX13_kindTold_4 σ n x1 (x2 + 1)) else (gX13_kindTold_4 σ n x2 (x2 + 1)))) else none)
def fX13_kindTold (σ : xM) : Option Int32 :=
  (gX13_kindTold_4 σ xfu (-1) 0).bind (fun q7 => some q7.1)
set_option maxHeartbeats 4000000 in
theorem lX13_kindTold_4 {p : Program} {l : Launch} {e : Env} {s : State} {m : MethodId} {av : Array Value} {below : List Frame} {meth : Method} {c : Code} {Q : State → Prop} {E : xE} {σ : xM} (F : xFx p m c cX13_kindTold 3 s av RX13 E) : ∀ (n : Nat) (x1 : Int32) (x2 : Int32) (q : (Int32 × Int32)), gX13_kindTold_4 σ n x1 x2 = some q → ∀ (H : Heap) (locs : List Loc) (ls : Array Slot), xW E σ H → va_S (xA E) s.heap H locs → lv_has ls 3 [(2, .int x2), (1, .int x1), (0, .ref (xa E 186))] → (∀ (H : Heap) (locs : List Loc) (ls : Array Slot), xW E σ H → va_S (xA E) s.heap H locs → lv_has ls 3 [(2, .int q.2), (1, .int q.1), (0, .ref (xa E 186))] → W p l e ({ frames := 5, cells := 0, slots := 0, locals := 108 } : Room) s m av below meth c H locs 0 0 Q (F0 m 38 ls [])) → W p l e ({ frames := 5, cells := 0, slots := 0, locals := 108 } : Room) s m av below meth c H locs 0 0 Q (F0 m 4 ls []) := by
  obtain ⟨hx, hb, hml, hown, hts⟩ := id F.1
  have hK := F.2.1.1
  intro n
  induction n with
  | zero =>
    intro x1 x2 q h
    cases h
  | succ n ih =>
    intro x1 x2 q h H locs ls hW hS hl kk
    rw [gX13_kindTold_4] at h
    refine lv_iload_n hx hb dX13_kindTold_4 rfl (lv_at hl 0 rfl) ?_
    refine lv_aload_n hx hb dX13_kindTold_5 rfl (lv_at hl 2 rfl) ?_
    refine va_get (D := xD E) (ci := 13) (v := .ref (xa E 195)) (C := RX13) (T := TX13) (N := 24) hx hb hts in_X13 hown hK (xO_M hW) 0 rfl rfl 16 (by decide) (hts _ q1212) (fun _ h9 => h9) rfl dX13_kindTold_6 ?_
    refine va_alen (v := 7) hx hb hK (xR_195 hW) 0 6 rfl rfl rfl dX13_kindTold_9 ?_
    refine lv_icmp_ge (tgt := 38) hx hb dX13_kindTold_10 (by decide) (fun c1 => ?_) (fun c1 => ?_)
    · rw [if_pos c1] at h
      have h := Option.some.inj h; subst h
      exact kk _ _ _ hW hS (lv_sub hl [0, 1, 2] rfl)
    · rw [if_neg c1] at h
      refine lv_aload_n hx hb dX13_kindTold_13 rfl (lv_at hl 2 rfl) ?_
      refine lv_aload_n hx hb dX13_kindTold_14 rfl (lv_at hl 2 rfl) ?_
      refine va_get (D := xD E) (ci := 13) (v := .ref (xa E 195)) (C := RX13) (T := TX13) (N := 24) hx hb hts in_X13 hown hK (xO_M hW) 0 rfl rfl 16 (by decide) (hts _ q1212) (fun _ h9 => h9) rfl dX13_kindTold_15 ?_
      refine lv_iload_n hx hb dX13_kindTold_18 rfl (lv_at hl 0 rfl) ?_
      by_cases hi2 : xin x2 7
      · rw [if_pos hi2] at h
        refine x_aald (g := fun j => xks E j) (j := (x2.toNatClampNeg)) F 6 6 7 (xR_195 hW) rfl rfl hi2 rfl dX13_kindTold_19 ?_
        cases g3 : fX13_isWord σ x2.toNatClampNeg with
        | none => rw [g3] at h; cases h
        | some r4 =>
          rw [g3, Option.bind_some] at h
          refine x_backi (va_runV (C := RX13) (b := (xa E 186)) (As := [.ref (xks E x2.toNatClampNeg)]) (rest := []) F.1 (mX13_isWord l E σ x2.toNatClampNeg (Nat.lt_trans (x_lt hi2) (by decide)) r4 g3) (cwV 1 hts (lw_V q1632 q1634 qs92 q115 q1635) rfl rfl rfl (by decide +kernel) ⟨Nat.le_of_ble_eq_true rfl, Nat.le_of_ble_eq_true rfl⟩) ⟨xPc.blind, va_recv hK (xO_M hW) (ci := 13) (q0 := 0) rfl rfl, F.pre hW hS (.ref (xa E 186) :: [.ref (xks E x2.toNatClampNeg)])⟩ rfl rfl hl.1 rfl (lv_room (Nat.le_of_ble_eq_true rfl)) dX13_kindTold_20 ⟨Nat.le_refl _, Nat.le_refl _⟩) hS (fun H locs hW hS => ?_)
          refine lv_if_eq (tgt := 30) hx hb dX13_kindTold_23 (by decide) (fun c5 => ?_) (fun c5 => ?_)
          · rw [if_pos c5] at h
            refine lv_iload_n hx hb dX13_kindTold_30 rfl (lv_at hl 1 rfl) ?_
            refine lv_istore_n (lv' := [(1, .int x1), (2, .int x2), (0, .ref (xa E 186))]) hx hb dX13_kindTold_31 rfl hl (by decide) rfl (fun ls hl => ?_)
            refine lv_iinc (k := 1) (v := (x2 + 1)) (lv' := [(2, .int (x2 + 1)), (1, .int x1), (0, .ref (xa E 186))]) hx hb dX13_kindTold_32 hl rfl rfl (by decide) rfl (fun ls hl => ?_)
            refine lv_goto (tgt := 4) hx hb dX13_kindTold_35 (by decide) ?_
            exact ih x1 (x2 + 1) _ h _ _ _ hW hS (lv_sub hl [0, 1, 2] rfl) kk
          · rw [if_neg c5] at h
            refine lv_iload_n hx hb dX13_kindTold_26 rfl (lv_at hl 0 rfl) ?_
            refine lv_goto (tgt := 31) hx hb dX13_kindTold_27 (by decide) ?_
            refine lv_istore_n (lv' := [(1, .int x2), (2, .int x2), (0, .ref (xa E 186))]) hx hb dX13_kindTold_31 rfl hl (by decide) rfl (fun ls hl => ?_)
            refine lv_iinc (k := 1) (v := (x2 + 1)) (lv' := [(2, .int (x2 + 1)), (1, .int x2), (0, .ref (xa E 186))]) hx hb dX13_kindTold_32 hl rfl rfl (by decide) rfl (fun ls hl => ?_)
            refine lv_goto (tgt := 4) hx hb dX13_kindTold_35 (by decide) ?_
            exact ih x2 (x2 + 1) _ h _ _ _ hW hS (lv_sub hl [0, 1, 2] rfl) kk
      · rw [if_neg hi2] at h; cases h
set_option maxHeartbeats 4000000 in
theorem mX13_kindTold (l : Launch) (E : xE) (σ : xM) (r : Int32) (h : fX13_kindTold σ = some r) : Met l yX13_kindTold (ws_ yX13_kindTold cX13_kindTold 3 (some .int)) ({ frames := 5, cells := 0, slots := 0, locals := 108 } : Room) (xPc E σ [.ref (xa E 186)]) (xQc E (.returned (some (.int r))) σ) 0 0 (xA E) := by
  refine x_of (C := RX13) (n := "kindTold") (d := "()I") (r := (some .int)) (by decide) rfl (by first | decide | exact Nat.le_of_ble_eq_true rfl) ?_
  intro p e s m below meth c ls F hr hlk hW hS hl
  have hl : lv_has ls 3 [(0, .ref (xa E 186))] := hl
  obtain ⟨hx, hb, hml, hown, hts⟩ := id F.1
  have hK := F.2.1.1
  unfold fX13_kindTold at h
  refine lv_iconst (v := (-1)) hx hb dX13_kindTold_0 (by decide) ?_
  refine lv_istore_n (lv' := [(1, .int (-1)), (0, .ref (xa E 186))]) hx hb dX13_kindTold_1 rfl hl (by decide) rfl (fun ls hl => ?_)
  refine lv_iconst (v := 0) hx hb dX13_kindTold_2 (by decide) ?_
  refine lv_istore_n (lv' := [(2, .int 0), (1, .int (-1)), (0, .ref (xa E 186))]) hx hb dX13_kindTold_3 rfl hl (by decide) rfl (fun ls hl => ?_)
  cases g6 : gX13_kindTold_4 σ xfu (-1) 0 with
  | none => rw [g6] at h; cases h
  | some q7 =>
    rw [g6, Option.bind_some] at h
    refine lX13_kindTold_4 F xfu (-1) 0 q7 g6 _ _ _ hW hS (lv_sub hl [0, 1, 2] rfl) (fun H locs ls hW hS hl => ?_)
    refine lv_iload_n hx hb dX13_kindTold_38 rfl (lv_at hl 1 rfl) ?_
    have h := Option.some.inj h; subst h
    exact x_iret F hr hlk hW hS dX13_kindTold_39
/-! WildBellsModel.isNext(Ljava/lang/String;)Z -/
def fX13_isNext (σ : xM) (i : Nat) : Option (Int32 × xM) :=
  if (σ 24 7) = 0 then ((fX13_isWord σ i).bind (fun r3 => if r3 = 0 then (some (0, σ)) else ((fX13_must σ 1).bind (fun r6 => some (1, r6))))) else (some (0, σ))
set_option maxHeartbeats 4000000 in
theorem mX13_isNext (l : Launch) (E : xE) (σ : xM) (i : Nat) (hi : i < 15) (r : Int32) (σ' : xM) (h : fX13_isNext σ i = some (r, σ')) : Met l yX13_isNext (ws_ yX13_isNext cX13_isNext 3 (some .boolean)) ({ frames := 5, cells := 0, slots := 0, locals := 108 } : Room) (xPc E σ [.ref (xa E 186), .ref (xks E i)]) (xQc E (.returned (some (.int r))) σ') 0 0 (xA E) := by
  refine x_of (C := RX13) (n := "isNext") (d := "(Ljava/lang/String;)Z") (r := (some .boolean)) (by decide) rfl (by first | decide | exact Nat.le_of_ble_eq_true rfl) ?_
  intro p e s m below meth c ls F hr hlk hW hS hl
  have hl : lv_has ls 3 [(0, .ref (xa E 186)), (1, .ref (xks E i))] := hl
  obtain ⟨hx, hb, hml, hown, hts⟩ := id F.1
  have hK := F.2.1.1
  unfold fX13_isNext at h
  refine lv_aload_n hx hb dX13_isNext_0 rfl (lv_at hl 0 rfl) ?_
  refine va_get (D := xD E) (ci := 13) (v := .int (σ 24 7)) (C := RX13) (T := TX13) (N := 24) hx hb hts in_X13 hown hK (xO_M hW) 0 rfl rfl 15 (by decide) (hts _ q1211) (fun _ h9 => h9) rfl dX13_isNext_1 ?_
  refine lv_if_ne (tgt := 19) hx hb dX13_isNext_4 (by decide) (fun c1 => ?_) (fun c1 => ?_)
  · rw [if_neg c1] at h
    refine lv_iconst (v := 0) hx hb dX13_isNext_19 (by decide) ?_
    refine lv_istore_n (lv' := [(2, .int 0), (0, .ref (xa E 186)), (1, .ref (xks E i))]) hx hb dX13_isNext_20 rfl hl (by decide) rfl (fun ls hl => ?_)
    refine lv_iload_n hx hb dX13_isNext_21 rfl (lv_at hl 0 rfl) ?_
    refine lv_if_eq (tgt := 30) hx hb dX13_isNext_22 (by decide) (fun c => ?_) (fun c => absurd c (by decide))
    refine lv_iload_n hx hb dX13_isNext_30 rfl (lv_at hl 0 rfl) ?_
    obtain ⟨h1, h2⟩ := Prod.mk.inj (Option.some.inj h); subst h1; subst h2
    exact x_zret F hr hlk hW hS rfl dX13_isNext_31
  · rw [if_pos c1] at h
    refine lv_aload_n hx hb dX13_isNext_7 rfl (lv_at hl 0 rfl) ?_
    refine lv_aload_n hx hb dX13_isNext_8 rfl (lv_at hl 1 rfl) ?_
    cases g2 : fX13_isWord σ i with
    | none => rw [g2] at h; cases h
    | some r3 =>
      rw [g2, Option.bind_some] at h
      refine x_backi (va_runV (C := RX13) (b := (xa E 186)) (As := [.ref (xks E i)]) (rest := []) F.1 (mX13_isWord l E σ i hi r3 g2) (cwV 1 hts (lw_V q1632 q1634 qs92 q115 q1635) rfl rfl rfl (by decide +kernel) ⟨Nat.le_of_ble_eq_true rfl, Nat.le_of_ble_eq_true rfl⟩) ⟨xPc.blind, va_recv hK (xO_M hW) (ci := 13) (q0 := 0) rfl rfl, F.pre hW hS (.ref (xa E 186) :: [.ref (xks E i)])⟩ rfl rfl hl.1 rfl (lv_room (Nat.le_of_ble_eq_true rfl)) dX13_isNext_9 ⟨Nat.le_refl _, Nat.le_refl _⟩) hS (fun H locs hW hS => ?_)
      refine lv_if_eq (tgt := 19) hx hb dX13_isNext_12 (by decide) (fun c4 => ?_) (fun c4 => ?_)
      · rw [if_pos c4] at h
        refine lv_iconst (v := 0) hx hb dX13_isNext_19 (by decide) ?_
        refine lv_istore_n (lv' := [(2, .int 0), (0, .ref (xa E 186)), (1, .ref (xks E i))]) hx hb dX13_isNext_20 rfl hl (by decide) rfl (fun ls hl => ?_)
        refine lv_iload_n hx hb dX13_isNext_21 rfl (lv_at hl 0 rfl) ?_
        refine lv_if_eq (tgt := 30) hx hb dX13_isNext_22 (by decide) (fun c => ?_) (fun c => absurd c (by decide))
        refine lv_iload_n hx hb dX13_isNext_30 rfl (lv_at hl 0 rfl) ?_
        obtain ⟨h1, h2⟩ := Prod.mk.inj (Option.some.inj h); subst h1; subst h2
        exact x_zret F hr hlk hW hS rfl dX13_isNext_31
      · rw [if_neg c4] at h
        refine lv_iconst (v := 1) hx hb dX13_isNext_15 (by decide) ?_
        refine lv_goto (tgt := 20) hx hb dX13_isNext_16 (by decide) ?_
        refine lv_istore_n (lv' := [(2, .int 1), (0, .ref (xa E 186)), (1, .ref (xks E i))]) hx hb dX13_isNext_20 rfl hl (by decide) rfl (fun ls hl => ?_)
        refine lv_iload_n hx hb dX13_isNext_21 rfl (lv_at hl 0 rfl) ?_
        refine lv_if_eq (tgt := 30) hx hb dX13_isNext_22 (by decide) (fun c => absurd c (by decide)) (fun c => ?_)
        refine lv_aload_n hx hb dX13_isNext_25 rfl (lv_at hl 1 rfl) ?_
        refine lv_iconst (v := 1) hx hb dX13_isNext_26 (by decide) ?_
        cases g5 : fX13_must σ 1 with
        | none => rw [g5] at h; cases h
        | some r6 =>
          rw [g5, Option.bind_some] at h
          refine x_backv (va_runV (C := RX13) (b := (xa E 186)) (As := [.int 1]) (rest := []) F.1 (mX13_must l E σ 1 r6 g5) (cwV 1 hts (lw_V q1645 q1647 qs93 q115 q1648) rfl rfl rfl (by decide +kernel) ⟨Nat.le_of_ble_eq_true rfl, Nat.le_of_ble_eq_true rfl⟩) ⟨xPc.blind, va_recv hK (xO_M hW) (ci := 13) (q0 := 0) rfl rfl, F.pre hW hS (.ref (xa E 186) :: [.int 1])⟩ rfl rfl hl.1 rfl (lv_room (Nat.le_of_ble_eq_true rfl)) dX13_isNext_27 ⟨Nat.le_refl _, Nat.le_refl _⟩) hS (fun H locs hW hS => ?_)
          refine lv_iload_n hx hb dX13_isNext_30 rfl (lv_at hl 0 rfl) ?_
          obtain ⟨h1, h2⟩ := Prod.mk.inj (Option.some.inj h); subst h1; subst h2
          exact x_zret F hr hlk hW hS rfl dX13_isNext_31
/-! WildBellsModel.readItem()V -/
def fX13_readItem (σ : xM) : Option xM :=
  (fX13_kindTold σ).bind (fun r2 => if r2 < 0 then ((fX13_isNext σ 10).bind (fun r5 => if r5.1 = 0 then ((fX13_isNext r5.2 11).bind (fun r8 => if r8.1 = 0 then ((fX13_isNext r8.2 12).bind (fun r11 => if r11.1 = 0 then ((fX13_isWord r11.2 13).bind (fun r14 => (fX13_must r11.2 r14).bind (fun r16 => (fX13_number r16 0 9).bind (fun r18 => (fX13_item r18.2 21 r18.1 0 0).bind (fun r20 => some r20))))) else ((fX13_number r11.2 0 3).bind (fun r22 => (fX13_isNext r22.2 7).bind (fun r24 => if r24.1 = 0 then ((fX13_item r24.2 (34 + r22.1) (-1) 0 0).bind (fun r27 => some r27)) else ((fX13_number r24.2 0 63).bind (fun r29 => (fX13_item r29.2 (34 + r22.1) r29.1 0 0).bind (fun r31 => some r31)))))))) else ((fX13_number r8.2 0 63).bind (fun r33 => (fX13_number r33.2 0 9).bind (fun r35 => (fX13_item r35.2 (102 + r33.1) r35.1 0 0).bind (fun r37 => some r37)))))) else ((fX13_number r5.2 0 63).bind (fun r39 => (fX13_item r39.2 (38 + r39.1) 1 0 0).bind (fun r41 => some r41))))) else (if 8 ≤ (σ 24 9) then ((fX13_must σ 0).bind (fun r44 => (fX13_isNext (xup r44 24 9 ((r44 24 9) + 1)) 7).bind (fun r46 => if r46.1 = 0 then ((fX13_isNext r46.2 8).bind (fun r49 => if r49.1 = 0 then ((fX13_isNext r49.2 9).bind (fun r52 => if r52.1 = 0 then ((fX13_item r52.2 r2 0 0 10).bind (fun r55 => some r55)) else ((fX13_number r52.2 1 99).bind (fun r57 => (fX13_item r57.2 r2 0 0 r57.1).bind (fun r59 => some r59))))) else ((fX13_number r49.2 0 11).bind (fun r61 => (fX13_isNext r61.2 9).bind (fun r63 => if r63.1 = 0 then ((fX13_item r63.2 r2 0 r61.1 10).bind (fun r66 => some r66)) else ((fX13_number r63.2 1 99).bind (fun r68 => (fX13_item r68.2 r2 0 r61.1 r68.1).bind (fun r70 => some r70)))))))) else ((fX13_number r46.2 0 63).bind (fun r72 => (fX13_isNext r72.2 8).bind (fun r74 => if r74.1 = 0 then ((fX13_isNext r74.2 9).bind (fun r77 => if r77.1 = 0 then ((fX13_item r77.2 r2 r72.1 0 10).bind (fun r80 => some r80)) else ((fX13_number r77.2 1 99).bind (fun r82 => (fX13_item r82.2 r2 r72.1 0 r82.1).bind (fun r84 => some r84))))) else ((fX13_number r74.2 0 11).bind (fun r86 => (fX13_isNext r86.2 9).bind (fun r88 => if r88.1 = 0 then ((fX13_item r88.2 r2 r72.1 r86.1 10).bind (fun r91 => some r91)) else ((fX13_number r88.2 1 99).bind (fun r93 => (fX13_item r93.2 r2 r72.1 r86.1 r93.1).bind (fun r95 => some r95)))))))))))) else ((fX13_must σ 1).bind (fun r97 => (fX13_isNext (xup r97 24 9 ((r97 24 9) + 1)) 7).bind (fun r99 => if r99.1 = 0 then ((fX13_isNext r99.2 8).bind (fun r102 => if r102.1 = 0 then ((fX13_isNext r102.2 9).bind (fun r105 => if r105.1 = 0 then ((fX13_item r105.2 r2 0 0 10).bind (fun r108 => some r108)) else ((fX13_number r105.2 1 99).bind (fun r110 => (fX13_item r110.2 r2 0 0 r110.1).bind (fun r112 => some r112))))) else ((fX13_number r102.2 0 11).bind (fun r114 => (fX13_isNext r114.2 9).bind (fun r116 => if r116.1 = 0 then ((fX13_item r116.2 r2 0 r114.1 10).bind (fun r119 => some r119)) else ((fX13_number r116.2 1 99).bind (fun r121 => (fX13_item r121.2 r2 0 r114.1 r121.1).bind (fun r123 => some r123)))))))) else ((fX13_number r99.2 0 63).bind (fun r125 => (fX13_isNext r125.2 8).bind (fun r127 => if r127.1 = 0 then ((fX13_isNext r127.2 9).bind (fun r130 => if r130.1 = 0 then ((fX13_item r130.2 r2 r125.1 0 10).bind (fun r133 => some r133)) else ((fX13_number r130.2 1 99).bind (fun r135 => (fX13_item r135.2 r2 r125.1 0 r135.1).bind (fun r137 => some r137))))) else ((fX13_number r127.2 0 11).bind (fun r139 => (fX13_isNext r139.2 9).bind (fun r141 => if r141.1 = 0 then ((fX13_item r141.2 r2 r125.1 r139.1 10).bind (fun r144 => some r144)) else ((fX13_number r141.2 1 99).bind (fun r146 => (fX13_item r146.2 r2 r125.1 r139.1 r146.1).bind (fun r148 => some r148))))))))))))))
set_option maxHeartbeats 4000000 in
theorem mX13_readItem (l : Launch) (E : xE) (σ : xM) (σ' : xM) (h : fX13_readItem σ = some σ') : Met l yX13_readItem (ws_ yX13_readItem cX13_readItem 4 none) ({ frames := 6, cells := 0, slots := 0, locals := 130 } : Room) (xPc E σ [.ref (xa E 186)]) (xQc E (.returned none) σ') 0 0 (xA E) := by
  refine x_of (C := RX13) (n := "readItem") (d := "()V") (r := none) (by decide) rfl (by first | decide | exact Nat.le_of_ble_eq_true rfl) ?_
  intro p e s m below meth c ls F hr hlk hW hS hl
  have hl : lv_has ls 4 [(0, .ref (xa E 186))] := hl
  obtain ⟨hx, hb, hml, hown, hts⟩ := id F.1
  have hK := F.2.1.1
  unfold fX13_readItem at h
  refine lv_aload_n hx hb dX13_readItem_0 rfl (lv_at hl 0 rfl) ?_
  cases g1 : fX13_kindTold σ with
  | none => rw [g1] at h; cases h
  | some r2 =>
    rw [g1, Option.bind_some] at h
    refine x_backi (va_runV (C := RX13) (b := (xa E 186)) (As := []) (rest := []) F.1 (mX13_kindTold l E σ r2 g1) (cwV 0 hts (lw_V q1628 q1630 qs91 q115 q1631) rfl rfl rfl (by decide +kernel) ⟨Nat.le_of_ble_eq_true rfl, Nat.le_of_ble_eq_true rfl⟩) ⟨xPc.blind, va_recv hK (xO_M hW) (ci := 13) (q0 := 0) rfl rfl, F.pre hW hS (.ref (xa E 186) :: [])⟩ rfl rfl hl.1 rfl (lv_room (Nat.le_of_ble_eq_true rfl)) dX13_readItem_1 ⟨Nat.le_refl _, Nat.le_refl _⟩) hS (fun H locs hW hS => ?_)
    refine lv_istore_n (lv' := [(1, .int r2), (0, .ref (xa E 186))]) hx hb dX13_readItem_4 rfl hl (by decide) rfl (fun ls hl => ?_)
    refine lv_iload_n hx hb dX13_readItem_5 rfl (lv_at hl 0 rfl) ?_
    refine lv_if_lt (tgt := 113) hx hb dX13_readItem_6 (by decide) (fun c3 => ?_) (fun c3 => ?_)
    · rw [if_pos c3] at h
      refine lv_aload_n hx hb dX13_readItem_113 rfl (lv_at hl 1 rfl) ?_
      refine va_ldcSw hx hb hown (xk_10 F.2.1) dX13_readItem_114 ?_
      cases g4 : fX13_isNext σ 10 with
      | none => rw [g4] at h; cases h
      | some r5 =>
        rw [g4, Option.bind_some] at h
        refine x_backi (va_runV (C := RX13) (b := (xa E 186)) (As := [.ref (xks E 10)]) (rest := []) F.1 (mX13_isNext l E σ 10 (by decide) r5.1 r5.2 g4) (cwV 1 hts (lw_V q1650 q1652 qs94 q115 q1653) rfl rfl rfl (by decide +kernel) ⟨Nat.le_of_ble_eq_true rfl, Nat.le_of_ble_eq_true rfl⟩) ⟨xPc.blind, va_recv hK (xO_M hW) (ci := 13) (q0 := 0) rfl rfl, F.pre hW hS (.ref (xa E 186) :: [.ref (xks E 10)])⟩ rfl rfl hl.1 rfl (lv_room (Nat.le_of_ble_eq_true rfl)) dX13_readItem_117 ⟨Nat.le_refl _, Nat.le_refl _⟩) hS (fun H locs hW hS => ?_)
        refine lv_if_eq (tgt := 143) hx hb dX13_readItem_120 (by decide) (fun c6 => ?_) (fun c6 => ?_)
        · rw [if_pos c6] at h
          refine lv_aload_n hx hb dX13_readItem_143 rfl (lv_at hl 1 rfl) ?_
          refine va_ldcSw hx hb hown (xk_11 F.2.1) dX13_readItem_144 ?_
          cases g7 : fX13_isNext r5.2 11 with
          | none => rw [g7] at h; cases h
          | some r8 =>
            rw [g7, Option.bind_some] at h
            refine x_backi (va_runV (C := RX13) (b := (xa E 186)) (As := [.ref (xks E 11)]) (rest := []) F.1 (mX13_isNext l E r5.2 11 (by decide) r8.1 r8.2 g7) (cwV 1 hts (lw_V q1650 q1652 qs94 q115 q1653) rfl rfl rfl (by decide +kernel) ⟨Nat.le_of_ble_eq_true rfl, Nat.le_of_ble_eq_true rfl⟩) ⟨xPc.blind, va_recv hK (xO_M hW) (ci := 13) (q0 := 0) rfl rfl, F.pre hW hS (.ref (xa E 186) :: [.ref (xks E 11)])⟩ rfl rfl hl.1 rfl (lv_room (Nat.le_of_ble_eq_true rfl)) dX13_readItem_147 ⟨Nat.le_refl _, Nat.le_refl _⟩) hS (fun H locs hW hS => ?_)
            refine lv_if_eq (tgt := 181) hx hb dX13_readItem_150 (by decide) (fun c9 => ?_) (fun c9 => ?_)
            · rw [if_pos c9] at h
              refine lv_aload_n hx hb dX13_readItem_181 rfl (lv_at hl 1 rfl) ?_
              refine va_ldcSw hx hb hown (xk_12 F.2.1) dX13_readItem_182 ?_
              cases g10 : fX13_isNext r8.2 12 with
              | none => rw [g10] at h; cases h
              | some r11 =>
                rw [g10, Option.bind_some] at h
                refine x_backi (va_runV (C := RX13) (b := (xa E 186)) (As := [.ref (xks E 12)]) (rest := []) F.1 (mX13_isNext l E r8.2 12 (by decide) r11.1 r11.2 g10) (cwV 1 hts (lw_V q1650 q1652 qs94 q115 q1653) rfl rfl rfl (by decide +kernel) ⟨Nat.le_of_ble_eq_true rfl, Nat.le_of_ble_eq_true rfl⟩) ⟨xPc.blind, va_recv hK (xO_M hW) (ci := 13) (q0 := 0) rfl rfl, F.pre hW hS (.ref (xa E 186) :: [.ref (xks E 12)])⟩ rfl rfl hl.1 rfl (lv_room (Nat.le_of_ble_eq_true rfl)) dX13_readItem_185 ⟨Nat.le_refl _, Nat.le_refl _⟩) hS (fun H locs hW hS => ?_)
                refine lv_if_eq (tgt := 232) hx hb dX13_readItem_188 (by decide) (fun c12 => ?_) (fun c12 => ?_)
                · rw [if_pos c12] at h
                  refine lv_aload_n hx hb dX13_readItem_232 rfl (lv_at hl 1 rfl) ?_
                  refine lv_aload_n hx hb dX13_readItem_233 rfl (lv_at hl 1 rfl) ?_
                  refine va_ldcSw hx hb hown (xk_13 F.2.1) dX13_readItem_234 ?_
                  cases g13 : fX13_isWord r11.2 13 with
                  | none => rw [g13] at h; cases h
                  | some r14 =>
                    rw [g13, Option.bind_some] at h
                    refine x_backi (va_runV (C := RX13) (b := (xa E 186)) (As := [.ref (xks E 13)]) (rest := [.ref (xa E 186)]) F.1 (mX13_isWord l E r11.2 13 (by decide) r14 g13) (cwV 1 hts (lw_V q1632 q1634 qs92 q115 q1635) rfl rfl rfl (by decide +kernel) ⟨Nat.le_of_ble_eq_true rfl, Nat.le_of_ble_eq_true rfl⟩) ⟨xPc.blind, va_recv hK (xO_M hW) (ci := 13) (q0 := 0) rfl rfl, F.pre hW hS (.ref (xa E 186) :: [.ref (xks E 13)])⟩ rfl rfl hl.1 rfl (lv_room (Nat.le_of_ble_eq_true rfl)) dX13_readItem_237 ⟨Nat.le_refl _, Nat.le_refl _⟩) hS (fun H locs hW hS => ?_)
                    cases g15 : fX13_must r11.2 r14 with
                    | none => rw [g15] at h; cases h
                    | some r16 =>
                      rw [g15, Option.bind_some] at h
                      refine x_backv (va_runV (C := RX13) (b := (xa E 186)) (As := [.int r14]) (rest := []) F.1 (mX13_must l E r11.2 r14 r16 g15) (cwV 1 hts (lw_V q1645 q1647 qs93 q115 q1648) rfl rfl rfl (by decide +kernel) ⟨Nat.le_of_ble_eq_true rfl, Nat.le_of_ble_eq_true rfl⟩) ⟨xPc.blind, va_recv hK (xO_M hW) (ci := 13) (q0 := 0) rfl rfl, F.pre hW hS (.ref (xa E 186) :: [.int r14])⟩ rfl rfl hl.1 rfl (lv_room (Nat.le_of_ble_eq_true rfl)) dX13_readItem_240 ⟨Nat.le_refl _, Nat.le_refl _⟩) hS (fun H locs hW hS => ?_)
                      refine lv_aload_n hx hb dX13_readItem_243 rfl (lv_at hl 1 rfl) ?_
                      refine lv_bipush (v := 21) hx hb dX13_readItem_244 (by decide) ?_
                      refine lv_aload_n hx hb dX13_readItem_246 rfl (lv_at hl 1 rfl) ?_
                      refine lv_iconst (v := 0) hx hb dX13_readItem_247 (by decide) ?_
                      refine lv_bipush (v := 9) hx hb dX13_readItem_248 (by decide) ?_
                      cases g17 : fX13_number r16 0 9 with
                      | none => rw [g17] at h; cases h
                      | some r18 =>
                        rw [g17, Option.bind_some] at h
                        refine x_backi (va_runV (C := RX13) (b := (xa E 186)) (As := [.int 0, .int 9]) (rest := [.int 21, .ref (xa E 186)]) F.1 (mX13_number l E r16 0 9 r18.1 r18.2 g17) (cwV 2 hts (lw_V q1654 q1656 qs95 q115 q1657) rfl rfl rfl (by decide +kernel) ⟨Nat.le_of_ble_eq_true rfl, Nat.le_of_ble_eq_true rfl⟩) ⟨xPc.blind, va_recv hK (xO_M hW) (ci := 13) (q0 := 0) rfl rfl, F.pre hW hS (.ref (xa E 186) :: [.int 0, .int 9])⟩ rfl rfl hl.1 rfl (lv_room (Nat.le_of_ble_eq_true rfl)) dX13_readItem_250 ⟨Nat.le_refl _, Nat.le_refl _⟩) hS (fun H locs hW hS => ?_)
                        refine lv_iconst (v := 0) hx hb dX13_readItem_253 (by decide) ?_
                        refine lv_iconst (v := 0) hx hb dX13_readItem_254 (by decide) ?_
                        cases g19 : fX13_item r18.2 21 r18.1 0 0 with
                        | none => rw [g19] at h; cases h
                        | some r20 =>
                          rw [g19, Option.bind_some] at h
                          refine x_backv (va_runV (C := RX13) (b := (xa E 186)) (As := [.int 21, .int r18.1, .int 0, .int 0]) (rest := []) F.1 (mX13_item l E r18.2 21 r18.1 0 0 r20 g19) (cwV 4 hts (lw_V q1660 q1662 qs96 q115 q1663) rfl rfl rfl (by decide +kernel) ⟨Nat.le_of_ble_eq_true rfl, Nat.le_of_ble_eq_true rfl⟩) ⟨xPc.blind, va_recv hK (xO_M hW) (ci := 13) (q0 := 0) rfl rfl, F.pre hW hS (.ref (xa E 186) :: [.int 21, .int r18.1, .int 0, .int 0])⟩ rfl rfl hl.1 rfl (lv_room (Nat.le_of_ble_eq_true rfl)) dX13_readItem_255 ⟨Nat.le_refl _, Nat.le_refl _⟩) hS (fun H locs hW hS => ?_)
                          have h := Option.some.inj h; subst h
                          exact x_vret F hr hlk hW hS dX13_readItem_258
                · rw [if_neg c12] at h
                  refine lv_aload_n hx hb dX13_readItem_191 rfl (lv_at hl 1 rfl) ?_
                  refine lv_iconst (v := 0) hx hb dX13_readItem_192 (by decide) ?_
                  refine lv_iconst (v := 3) hx hb dX13_readItem_193 (by decide) ?_
                  cases g21 : fX13_number r11.2 0 3 with
                  | none => rw [g21] at h; cases h
                  | some r22 =>
                    rw [g21, Option.bind_some] at h
                    refine x_backi (va_runV (C := RX13) (b := (xa E 186)) (As := [.int 0, .int 3]) (rest := []) F.1 (mX13_number l E r11.2 0 3 r22.1 r22.2 g21) (cwV 2 hts (lw_V q1654 q1656 qs95 q115 q1657) rfl rfl rfl (by decide +kernel) ⟨Nat.le_of_ble_eq_true rfl, Nat.le_of_ble_eq_true rfl⟩) ⟨xPc.blind, va_recv hK (xO_M hW) (ci := 13) (q0 := 0) rfl rfl, F.pre hW hS (.ref (xa E 186) :: [.int 0, .int 3])⟩ rfl rfl hl.1 rfl (lv_room (Nat.le_of_ble_eq_true rfl)) dX13_readItem_194 ⟨Nat.le_refl _, Nat.le_refl _⟩) hS (fun H locs hW hS => ?_)
                    refine lv_istore_n (lv' := [(2, .int r22.1), (1, .int r2), (0, .ref (xa E 186))]) hx hb dX13_readItem_197 rfl hl (by decide) rfl (fun ls hl => ?_)
                    refine lv_aload_n hx hb dX13_readItem_198 rfl (lv_at hl 2 rfl) ?_
                    refine lv_bipush (v := 34) hx hb dX13_readItem_199 (by decide) ?_
                    refine lv_iload_n hx hb dX13_readItem_201 rfl (lv_at hl 0 rfl) ?_
                    refine lv_iadd hx hb dX13_readItem_202 ?_
                    refine lv_aload_n hx hb dX13_readItem_203 rfl (lv_at hl 2 rfl) ?_
                    refine va_ldcSw hx hb hown (xk_7 F.2.1) dX13_readItem_204 ?_
                    cases g23 : fX13_isNext r22.2 7 with
                    | none => rw [g23] at h; cases h
                    | some r24 =>
                      rw [g23, Option.bind_some] at h
                      refine x_backi (va_runV (C := RX13) (b := (xa E 186)) (As := [.ref (xks E 7)]) (rest := [.int (34 + r22.1), .ref (xa E 186)]) F.1 (mX13_isNext l E r22.2 7 (by decide) r24.1 r24.2 g23) (cwV 1 hts (lw_V q1650 q1652 qs94 q115 q1653) rfl rfl rfl (by decide +kernel) ⟨Nat.le_of_ble_eq_true rfl, Nat.le_of_ble_eq_true rfl⟩) ⟨xPc.blind, va_recv hK (xO_M hW) (ci := 13) (q0 := 0) rfl rfl, F.pre hW hS (.ref (xa E 186) :: [.ref (xks E 7)])⟩ rfl rfl hl.1 rfl (lv_room (Nat.le_of_ble_eq_true rfl)) dX13_readItem_207 ⟨Nat.le_refl _, Nat.le_refl _⟩) hS (fun H locs hW hS => ?_)
                      refine lv_if_eq (tgt := 223) hx hb dX13_readItem_210 (by decide) (fun c25 => ?_) (fun c25 => ?_)
                      · rw [if_pos c25] at h
                        refine lv_iconst (v := (-1)) hx hb dX13_readItem_223 (by decide) ?_
                        refine lv_iconst (v := 0) hx hb dX13_readItem_224 (by decide) ?_
                        refine lv_iconst (v := 0) hx hb dX13_readItem_225 (by decide) ?_
                        cases g26 : fX13_item r24.2 (34 + r22.1) (-1) 0 0 with
                        | none => rw [g26] at h; cases h
                        | some r27 =>
                          rw [g26, Option.bind_some] at h
                          refine x_backv (va_runV (C := RX13) (b := (xa E 186)) (As := [.int (34 + r22.1), .int (-1), .int 0, .int 0]) (rest := []) F.1 (mX13_item l E r24.2 (34 + r22.1) (-1) 0 0 r27 g26) (cwV 4 hts (lw_V q1660 q1662 qs96 q115 q1663) rfl rfl rfl (by decide +kernel) ⟨Nat.le_of_ble_eq_true rfl, Nat.le_of_ble_eq_true rfl⟩) ⟨xPc.blind, va_recv hK (xO_M hW) (ci := 13) (q0 := 0) rfl rfl, F.pre hW hS (.ref (xa E 186) :: [.int (34 + r22.1), .int (-1), .int 0, .int 0])⟩ rfl rfl hl.1 rfl (lv_room (Nat.le_of_ble_eq_true rfl)) dX13_readItem_226 ⟨Nat.le_refl _, Nat.le_refl _⟩) hS (fun H locs hW hS => ?_)
                          refine lv_goto (tgt := 258) hx hb dX13_readItem_229 (by decide) ?_
                          have h := Option.some.inj h; subst h
                          exact x_vret F hr hlk hW hS dX13_readItem_258
                      · rw [if_neg c25] at h
                        refine lv_aload_n hx hb dX13_readItem_213 rfl (lv_at hl 2 rfl) ?_
                        refine lv_iconst (v := 0) hx hb dX13_readItem_214 (by decide) ?_
                        refine lv_bipush (v := 63) hx hb dX13_readItem_215 (by decide) ?_
                        cases g28 : fX13_number r24.2 0 63 with
                        | none => rw [g28] at h; cases h
                        | some r29 =>
                          rw [g28, Option.bind_some] at h
                          refine x_backi (va_runV (C := RX13) (b := (xa E 186)) (As := [.int 0, .int 63]) (rest := [.int (34 + r22.1), .ref (xa E 186)]) F.1 (mX13_number l E r24.2 0 63 r29.1 r29.2 g28) (cwV 2 hts (lw_V q1654 q1656 qs95 q115 q1657) rfl rfl rfl (by decide +kernel) ⟨Nat.le_of_ble_eq_true rfl, Nat.le_of_ble_eq_true rfl⟩) ⟨xPc.blind, va_recv hK (xO_M hW) (ci := 13) (q0 := 0) rfl rfl, F.pre hW hS (.ref (xa E 186) :: [.int 0, .int 63])⟩ rfl rfl hl.1 rfl (lv_room (Nat.le_of_ble_eq_true rfl)) dX13_readItem_217 ⟨Nat.le_refl _, Nat.le_refl _⟩) hS (fun H locs hW hS => ?_)
                          refine lv_goto (tgt := 224) hx hb dX13_readItem_220 (by decide) ?_
                          refine lv_iconst (v := 0) hx hb dX13_readItem_224 (by decide) ?_
                          refine lv_iconst (v := 0) hx hb dX13_readItem_225 (by decide) ?_
                          cases g30 : fX13_item r29.2 (34 + r22.1) r29.1 0 0 with
                          | none => rw [g30] at h; cases h
                          | some r31 =>
                            rw [g30, Option.bind_some] at h
                            refine x_backv (va_runV (C := RX13) (b := (xa E 186)) (As := [.int (34 + r22.1), .int r29.1, .int 0, .int 0]) (rest := []) F.1 (mX13_item l E r29.2 (34 + r22.1) r29.1 0 0 r31 g30) (cwV 4 hts (lw_V q1660 q1662 qs96 q115 q1663) rfl rfl rfl (by decide +kernel) ⟨Nat.le_of_ble_eq_true rfl, Nat.le_of_ble_eq_true rfl⟩) ⟨xPc.blind, va_recv hK (xO_M hW) (ci := 13) (q0 := 0) rfl rfl, F.pre hW hS (.ref (xa E 186) :: [.int (34 + r22.1), .int r29.1, .int 0, .int 0])⟩ rfl rfl hl.1 rfl (lv_room (Nat.le_of_ble_eq_true rfl)) dX13_readItem_226 ⟨Nat.le_refl _, Nat.le_refl _⟩) hS (fun H locs hW hS => ?_)
                            refine lv_goto (tgt := 258) hx hb dX13_readItem_229 (by decide) ?_
                            have h := Option.some.inj h; subst h
                            exact x_vret F hr hlk hW hS dX13_readItem_258
            · rw [if_neg c9] at h
              refine lv_aload_n hx hb dX13_readItem_153 rfl (lv_at hl 1 rfl) ?_
              refine lv_iconst (v := 0) hx hb dX13_readItem_154 (by decide) ?_
              refine lv_bipush (v := 63) hx hb dX13_readItem_155 (by decide) ?_
              cases g32 : fX13_number r8.2 0 63 with
              | none => rw [g32] at h; cases h
              | some r33 =>
                rw [g32, Option.bind_some] at h
                refine x_backi (va_runV (C := RX13) (b := (xa E 186)) (As := [.int 0, .int 63]) (rest := []) F.1 (mX13_number l E r8.2 0 63 r33.1 r33.2 g32) (cwV 2 hts (lw_V q1654 q1656 qs95 q115 q1657) rfl rfl rfl (by decide +kernel) ⟨Nat.le_of_ble_eq_true rfl, Nat.le_of_ble_eq_true rfl⟩) ⟨xPc.blind, va_recv hK (xO_M hW) (ci := 13) (q0 := 0) rfl rfl, F.pre hW hS (.ref (xa E 186) :: [.int 0, .int 63])⟩ rfl rfl hl.1 rfl (lv_room (Nat.le_of_ble_eq_true rfl)) dX13_readItem_157 ⟨Nat.le_refl _, Nat.le_refl _⟩) hS (fun H locs hW hS => ?_)
                refine lv_istore_n (lv' := [(2, .int r33.1), (1, .int r2), (0, .ref (xa E 186))]) hx hb dX13_readItem_160 rfl hl (by decide) rfl (fun ls hl => ?_)
                refine lv_aload_n hx hb dX13_readItem_161 rfl (lv_at hl 2 rfl) ?_
                refine lv_bipush (v := 102) hx hb dX13_readItem_162 (by decide) ?_
                refine lv_iload_n hx hb dX13_readItem_164 rfl (lv_at hl 0 rfl) ?_
                refine lv_iadd hx hb dX13_readItem_165 ?_
                refine lv_aload_n hx hb dX13_readItem_166 rfl (lv_at hl 2 rfl) ?_
                refine lv_iconst (v := 0) hx hb dX13_readItem_167 (by decide) ?_
                refine lv_bipush (v := 9) hx hb dX13_readItem_168 (by decide) ?_
                cases g34 : fX13_number r33.2 0 9 with
                | none => rw [g34] at h; cases h
                | some r35 =>
                  rw [g34, Option.bind_some] at h
                  refine x_backi (va_runV (C := RX13) (b := (xa E 186)) (As := [.int 0, .int 9]) (rest := [.int (102 + r33.1), .ref (xa E 186)]) F.1 (mX13_number l E r33.2 0 9 r35.1 r35.2 g34) (cwV 2 hts (lw_V q1654 q1656 qs95 q115 q1657) rfl rfl rfl (by decide +kernel) ⟨Nat.le_of_ble_eq_true rfl, Nat.le_of_ble_eq_true rfl⟩) ⟨xPc.blind, va_recv hK (xO_M hW) (ci := 13) (q0 := 0) rfl rfl, F.pre hW hS (.ref (xa E 186) :: [.int 0, .int 9])⟩ rfl rfl hl.1 rfl (lv_room (Nat.le_of_ble_eq_true rfl)) dX13_readItem_170 ⟨Nat.le_refl _, Nat.le_refl _⟩) hS (fun H locs hW hS => ?_)
                  refine lv_iconst (v := 0) hx hb dX13_readItem_173 (by decide) ?_
                  refine lv_iconst (v := 0) hx hb dX13_readItem_174 (by decide) ?_
                  cases g36 : fX13_item r35.2 (102 + r33.1) r35.1 0 0 with
                  | none => rw [g36] at h; cases h
                  | some r37 =>
                    rw [g36, Option.bind_some] at h
                    refine x_backv (va_runV (C := RX13) (b := (xa E 186)) (As := [.int (102 + r33.1), .int r35.1, .int 0, .int 0]) (rest := []) F.1 (mX13_item l E r35.2 (102 + r33.1) r35.1 0 0 r37 g36) (cwV 4 hts (lw_V q1660 q1662 qs96 q115 q1663) rfl rfl rfl (by decide +kernel) ⟨Nat.le_of_ble_eq_true rfl, Nat.le_of_ble_eq_true rfl⟩) ⟨xPc.blind, va_recv hK (xO_M hW) (ci := 13) (q0 := 0) rfl rfl, F.pre hW hS (.ref (xa E 186) :: [.int (102 + r33.1), .int r35.1, .int 0, .int 0])⟩ rfl rfl hl.1 rfl (lv_room (Nat.le_of_ble_eq_true rfl)) dX13_readItem_175 ⟨Nat.le_refl _, Nat.le_refl _⟩) hS (fun H locs hW hS => ?_)
                    refine lv_goto (tgt := 258) hx hb dX13_readItem_178 (by decide) ?_
                    have h := Option.some.inj h; subst h
                    exact x_vret F hr hlk hW hS dX13_readItem_258
        · rw [if_neg c6] at h
          refine lv_aload_n hx hb dX13_readItem_123 rfl (lv_at hl 1 rfl) ?_
          refine lv_bipush (v := 38) hx hb dX13_readItem_124 (by decide) ?_
          refine lv_aload_n hx hb dX13_readItem_126 rfl (lv_at hl 1 rfl) ?_
          refine lv_iconst (v := 0) hx hb dX13_readItem_127 (by decide) ?_
          refine lv_bipush (v := 63) hx hb dX13_readItem_128 (by decide) ?_
          cases g38 : fX13_number r5.2 0 63 with
          | none => rw [g38] at h; cases h
          | some r39 =>
            rw [g38, Option.bind_some] at h
            refine x_backi (va_runV (C := RX13) (b := (xa E 186)) (As := [.int 0, .int 63]) (rest := [.int 38, .ref (xa E 186)]) F.1 (mX13_number l E r5.2 0 63 r39.1 r39.2 g38) (cwV 2 hts (lw_V q1654 q1656 qs95 q115 q1657) rfl rfl rfl (by decide +kernel) ⟨Nat.le_of_ble_eq_true rfl, Nat.le_of_ble_eq_true rfl⟩) ⟨xPc.blind, va_recv hK (xO_M hW) (ci := 13) (q0 := 0) rfl rfl, F.pre hW hS (.ref (xa E 186) :: [.int 0, .int 63])⟩ rfl rfl hl.1 rfl (lv_room (Nat.le_of_ble_eq_true rfl)) dX13_readItem_130 ⟨Nat.le_refl _, Nat.le_refl _⟩) hS (fun H locs hW hS => ?_)
            refine lv_iadd hx hb dX13_readItem_133 ?_
            refine lv_iconst (v := 1) hx hb dX13_readItem_134 (by decide) ?_
            refine lv_iconst (v := 0) hx hb dX13_readItem_135 (by decide) ?_
            refine lv_iconst (v := 0) hx hb dX13_readItem_136 (by decide) ?_
            cases g40 : fX13_item r39.2 (38 + r39.1) 1 0 0 with
            | none => rw [g40] at h; cases h
            | some r41 =>
              rw [g40, Option.bind_some] at h
              refine x_backv (va_runV (C := RX13) (b := (xa E 186)) (As := [.int (38 + r39.1), .int 1, .int 0, .int 0]) (rest := []) F.1 (mX13_item l E r39.2 (38 + r39.1) 1 0 0 r41 g40) (cwV 4 hts (lw_V q1660 q1662 qs96 q115 q1663) rfl rfl rfl (by decide +kernel) ⟨Nat.le_of_ble_eq_true rfl, Nat.le_of_ble_eq_true rfl⟩) ⟨xPc.blind, va_recv hK (xO_M hW) (ci := 13) (q0 := 0) rfl rfl, F.pre hW hS (.ref (xa E 186) :: [.int (38 + r39.1), .int 1, .int 0, .int 0])⟩ rfl rfl hl.1 rfl (lv_room (Nat.le_of_ble_eq_true rfl)) dX13_readItem_137 ⟨Nat.le_refl _, Nat.le_refl _⟩) hS (fun H locs hW hS => ?_)
              refine lv_goto (tgt := 258) hx hb dX13_readItem_140 (by decide) ?_
              have h := Option.some.inj h; subst h
              exact x_vret F hr hlk hW hS dX13_readItem_258
    · rw [if_neg c3] at h
      refine lv_aload_n hx hb dX13_readItem_9 rfl (lv_at hl 1 rfl) ?_
      refine lv_aload_n hx hb dX13_readItem_10 rfl (lv_at hl 1 rfl) ?_
      refine va_get (D := xD E) (ci := 13) (v := .int (σ 24 9)) (C := RX13) (T := TX13) (N := 24) hx hb hts in_X13 hown hK (xO_M hW) 0 rfl rfl 19 (by decide) (hts _ q1215) (fun _ h9 => h9) rfl dX13_readItem_11 ?_
      refine lv_bipush (v := 8) hx hb dX13_readItem_14 (by decide) ?_
      refine lv_icmp_ge (tgt := 23) hx hb dX13_readItem_16 (by decide) (fun c42 => ?_) (fun c42 => ?_)
      · rw [if_pos c42] at h
        refine lv_iconst (v := 0) hx hb dX13_readItem_23 (by decide) ?_
        cases g43 : fX13_must σ 0 with
        | none => rw [g43] at h; cases h
        | some r44 =>
          rw [g43, Option.bind_some] at h
          refine x_backv (va_runV (C := RX13) (b := (xa E 186)) (As := [.int 0]) (rest := []) F.1 (mX13_must l E σ 0 r44 g43) (cwV 1 hts (lw_V q1645 q1647 qs93 q115 q1648) rfl rfl rfl (by decide +kernel) ⟨Nat.le_of_ble_eq_true rfl, Nat.le_of_ble_eq_true rfl⟩) ⟨xPc.blind, va_recv hK (xO_M hW) (ci := 13) (q0 := 0) rfl rfl, F.pre hW hS (.ref (xa E 186) :: [.int 0])⟩ rfl rfl hl.1 rfl (lv_room (Nat.le_of_ble_eq_true rfl)) dX13_readItem_24 ⟨Nat.le_refl _, Nat.le_refl _⟩) hS (fun H locs hW hS => ?_)
          refine lv_aload_n hx hb dX13_readItem_27 rfl (lv_at hl 1 rfl) ?_
          refine lv_dup hx hb dX13_readItem_28 rfl ?_
          refine va_get (D := xD E) (ci := 13) (v := .int (r44 24 9)) (C := RX13) (T := TX13) (N := 24) hx hb hts in_X13 hown hK (xO_M hW) 0 rfl rfl 19 (by decide) (hts _ q1215) (fun _ h9 => h9) rfl dX13_readItem_29 ?_
          refine lv_iconst (v := 1) hx hb dX13_readItem_32 (by decide) ?_
          refine lv_iadd hx hb dX13_readItem_33 ?_
          refine x_put (C := RX13) (T := TX13) (N := 24) (ci := 13) (ty := .int) F hW hS in_X13 tyX13 tyX13_ok nmX13 rfl 186 19 24 9 (by decide) rfl (by decide) rfl (by decide) (hts _ q1215) (fun _ h9 => h9) rfl (by decide +kernel) rfl rfl dX13_readItem_34 (fun H locs hW hS => ?_)
          refine lv_aload_n hx hb dX13_readItem_37 rfl (lv_at hl 1 rfl) ?_
          refine va_ldcSw hx hb hown (xk_7 F.2.1) dX13_readItem_38 ?_
          cases g45 : fX13_isNext (xup r44 24 9 ((r44 24 9) + 1)) 7 with
          | none => rw [g45] at h; cases h
          | some r46 =>
            rw [g45, Option.bind_some] at h
            refine x_backi (va_runV (C := RX13) (b := (xa E 186)) (As := [.ref (xks E 7)]) (rest := []) F.1 (mX13_isNext l E (xup r44 24 9 ((r44 24 9) + 1)) 7 (by decide) r46.1 r46.2 g45) (cwV 1 hts (lw_V q1650 q1652 qs94 q115 q1653) rfl rfl rfl (by decide +kernel) ⟨Nat.le_of_ble_eq_true rfl, Nat.le_of_ble_eq_true rfl⟩) ⟨xPc.blind, va_recv hK (xO_M hW) (ci := 13) (q0 := 0) rfl rfl, F.pre hW hS (.ref (xa E 186) :: [.ref (xks E 7)])⟩ rfl rfl hl.1 rfl (lv_room (Nat.le_of_ble_eq_true rfl)) dX13_readItem_41 ⟨Nat.le_refl _, Nat.le_refl _⟩) hS (fun H locs hW hS => ?_)
            refine lv_if_eq (tgt := 57) hx hb dX13_readItem_44 (by decide) (fun c47 => ?_) (fun c47 => ?_)
            · rw [if_pos c47] at h
              refine lv_iconst (v := 0) hx hb dX13_readItem_57 (by decide) ?_
              refine lv_istore_n (lv' := [(2, .int 0), (1, .int r2), (0, .ref (xa E 186))]) hx hb dX13_readItem_58 rfl hl (by decide) rfl (fun ls hl => ?_)
              refine lv_aload_n hx hb dX13_readItem_59 rfl (lv_at hl 2 rfl) ?_
              refine va_ldcSw hx hb hown (xk_8 F.2.1) dX13_readItem_60 ?_
              cases g48 : fX13_isNext r46.2 8 with
              | none => rw [g48] at h; cases h
              | some r49 =>
                rw [g48, Option.bind_some] at h
                refine x_backi (va_runV (C := RX13) (b := (xa E 186)) (As := [.ref (xks E 8)]) (rest := []) F.1 (mX13_isNext l E r46.2 8 (by decide) r49.1 r49.2 g48) (cwV 1 hts (lw_V q1650 q1652 qs94 q115 q1653) rfl rfl rfl (by decide +kernel) ⟨Nat.le_of_ble_eq_true rfl, Nat.le_of_ble_eq_true rfl⟩) ⟨xPc.blind, va_recv hK (xO_M hW) (ci := 13) (q0 := 0) rfl rfl, F.pre hW hS (.ref (xa E 186) :: [.ref (xks E 8)])⟩ rfl rfl hl.1 rfl (lv_room (Nat.le_of_ble_eq_true rfl)) dX13_readItem_63 ⟨Nat.le_refl _, Nat.le_refl _⟩) hS (fun H locs hW hS => ?_)
                refine lv_if_eq (tgt := 79) hx hb dX13_readItem_66 (by decide) (fun c50 => ?_) (fun c50 => ?_)
                · rw [if_pos c50] at h
                  refine lv_iconst (v := 0) hx hb dX13_readItem_79 (by decide) ?_
                  refine lv_istore_n (lv' := [(3, .int 0), (2, .int 0), (1, .int r2), (0, .ref (xa E 186))]) hx hb dX13_readItem_80 rfl hl (by decide) rfl (fun ls hl => ?_)
                  refine lv_aload_n hx hb dX13_readItem_81 rfl (lv_at hl 3 rfl) ?_
                  refine lv_iload_n hx hb dX13_readItem_82 rfl (lv_at hl 2 rfl) ?_
                  refine lv_iload_n hx hb dX13_readItem_83 rfl (lv_at hl 1 rfl) ?_
                  refine lv_iload_n hx hb dX13_readItem_84 rfl (lv_at hl 0 rfl) ?_
                  refine lv_aload_n hx hb dX13_readItem_85 rfl (lv_at hl 3 rfl) ?_
                  refine va_ldcSw hx hb hown (xk_9 F.2.1) dX13_readItem_86 ?_
                  cases g51 : fX13_isNext r49.2 9 with
                  | none => rw [g51] at h; cases h
                  | some r52 =>
                    rw [g51, Option.bind_some] at h
                    refine x_backi (va_runV (C := RX13) (b := (xa E 186)) (As := [.ref (xks E 9)]) (rest := [.int 0, .int 0, .int r2, .ref (xa E 186)]) F.1 (mX13_isNext l E r49.2 9 (by decide) r52.1 r52.2 g51) (cwV 1 hts (lw_V q1650 q1652 qs94 q115 q1653) rfl rfl rfl (by decide +kernel) ⟨Nat.le_of_ble_eq_true rfl, Nat.le_of_ble_eq_true rfl⟩) ⟨xPc.blind, va_recv hK (xO_M hW) (ci := 13) (q0 := 0) rfl rfl, F.pre hW hS (.ref (xa E 186) :: [.ref (xks E 9)])⟩ rfl rfl hl.1 rfl (lv_room (Nat.le_of_ble_eq_true rfl)) dX13_readItem_89 ⟨Nat.le_refl _, Nat.le_refl _⟩) hS (fun H locs hW hS => ?_)
                    refine lv_if_eq (tgt := 105) hx hb dX13_readItem_92 (by decide) (fun c53 => ?_) (fun c53 => ?_)
                    · rw [if_pos c53] at h
                      refine lv_bipush (v := 10) hx hb dX13_readItem_105 (by decide) ?_
                      cases g54 : fX13_item r52.2 r2 0 0 10 with
                      | none => rw [g54] at h; cases h
                      | some r55 =>
                        rw [g54, Option.bind_some] at h
                        refine x_backv (va_runV (C := RX13) (b := (xa E 186)) (As := [.int r2, .int 0, .int 0, .int 10]) (rest := []) F.1 (mX13_item l E r52.2 r2 0 0 10 r55 g54) (cwV 4 hts (lw_V q1660 q1662 qs96 q115 q1663) rfl rfl rfl (by decide +kernel) ⟨Nat.le_of_ble_eq_true rfl, Nat.le_of_ble_eq_true rfl⟩) ⟨xPc.blind, va_recv hK (xO_M hW) (ci := 13) (q0 := 0) rfl rfl, F.pre hW hS (.ref (xa E 186) :: [.int r2, .int 0, .int 0, .int 10])⟩ rfl rfl hl.1 rfl (lv_room (Nat.le_of_ble_eq_true rfl)) dX13_readItem_107 ⟨Nat.le_refl _, Nat.le_refl _⟩) hS (fun H locs hW hS => ?_)
                        refine lv_goto (tgt := 258) hx hb dX13_readItem_110 (by decide) ?_
                        have h := Option.some.inj h; subst h
                        exact x_vret F hr hlk hW hS dX13_readItem_258
                    · rw [if_neg c53] at h
                      refine lv_aload_n hx hb dX13_readItem_95 rfl (lv_at hl 3 rfl) ?_
                      refine lv_iconst (v := 1) hx hb dX13_readItem_96 (by decide) ?_
                      refine lv_bipush (v := 99) hx hb dX13_readItem_97 (by decide) ?_
                      cases g56 : fX13_number r52.2 1 99 with
                      | none => rw [g56] at h; cases h
                      | some r57 =>
                        rw [g56, Option.bind_some] at h
                        refine x_backi (va_runV (C := RX13) (b := (xa E 186)) (As := [.int 1, .int 99]) (rest := [.int 0, .int 0, .int r2, .ref (xa E 186)]) F.1 (mX13_number l E r52.2 1 99 r57.1 r57.2 g56) (cwV 2 hts (lw_V q1654 q1656 qs95 q115 q1657) rfl rfl rfl (by decide +kernel) ⟨Nat.le_of_ble_eq_true rfl, Nat.le_of_ble_eq_true rfl⟩) ⟨xPc.blind, va_recv hK (xO_M hW) (ci := 13) (q0 := 0) rfl rfl, F.pre hW hS (.ref (xa E 186) :: [.int 1, .int 99])⟩ rfl rfl hl.1 rfl (lv_room (Nat.le_of_ble_eq_true rfl)) dX13_readItem_99 ⟨Nat.le_refl _, Nat.le_refl _⟩) hS (fun H locs hW hS => ?_)
                        refine lv_goto (tgt := 107) hx hb dX13_readItem_102 (by decide) ?_
                        cases g58 : fX13_item r57.2 r2 0 0 r57.1 with
                        | none => rw [g58] at h; cases h
                        | some r59 =>
                          rw [g58, Option.bind_some] at h
                          refine x_backv (va_runV (C := RX13) (b := (xa E 186)) (As := [.int r2, .int 0, .int 0, .int r57.1]) (rest := []) F.1 (mX13_item l E r57.2 r2 0 0 r57.1 r59 g58) (cwV 4 hts (lw_V q1660 q1662 qs96 q115 q1663) rfl rfl rfl (by decide +kernel) ⟨Nat.le_of_ble_eq_true rfl, Nat.le_of_ble_eq_true rfl⟩) ⟨xPc.blind, va_recv hK (xO_M hW) (ci := 13) (q0 := 0) rfl rfl, F.pre hW hS (.ref (xa E 186) :: [.int r2, .int 0, .int 0, .int r57.1])⟩ rfl rfl hl.1 rfl (lv_room (Nat.le_of_ble_eq_true rfl)) dX13_readItem_107 ⟨Nat.le_refl _, Nat.le_refl _⟩) hS (fun H locs hW hS => ?_)
                          refine lv_goto (tgt := 258) hx hb dX13_readItem_110 (by decide) ?_
                          have h := Option.some.inj h; subst h
                          exact x_vret F hr hlk hW hS dX13_readItem_258
                · rw [if_neg c50] at h
                  refine lv_aload_n hx hb dX13_readItem_69 rfl (lv_at hl 2 rfl) ?_
                  refine lv_iconst (v := 0) hx hb dX13_readItem_70 (by decide) ?_
                  refine lv_bipush (v := 11) hx hb dX13_readItem_71 (by decide) ?_
                  cases g60 : fX13_number r49.2 0 11 with
                  | none => rw [g60] at h; cases h
                  | some r61 =>
                    rw [g60, Option.bind_some] at h
                    refine x_backi (va_runV (C := RX13) (b := (xa E 186)) (As := [.int 0, .int 11]) (rest := []) F.1 (mX13_number l E r49.2 0 11 r61.1 r61.2 g60) (cwV 2 hts (lw_V q1654 q1656 qs95 q115 q1657) rfl rfl rfl (by decide +kernel) ⟨Nat.le_of_ble_eq_true rfl, Nat.le_of_ble_eq_true rfl⟩) ⟨xPc.blind, va_recv hK (xO_M hW) (ci := 13) (q0 := 0) rfl rfl, F.pre hW hS (.ref (xa E 186) :: [.int 0, .int 11])⟩ rfl rfl hl.1 rfl (lv_room (Nat.le_of_ble_eq_true rfl)) dX13_readItem_73 ⟨Nat.le_refl _, Nat.le_refl _⟩) hS (fun H locs hW hS => ?_)
                    refine lv_goto (tgt := 80) hx hb dX13_readItem_76 (by decide) ?_
                    refine lv_istore_n (lv' := [(3, .int r61.1), (2, .int 0), (1, .int r2), (0, .ref (xa E 186))]) hx hb dX13_readItem_80 rfl hl (by decide) rfl (fun ls hl => ?_)
                    refine lv_aload_n hx hb dX13_readItem_81 rfl (lv_at hl 3 rfl) ?_
                    refine lv_iload_n hx hb dX13_readItem_82 rfl (lv_at hl 2 rfl) ?_
                    refine lv_iload_n hx hb dX13_readItem_83 rfl (lv_at hl 1 rfl) ?_
                    refine lv_iload_n hx hb dX13_readItem_84 rfl (lv_at hl 0 rfl) ?_
                    refine lv_aload_n hx hb dX13_readItem_85 rfl (lv_at hl 3 rfl) ?_
                    refine va_ldcSw hx hb hown (xk_9 F.2.1) dX13_readItem_86 ?_
                    cases g62 : fX13_isNext r61.2 9 with
                    | none => rw [g62] at h; cases h
                    | some r63 =>
                      rw [g62, Option.bind_some] at h
                      refine x_backi (va_runV (C := RX13) (b := (xa E 186)) (As := [.ref (xks E 9)]) (rest := [.int r61.1, .int 0, .int r2, .ref (xa E 186)]) F.1 (mX13_isNext l E r61.2 9 (by decide) r63.1 r63.2 g62) (cwV 1 hts (lw_V q1650 q1652 qs94 q115 q1653) rfl rfl rfl (by decide +kernel) ⟨Nat.le_of_ble_eq_true rfl, Nat.le_of_ble_eq_true rfl⟩) ⟨xPc.blind, va_recv hK (xO_M hW) (ci := 13) (q0 := 0) rfl rfl, F.pre hW hS (.ref (xa E 186) :: [.ref (xks E 9)])⟩ rfl rfl hl.1 rfl (lv_room (Nat.le_of_ble_eq_true rfl)) dX13_readItem_89 ⟨Nat.le_refl _, Nat.le_refl _⟩) hS (fun H locs hW hS => ?_)
                      refine lv_if_eq (tgt := 105) hx hb dX13_readItem_92 (by decide) (fun c64 => ?_) (fun c64 => ?_)
                      · rw [if_pos c64] at h
                        refine lv_bipush (v := 10) hx hb dX13_readItem_105 (by decide) ?_
                        cases g65 : fX13_item r63.2 r2 0 r61.1 10 with
                        | none => rw [g65] at h; cases h
                        | some r66 =>
                          rw [g65, Option.bind_some] at h
                          refine x_backv (va_runV (C := RX13) (b := (xa E 186)) (As := [.int r2, .int 0, .int r61.1, .int 10]) (rest := []) F.1 (mX13_item l E r63.2 r2 0 r61.1 10 r66 g65) (cwV 4 hts (lw_V q1660 q1662 qs96 q115 q1663) rfl rfl rfl (by decide +kernel) ⟨Nat.le_of_ble_eq_true rfl, Nat.le_of_ble_eq_true rfl⟩) ⟨xPc.blind, va_recv hK (xO_M hW) (ci := 13) (q0 := 0) rfl rfl, F.pre hW hS (.ref (xa E 186) :: [.int r2, .int 0, .int r61.1, .int 10])⟩ rfl rfl hl.1 rfl (lv_room (Nat.le_of_ble_eq_true rfl)) dX13_readItem_107 ⟨Nat.le_refl _, Nat.le_refl _⟩) hS (fun H locs hW hS => ?_)
                          refine lv_goto (tgt := 258) hx hb dX13_readItem_110 (by decide) ?_
                          have h := Option.some.inj h; subst h
                          exact x_vret F hr hlk hW hS dX13_readItem_258
                      · rw [if_neg c64] at h
                        refine lv_aload_n hx hb dX13_readItem_95 rfl (lv_at hl 3 rfl) ?_
                        refine lv_iconst (v := 1) hx hb dX13_readItem_96 (by decide) ?_
                        refine lv_bipush (v := 99) hx hb dX13_readItem_97 (by decide) ?_
                        cases g67 : fX13_number r63.2 1 99 with
                        | none => rw [g67] at h; cases h
                        | some r68 =>
                          rw [g67, Option.bind_some] at h
                          refine x_backi (va_runV (C := RX13) (b := (xa E 186)) (As := [.int 1, .int 99]) (rest := [.int r61.1, .int 0, .int r2, .ref (xa E 186)]) F.1 (mX13_number l E r63.2 1 99 r68.1 r68.2 g67) (cwV 2 hts (lw_V q1654 q1656 qs95 q115 q1657) rfl rfl rfl (by decide +kernel) ⟨Nat.le_of_ble_eq_true rfl, Nat.le_of_ble_eq_true rfl⟩) ⟨xPc.blind, va_recv hK (xO_M hW) (ci := 13) (q0 := 0) rfl rfl, F.pre hW hS (.ref (xa E 186) :: [.int 1, .int 99])⟩ rfl rfl hl.1 rfl (lv_room (Nat.le_of_ble_eq_true rfl)) dX13_readItem_99 ⟨Nat.le_refl _, Nat.le_refl _⟩) hS (fun H locs hW hS => ?_)
                          refine lv_goto (tgt := 107) hx hb dX13_readItem_102 (by decide) ?_
                          cases g69 : fX13_item r68.2 r2 0 r61.1 r68.1 with
                          | none => rw [g69] at h; cases h
                          | some r70 =>
                            rw [g69, Option.bind_some] at h
                            refine x_backv (va_runV (C := RX13) (b := (xa E 186)) (As := [.int r2, .int 0, .int r61.1, .int r68.1]) (rest := []) F.1 (mX13_item l E r68.2 r2 0 r61.1 r68.1 r70 g69) (cwV 4 hts (lw_V q1660 q1662 qs96 q115 q1663) rfl rfl rfl (by decide +kernel) ⟨Nat.le_of_ble_eq_true rfl, Nat.le_of_ble_eq_true rfl⟩) ⟨xPc.blind, va_recv hK (xO_M hW) (ci := 13) (q0 := 0) rfl rfl, F.pre hW hS (.ref (xa E 186) :: [.int r2, .int 0, .int r61.1, .int r68.1])⟩ rfl rfl hl.1 rfl (lv_room (Nat.le_of_ble_eq_true rfl)) dX13_readItem_107 ⟨Nat.le_refl _, Nat.le_refl _⟩) hS (fun H locs hW hS => ?_)
                            refine lv_goto (tgt := 258) hx hb dX13_readItem_110 (by decide) ?_
                            have h := Option.some.inj h; subst h
                            exact x_vret F hr hlk hW hS dX13_readItem_258
            · rw [if_neg c47] at h
              refine lv_aload_n hx hb dX13_readItem_47 rfl (lv_at hl 1 rfl) ?_
              refine lv_iconst (v := 0) hx hb dX13_readItem_48 (by decide) ?_
              refine lv_bipush (v := 63) hx hb dX13_readItem_49 (by decide) ?_
              cases g71 : fX13_number r46.2 0 63 with
              | none => rw [g71] at h; cases h
              | some r72 =>
                rw [g71, Option.bind_some] at h
                refine x_backi (va_runV (C := RX13) (b := (xa E 186)) (As := [.int 0, .int 63]) (rest := []) F.1 (mX13_number l E r46.2 0 63 r72.1 r72.2 g71) (cwV 2 hts (lw_V q1654 q1656 qs95 q115 q1657) rfl rfl rfl (by decide +kernel) ⟨Nat.le_of_ble_eq_true rfl, Nat.le_of_ble_eq_true rfl⟩) ⟨xPc.blind, va_recv hK (xO_M hW) (ci := 13) (q0 := 0) rfl rfl, F.pre hW hS (.ref (xa E 186) :: [.int 0, .int 63])⟩ rfl rfl hl.1 rfl (lv_room (Nat.le_of_ble_eq_true rfl)) dX13_readItem_51 ⟨Nat.le_refl _, Nat.le_refl _⟩) hS (fun H locs hW hS => ?_)
                refine lv_goto (tgt := 58) hx hb dX13_readItem_54 (by decide) ?_
                refine lv_istore_n (lv' := [(2, .int r72.1), (1, .int r2), (0, .ref (xa E 186))]) hx hb dX13_readItem_58 rfl hl (by decide) rfl (fun ls hl => ?_)
                refine lv_aload_n hx hb dX13_readItem_59 rfl (lv_at hl 2 rfl) ?_
                refine va_ldcSw hx hb hown (xk_8 F.2.1) dX13_readItem_60 ?_
                cases g73 : fX13_isNext r72.2 8 with
                | none => rw [g73] at h; cases h
                | some r74 =>
                  rw [g73, Option.bind_some] at h
                  refine x_backi (va_runV (C := RX13) (b := (xa E 186)) (As := [.ref (xks E 8)]) (rest := []) F.1 (mX13_isNext l E r72.2 8 (by decide) r74.1 r74.2 g73) (cwV 1 hts (lw_V q1650 q1652 qs94 q115 q1653) rfl rfl rfl (by decide +kernel) ⟨Nat.le_of_ble_eq_true rfl, Nat.le_of_ble_eq_true rfl⟩) ⟨xPc.blind, va_recv hK (xO_M hW) (ci := 13) (q0 := 0) rfl rfl, F.pre hW hS (.ref (xa E 186) :: [.ref (xks E 8)])⟩ rfl rfl hl.1 rfl (lv_room (Nat.le_of_ble_eq_true rfl)) dX13_readItem_63 ⟨Nat.le_refl _, Nat.le_refl _⟩) hS (fun H locs hW hS => ?_)
                  refine lv_if_eq (tgt := 79) hx hb dX13_readItem_66 (by decide) (fun c75 => ?_) (fun c75 => ?_)
                  · rw [if_pos c75] at h
                    refine lv_iconst (v := 0) hx hb dX13_readItem_79 (by decide) ?_
                    refine lv_istore_n (lv' := [(3, .int 0), (2, .int r72.1), (1, .int r2), (0, .ref (xa E 186))]) hx hb dX13_readItem_80 rfl hl (by decide) rfl (fun ls hl => ?_)
                    refine lv_aload_n hx hb dX13_readItem_81 rfl (lv_at hl 3 rfl) ?_
                    refine lv_iload_n hx hb dX13_readItem_82 rfl (lv_at hl 2 rfl) ?_
                    refine lv_iload_n hx hb dX13_readItem_83 rfl (lv_at hl 1 rfl) ?_
                    refine lv_iload_n hx hb dX13_readItem_84 rfl (lv_at hl 0 rfl) ?_
                    refine lv_aload_n hx hb dX13_readItem_85 rfl (lv_at hl 3 rfl) ?_
                    refine va_ldcSw hx hb hown (xk_9 F.2.1) dX13_readItem_86 ?_
                    cases g76 : fX13_isNext r74.2 9 with
                    | none => rw [g76] at h; cases h
                    | some r77 =>
                      rw [g76, Option.bind_some] at h
                      refine x_backi (va_runV (C := RX13) (b := (xa E 186)) (As := [.ref (xks E 9)]) (rest := [.int 0, .int r72.1, .int r2, .ref (xa E 186)]) F.1 (mX13_isNext l E r74.2 9 (by decide) r77.1 r77.2 g76) (cwV 1 hts (lw_V q1650 q1652 qs94 q115 q1653) rfl rfl rfl (by decide +kernel) ⟨Nat.le_of_ble_eq_true rfl, Nat.le_of_ble_eq_true rfl⟩) ⟨xPc.blind, va_recv hK (xO_M hW) (ci := 13) (q0 := 0) rfl rfl, F.pre hW hS (.ref (xa E 186) :: [.ref (xks E 9)])⟩ rfl rfl hl.1 rfl (lv_room (Nat.le_of_ble_eq_true rfl)) dX13_readItem_89 ⟨Nat.le_refl _, Nat.le_refl _⟩) hS (fun H locs hW hS => ?_)
                      refine lv_if_eq (tgt := 105) hx hb dX13_readItem_92 (by decide) (fun c78 => ?_) (fun c78 => ?_)
                      · rw [if_pos c78] at h
                        refine lv_bipush (v := 10) hx hb dX13_readItem_105 (by decide) ?_
                        cases g79 : fX13_item r77.2 r2 r72.1 0 10 with
                        | none => rw [g79] at h; cases h
                        | some r80 =>
                          rw [g79, Option.bind_some] at h
                          refine x_backv (va_runV (C := RX13) (b := (xa E 186)) (As := [.int r2, .int r72.1, .int 0, .int 10]) (rest := []) F.1 (mX13_item l E r77.2 r2 r72.1 0 10 r80 g79) (cwV 4 hts (lw_V q1660 q1662 qs96 q115 q1663) rfl rfl rfl (by decide +kernel) ⟨Nat.le_of_ble_eq_true rfl, Nat.le_of_ble_eq_true rfl⟩) ⟨xPc.blind, va_recv hK (xO_M hW) (ci := 13) (q0 := 0) rfl rfl, F.pre hW hS (.ref (xa E 186) :: [.int r2, .int r72.1, .int 0, .int 10])⟩ rfl rfl hl.1 rfl (lv_room (Nat.le_of_ble_eq_true rfl)) dX13_readItem_107 ⟨Nat.le_refl _, Nat.le_refl _⟩) hS (fun H locs hW hS => ?_)
                          refine lv_goto (tgt := 258) hx hb dX13_readItem_110 (by decide) ?_
                          have h := Option.some.inj h; subst h
                          exact x_vret F hr hlk hW hS dX13_readItem_258
                      · rw [if_neg c78] at h
                        refine lv_aload_n hx hb dX13_readItem_95 rfl (lv_at hl 3 rfl) ?_
                        refine lv_iconst (v := 1) hx hb dX13_readItem_96 (by decide) ?_
                        refine lv_bipush (v := 99) hx hb dX13_readItem_97 (by decide) ?_
                        cases g81 : fX13_number r77.2 1 99 with
                        | none => rw [g81] at h; cases h
                        | some r82 =>
                          rw [g81, Option.bind_some] at h
                          refine x_backi (va_runV (C := RX13) (b := (xa E 186)) (As := [.int 1, .int 99]) (rest := [.int 0, .int r72.1, .int r2, .ref (xa E 186)]) F.1 (mX13_number l E r77.2 1 99 r82.1 r82.2 g81) (cwV 2 hts (lw_V q1654 q1656 qs95 q115 q1657) rfl rfl rfl (by decide +kernel) ⟨Nat.le_of_ble_eq_true rfl, Nat.le_of_ble_eq_true rfl⟩) ⟨xPc.blind, va_recv hK (xO_M hW) (ci := 13) (q0 := 0) rfl rfl, F.pre hW hS (.ref (xa E 186) :: [.int 1, .int 99])⟩ rfl rfl hl.1 rfl (lv_room (Nat.le_of_ble_eq_true rfl)) dX13_readItem_99 ⟨Nat.le_refl _, Nat.le_refl _⟩) hS (fun H locs hW hS => ?_)
                          refine lv_goto (tgt := 107) hx hb dX13_readItem_102 (by decide) ?_
                          cases g83 : fX13_item r82.2 r2 r72.1 0 r82.1 with
                          | none => rw [g83] at h; cases h
                          | some r84 =>
                            rw [g83, Option.bind_some] at h
                            refine x_backv (va_runV (C := RX13) (b := (xa E 186)) (As := [.int r2, .int r72.1, .int 0, .int r82.1]) (rest := []) F.1 (mX13_item l E r82.2 r2 r72.1 0 r82.1 r84 g83) (cwV 4 hts (lw_V q1660 q1662 qs96 q115 q1663) rfl rfl rfl (by decide +kernel) ⟨Nat.le_of_ble_eq_true rfl, Nat.le_of_ble_eq_true rfl⟩) ⟨xPc.blind, va_recv hK (xO_M hW) (ci := 13) (q0 := 0) rfl rfl, F.pre hW hS (.ref (xa E 186) :: [.int r2, .int r72.1, .int 0, .int r82.1])⟩ rfl rfl hl.1 rfl (lv_room (Nat.le_of_ble_eq_true rfl)) dX13_readItem_107 ⟨Nat.le_refl _, Nat.le_refl _⟩) hS (fun H locs hW hS => ?_)
                            refine lv_goto (tgt := 258) hx hb dX13_readItem_110 (by decide) ?_
                            have h := Option.some.inj h; subst h
                            exact x_vret F hr hlk hW hS dX13_readItem_258
                  · rw [if_neg c75] at h
                    refine lv_aload_n hx hb dX13_readItem_69 rfl (lv_at hl 2 rfl) ?_
                    refine lv_iconst (v := 0) hx hb dX13_readItem_70 (by decide) ?_
                    refine lv_bipush (v := 11) hx hb dX13_readItem_71 (by decide) ?_
                    cases g85 : fX13_number r74.2 0 11 with
                    | none => rw [g85] at h; cases h
                    | some r86 =>
                      rw [g85, Option.bind_some] at h
                      refine x_backi (va_runV (C := RX13) (b := (xa E 186)) (As := [.int 0, .int 11]) (rest := []) F.1 (mX13_number l E r74.2 0 11 r86.1 r86.2 g85) (cwV 2 hts (lw_V q1654 q1656 qs95 q115 q1657) rfl rfl rfl (by decide +kernel) ⟨Nat.le_of_ble_eq_true rfl, Nat.le_of_ble_eq_true rfl⟩) ⟨xPc.blind, va_recv hK (xO_M hW) (ci := 13) (q0 := 0) rfl rfl, F.pre hW hS (.ref (xa E 186) :: [.int 0, .int 11])⟩ rfl rfl hl.1 rfl (lv_room (Nat.le_of_ble_eq_true rfl)) dX13_readItem_73 ⟨Nat.le_refl _, Nat.le_refl _⟩) hS (fun H locs hW hS => ?_)
                      refine lv_goto (tgt := 80) hx hb dX13_readItem_76 (by decide) ?_
                      refine lv_istore_n (lv' := [(3, .int r86.1), (2, .int r72.1), (1, .int r2), (0, .ref (xa E 186))]) hx hb dX13_readItem_80 rfl hl (by decide) rfl (fun ls hl => ?_)
                      refine lv_aload_n hx hb dX13_readItem_81 rfl (lv_at hl 3 rfl) ?_
                      refine lv_iload_n hx hb dX13_readItem_82 rfl (lv_at hl 2 rfl) ?_
                      refine lv_iload_n hx hb dX13_readItem_83 rfl (lv_at hl 1 rfl) ?_
                      refine lv_iload_n hx hb dX13_readItem_84 rfl (lv_at hl 0 rfl) ?_
                      refine lv_aload_n hx hb dX13_readItem_85 rfl (lv_at hl 3 rfl) ?_
                      refine va_ldcSw hx hb hown (xk_9 F.2.1) dX13_readItem_86 ?_
                      cases g87 : fX13_isNext r86.2 9 with
                      | none => rw [g87] at h; cases h
                      | some r88 =>
                        rw [g87, Option.bind_some] at h
                        refine x_backi (va_runV (C := RX13) (b := (xa E 186)) (As := [.ref (xks E 9)]) (rest := [.int r86.1, .int r72.1, .int r2, .ref (xa E 186)]) F.1 (mX13_isNext l E r86.2 9 (by decide) r88.1 r88.2 g87) (cwV 1 hts (lw_V q1650 q1652 qs94 q115 q1653) rfl rfl rfl (by decide +kernel) ⟨Nat.le_of_ble_eq_true rfl, Nat.le_of_ble_eq_true rfl⟩) ⟨xPc.blind, va_recv hK (xO_M hW) (ci := 13) (q0 := 0) rfl rfl, F.pre hW hS (.ref (xa E 186) :: [.ref (xks E 9)])⟩ rfl rfl hl.1 rfl (lv_room (Nat.le_of_ble_eq_true rfl)) dX13_readItem_89 ⟨Nat.le_refl _, Nat.le_refl _⟩) hS (fun H locs hW hS => ?_)
                        refine lv_if_eq (tgt := 105) hx hb dX13_readItem_92 (by decide) (fun c89 => ?_) (fun c89 => ?_)
                        · rw [if_pos c89] at h
                          refine lv_bipush (v := 10) hx hb dX13_readItem_105 (by decide) ?_
                          cases g90 : fX13_item r88.2 r2 r72.1 r86.1 10 with
                          | none => rw [g90] at h; cases h
                          | some r91 =>
                            rw [g90, Option.bind_some] at h
                            refine x_backv (va_runV (C := RX13) (b := (xa E 186)) (As := [.int r2, .int r72.1, .int r86.1, .int 10]) (rest := []) F.1 (mX13_item l E r88.2 r2 r72.1 r86.1 10 r91 g90) (cwV 4 hts (lw_V q1660 q1662 qs96 q115 q1663) rfl rfl rfl (by decide +kernel) ⟨Nat.le_of_ble_eq_true rfl, Nat.le_of_ble_eq_true rfl⟩) ⟨xPc.blind, va_recv hK (xO_M hW) (ci := 13) (q0 := 0) rfl rfl, F.pre hW hS (.ref (xa E 186) :: [.int r2, .int r72.1, .int r86.1, .int 10])⟩ rfl rfl hl.1 rfl (lv_room (Nat.le_of_ble_eq_true rfl)) dX13_readItem_107 ⟨Nat.le_refl _, Nat.le_refl _⟩) hS (fun H locs hW hS => ?_)
                            refine lv_goto (tgt := 258) hx hb dX13_readItem_110 (by decide) ?_
                            have h := Option.some.inj h; subst h
                            exact x_vret F hr hlk hW hS dX13_readItem_258
                        · rw [if_neg c89] at h
                          refine lv_aload_n hx hb dX13_readItem_95 rfl (lv_at hl 3 rfl) ?_
                          refine lv_iconst (v := 1) hx hb dX13_readItem_96 (by decide) ?_
                          refine lv_bipush (v := 99) hx hb dX13_readItem_97 (by decide) ?_
                          cases g92 : fX13_number r88.2 1 99 with
                          | none => rw [g92] at h; cases h
                          | some r93 =>
                            rw [g92, Option.bind_some] at h
                            refine x_backi (va_runV (C := RX13) (b := (xa E 186)) (As := [.int 1, .int 99]) (rest := [.int r86.1, .int r72.1, .int r2, .ref (xa E 186)]) F.1 (mX13_number l E r88.2 1 99 r93.1 r93.2 g92) (cwV 2 hts (lw_V q1654 q1656 qs95 q115 q1657) rfl rfl rfl (by decide +kernel) ⟨Nat.le_of_ble_eq_true rfl, Nat.le_of_ble_eq_true rfl⟩) ⟨xPc.blind, va_recv hK (xO_M hW) (ci := 13) (q0 := 0) rfl rfl, F.pre hW hS (.ref (xa E 186) :: [.int 1, .int 99])⟩ rfl rfl hl.1 rfl (lv_room (Nat.le_of_ble_eq_true rfl)) dX13_readItem_99 ⟨Nat.le_refl _, Nat.le_refl _⟩) hS (fun H locs hW hS => ?_)
                            refine lv_goto (tgt := 107) hx hb dX13_readItem_102 (by decide) ?_
                            cases g94 : fX13_item r93.2 r2 r72.1 r86.1 r93.1 with
                            | none => rw [g94] at h; cases h
                            | some r95 =>
                              rw [g94, Option.bind_some] at h
                              refine x_backv (va_runV (C := RX13) (b := (xa E 186)) (As := [.int r2, .int r72.1, .int r86.1, .int r93.1]) (rest := []) F.1 (mX13_item l E r93.2 r2 r72.1 r86.1 r93.1 r95 g94) (cwV 4 hts (lw_V q1660 q1662 qs96 q115 q1663) rfl rfl rfl (by decide +kernel) ⟨Nat.le_of_ble_eq_true rfl, Nat.le_of_ble_eq_true rfl⟩) ⟨xPc.blind, va_recv hK (xO_M hW) (ci := 13) (q0 := 0) rfl rfl, F.pre hW hS (.ref (xa E 186) :: [.int r2, .int r72.1, .int r86.1, .int r93.1])⟩ rfl rfl hl.1 rfl (lv_room (Nat.le_of_ble_eq_true rfl)) dX13_readItem_107 ⟨Nat.le_refl _, Nat.le_refl _⟩) hS (fun H locs hW hS => ?_)
                              refine lv_goto (tgt := 258) hx hb dX13_readItem_110 (by decide) ?_
                              have h := Option.some.inj h; subst h
                              exact x_vret F hr hlk hW hS dX13_readItem_258
      · rw [if_neg c42] at h
        refine lv_iconst (v := 1) hx hb dX13_readItem_19 (by decide) ?_
        refine lv_goto (tgt := 24) hx hb dX13_readItem_20 (by decide) ?_
        cases g96 : fX13_must σ 1 with
        | none => rw [g96] at h; cases h
        | some r97 =>
          rw [g96, Option.bind_some] at h
          refine x_backv (va_runV (C := RX13) (b := (xa E 186)) (As := [.int 1]) (rest := []) F.1 (mX13_must l E σ 1 r97 g96) (cwV 1 hts (lw_V q1645 q1647 qs93 q115 q1648) rfl rfl rfl (by decide +kernel) ⟨Nat.le_of_ble_eq_true rfl, Nat.le_of_ble_eq_true rfl⟩) ⟨xPc.blind, va_recv hK (xO_M hW) (ci := 13) (q0 := 0) rfl rfl, F.pre hW hS (.ref (xa E 186) :: [.int 1])⟩ rfl rfl hl.1 rfl (lv_room (Nat.le_of_ble_eq_true rfl)) dX13_readItem_24 ⟨Nat.le_refl _, Nat.le_refl _⟩) hS (fun H locs hW hS => ?_)
          refine lv_aload_n hx hb dX13_readItem_27 rfl (lv_at hl 1 rfl) ?_
          refine lv_dup hx hb dX13_readItem_28 rfl ?_
          refine va_get (D := xD E) (ci := 13) (v := .int (r97 24 9)) (C := RX13) (T := TX13) (N := 24) hx hb hts in_X13 hown hK (xO_M hW) 0 rfl rfl 19 (by decide) (hts _ q1215) (fun _ h9 => h9) rfl dX13_readItem_29 ?_
          refine lv_iconst (v := 1) hx hb dX13_readItem_32 (by decide) ?_
          refine lv_iadd hx hb dX13_readItem_33 ?_
          refine x_put (C := RX13) (T := TX13) (N := 24) (ci := 13) (ty := .int) F hW hS in_X13 tyX13 tyX13_ok nmX13 rfl 186 19 24 9 (by decide) rfl (by decide) rfl (by decide) (hts _ q1215) (fun _ h9 => h9) rfl (by decide +kernel) rfl rfl dX13_readItem_34 (fun H locs hW hS => ?_)
          refine lv_aload_n hx hb dX13_readItem_37 rfl (lv_at hl 1 rfl) ?_
          refine va_ldcSw hx hb hown (xk_7 F.2.1) dX13_readItem_38 ?_
          cases g98 : fX13_isNext (xup r97 24 9 ((r97 24 9) + 1)) 7 with
          | none => rw [g98] at h; cases h
          | some r99 =>
            rw [g98, Option.bind_some] at h
            refine x_backi (va_runV (C := RX13) (b := (xa E 186)) (As := [.ref (xks E 7)]) (rest := []) F.1 (mX13_isNext l E (xup r97 24 9 ((r97 24 9) + 1)) 7 (by decide) r99.1 r99.2 g98) (cwV 1 hts (lw_V q1650 q1652 qs94 q115 q1653) rfl rfl rfl (by decide +kernel) ⟨Nat.le_of_ble_eq_true rfl, Nat.le_of_ble_eq_true rfl⟩) ⟨xPc.blind, va_recv hK (xO_M hW) (ci := 13) (q0 := 0) rfl rfl, F.pre hW hS (.ref (xa E 186) :: [.ref (xks E 7)])⟩ rfl rfl hl.1 rfl (lv_room (Nat.le_of_ble_eq_true rfl)) dX13_readItem_41 ⟨Nat.le_refl _, Nat.le_refl _⟩) hS (fun H locs hW hS => ?_)
            refine lv_if_eq (tgt := 57) hx hb dX13_readItem_44 (by decide) (fun c100 => ?_) (fun c100 => ?_)
            · rw [if_pos c100] at h
              refine lv_iconst (v := 0) hx hb dX13_readItem_57 (by decide) ?_
              refine lv_istore_n (lv' := [(2, .int 0), (1, .int r2), (0, .ref (xa E 186))]) hx hb dX13_readItem_58 rfl hl (by decide) rfl (fun ls hl => ?_)
              refine lv_aload_n hx hb dX13_readItem_59 rfl (lv_at hl 2 rfl) ?_
              refine va_ldcSw hx hb hown (xk_8 F.2.1) dX13_readItem_60 ?_
              cases g101 : fX13_isNext r99.2 8 with
              | none => rw [g101] at h; cases h
              | some r102 =>
                rw [g101, Option.bind_some] at h
                refine x_backi (va_runV (C := RX13) (b := (xa E 186)) (As := [.ref (xks E 8)]) (rest := []) F.1 (mX13_isNext l E r99.2 8 (by decide) r102.1 r102.2 g101) (cwV 1 hts (lw_V q1650 q1652 qs94 q115 q1653) rfl rfl rfl (by decide +kernel) ⟨Nat.le_of_ble_eq_true rfl, Nat.le_of_ble_eq_true rfl⟩) ⟨xPc.blind, va_recv hK (xO_M hW) (ci := 13) (q0 := 0) rfl rfl, F.pre hW hS (.ref (xa E 186) :: [.ref (xks E 8)])⟩ rfl rfl hl.1 rfl (lv_room (Nat.le_of_ble_eq_true rfl)) dX13_readItem_63 ⟨Nat.le_refl _, Nat.le_refl _⟩) hS (fun H locs hW hS => ?_)
                refine lv_if_eq (tgt := 79) hx hb dX13_readItem_66 (by decide) (fun c103 => ?_) (fun c103 => ?_)
                · rw [if_pos c103] at h
                  refine lv_iconst (v := 0) hx hb dX13_readItem_79 (by decide) ?_
                  refine lv_istore_n (lv' := [(3, .int 0), (2, .int 0), (1, .int r2), (0, .ref (xa E 186))]) hx hb dX13_readItem_80 rfl hl (by decide) rfl (fun ls hl => ?_)
                  refine lv_aload_n hx hb dX13_readItem_81 rfl (lv_at hl 3 rfl) ?_
                  refine lv_iload_n hx hb dX13_readItem_82 rfl (lv_at hl 2 rfl) ?_
                  refine lv_iload_n hx hb dX13_readItem_83 rfl (lv_at hl 1 rfl) ?_
                  refine lv_iload_n hx hb dX13_readItem_84 rfl (lv_at hl 0 rfl) ?_
                  refine lv_aload_n hx hb dX13_readItem_85 rfl (lv_at hl 3 rfl) ?_
                  refine va_ldcSw hx hb hown (xk_9 F.2.1) dX13_readItem_86 ?_
                  cases g104 : fX13_isNext r102.2 9 with
                  | none => rw [g104] at h; cases h
                  | some r105 =>
                    rw [g104, Option.bind_some] at h
                    refine x_backi (va_runV (C := RX13) (b := (xa E 186)) (As := [.ref (xks E 9)]) (rest := [.int 0, .int 0, .int r2, .ref (xa E 186)]) F.1 (mX13_isNext l E r102.2 9 (by decide) r105.1 r105.2 g104) (cwV 1 hts (lw_V q1650 q1652 qs94 q115 q1653) rfl rfl rfl (by decide +kernel) ⟨Nat.le_of_ble_eq_true rfl, Nat.le_of_ble_eq_true rfl⟩) ⟨xPc.blind, va_recv hK (xO_M hW) (ci := 13) (q0 := 0) rfl rfl, F.pre hW hS (.ref (xa E 186) :: [.ref (xks E 9)])⟩ rfl rfl hl.1 rfl (lv_room (Nat.le_of_ble_eq_true rfl)) dX13_readItem_89 ⟨Nat.le_refl _, Nat.le_refl _⟩) hS (fun H locs hW hS => ?_)
                    refine lv_if_eq (tgt := 105) hx hb dX13_readItem_92 (by decide) (fun c106 => ?_) (fun c106 => ?_)
                    · rw [if_pos c106] at h
                      refine lv_bipush (v := 10) hx hb dX13_readItem_105 (by decide) ?_
                      cases g107 : fX13_item r105.2 r2 0 0 10 with
                      | none => rw [g107] at h; cases h
                      | some r108 =>
                        rw [g107, Option.bind_some] at h
                        refine x_backv (va_runV (C := RX13) (b := (xa E 186)) (As := [.int r2, .int 0, .int 0, .int 10]) (rest := []) F.1 (mX13_item l E r105.2 r2 0 0 10 r108 g107) (cwV 4 hts (lw_V q1660 q1662 qs96 q115 q1663) rfl rfl rfl (by decide +kernel) ⟨Nat.le_of_ble_eq_true rfl, Nat.le_of_ble_eq_true rfl⟩) ⟨xPc.blind, va_recv hK (xO_M hW) (ci := 13) (q0 := 0) rfl rfl, F.pre hW hS (.ref (xa E 186) :: [.int r2, .int 0, .int 0, .int 10])⟩ rfl rfl hl.1 rfl (lv_room (Nat.le_of_ble_eq_true rfl)) dX13_readItem_107 ⟨Nat.le_refl _, Nat.le_refl _⟩) hS (fun H locs hW hS => ?_)
                        refine lv_goto (tgt := 258) hx hb dX13_readItem_110 (by decide) ?_
                        have h := Option.some.inj h; subst h
                        exact x_vret F hr hlk hW hS dX13_readItem_258
                    · rw [if_neg c106] at h
                      refine lv_aload_n hx hb dX13_readItem_95 rfl (lv_at hl 3 rfl) ?_
                      refine lv_iconst (v := 1) hx hb dX13_readItem_96 (by decide) ?_
                      refine lv_bipush (v := 99) hx hb dX13_readItem_97 (by decide) ?_
                      cases g109 : fX13_number r105.2 1 99 with
                      | none => rw [g109] at h; cases h
                      | some r110 =>
                        rw [g109, Option.bind_some] at h
                        refine x_backi (va_runV (C := RX13) (b := (xa E 186)) (As := [.int 1, .int 99]) (rest := [.int 0, .int 0, .int r2, .ref (xa E 186)]) F.1 (mX13_number l E r105.2 1 99 r110.1 r110.2 g109) (cwV 2 hts (lw_V q1654 q1656 qs95 q115 q1657) rfl rfl rfl (by decide +kernel) ⟨Nat.le_of_ble_eq_true rfl, Nat.le_of_ble_eq_true rfl⟩) ⟨xPc.blind, va_recv hK (xO_M hW) (ci := 13) (q0 := 0) rfl rfl, F.pre hW hS (.ref (xa E 186) :: [.int 1, .int 99])⟩ rfl rfl hl.1 rfl (lv_room (Nat.le_of_ble_eq_true rfl)) dX13_readItem_99 ⟨Nat.le_refl _, Nat.le_refl _⟩) hS (fun H locs hW hS => ?_)
                        refine lv_goto (tgt := 107) hx hb dX13_readItem_102 (by decide) ?_
                        cases g111 : fX13_item r110.2 r2 0 0 r110.1 with
                        | none => rw [g111] at h; cases h
                        | some r112 =>
                          rw [g111, Option.bind_some] at h
                          refine x_backv (va_runV (C := RX13) (b := (xa E 186)) (As := [.int r2, .int 0, .int 0, .int r110.1]) (rest := []) F.1 (mX13_item l E r110.2 r2 0 0 r110.1 r112 g111) (cwV 4 hts (lw_V q1660 q1662 qs96 q115 q1663) rfl rfl rfl (by decide +kernel) ⟨Nat.le_of_ble_eq_true rfl, Nat.le_of_ble_eq_true rfl⟩) ⟨xPc.blind, va_recv hK (xO_M hW) (ci := 13) (q0 := 0) rfl rfl, F.pre hW hS (.ref (xa E 186) :: [.int r2, .int 0, .int 0, .int r110.1])⟩ rfl rfl hl.1 rfl (lv_room (Nat.le_of_ble_eq_true rfl)) dX13_readItem_107 ⟨Nat.le_refl _, Nat.le_refl _⟩) hS (fun H locs hW hS => ?_)
                          refine lv_goto (tgt := 258) hx hb dX13_readItem_110 (by decide) ?_
                          have h := Option.some.inj h; subst h
                          exact x_vret F hr hlk hW hS dX13_readItem_258
                · rw [if_neg c103] at h
                  refine lv_aload_n hx hb dX13_readItem_69 rfl (lv_at hl 2 rfl) ?_
                  refine lv_iconst (v := 0) hx hb dX13_readItem_70 (by decide) ?_
                  refine lv_bipush (v := 11) hx hb dX13_readItem_71 (by decide) ?_
                  cases g113 : fX13_number r102.2 0 11 with
                  | none => rw [g113] at h; cases h
                  | some r114 =>
                    rw [g113, Option.bind_some] at h
                    refine x_backi (va_runV (C := RX13) (b := (xa E 186)) (As := [.int 0, .int 11]) (rest := []) F.1 (mX13_number l E r102.2 0 11 r114.1 r114.2 g113) (cwV 2 hts (lw_V q1654 q1656 qs95 q115 q1657) rfl rfl rfl (by decide +kernel) ⟨Nat.le_of_ble_eq_true rfl, Nat.le_of_ble_eq_true rfl⟩) ⟨xPc.blind, va_recv hK (xO_M hW) (ci := 13) (q0 := 0) rfl rfl, F.pre hW hS (.ref (xa E 186) :: [.int 0, .int 11])⟩ rfl rfl hl.1 rfl (lv_room (Nat.le_of_ble_eq_true rfl)) dX13_readItem_73 ⟨Nat.le_refl _, Nat.le_refl _⟩) hS (fun H locs hW hS => ?_)
                    refine lv_goto (tgt := 80) hx hb dX13_readItem_76 (by decide) ?_
                    refine lv_istore_n (lv' := [(3, .int r114.1), (2, .int 0), (1, .int r2), (0, .ref (xa E 186))]) hx hb dX13_readItem_80 rfl hl (by decide) rfl (fun ls hl => ?_)
                    refine lv_aload_n hx hb dX13_readItem_81 rfl (lv_at hl 3 rfl) ?_
                    refine lv_iload_n hx hb dX13_readItem_82 rfl (lv_at hl 2 rfl) ?_
                    refine lv_iload_n hx hb dX13_readItem_83 rfl (lv_at hl 1 rfl) ?_
                    refine lv_iload_n hx hb dX13_readItem_84 rfl (lv_at hl 0 rfl) ?_
                    refine lv_aload_n hx hb dX13_readItem_85 rfl (lv_at hl 3 rfl) ?_
                    refine va_ldcSw hx hb hown (xk_9 F.2.1) dX13_readItem_86 ?_
                    cases g115 : fX13_isNext r114.2 9 with
                    | none => rw [g115] at h; cases h
                    | some r116 =>
                      rw [g115, Option.bind_some] at h
                      refine x_backi (va_runV (C := RX13) (b := (xa E 186)) (As := [.ref (xks E 9)]) (rest := [.int r114.1, .int 0, .int r2, .ref (xa E 186)]) F.1 (mX13_isNext l E r114.2 9 (by decide) r116.1 r116.2 g115) (cwV 1 hts (lw_V q1650 q1652 qs94 q115 q1653) rfl rfl rfl (by decide +kernel) ⟨Nat.le_of_ble_eq_true rfl, Nat.le_of_ble_eq_true rfl⟩) ⟨xPc.blind, va_recv hK (xO_M hW) (ci := 13) (q0 := 0) rfl rfl, F.pre hW hS (.ref (xa E 186) :: [.ref (xks E 9)])⟩ rfl rfl hl.1 rfl (lv_room (Nat.le_of_ble_eq_true rfl)) dX13_readItem_89 ⟨Nat.le_refl _, Nat.le_refl _⟩) hS (fun H locs hW hS => ?_)
                      refine lv_if_eq (tgt := 105) hx hb dX13_readItem_92 (by decide) (fun c117 => ?_) (fun c117 => ?_)
                      · rw [if_pos c117] at h
                        refine lv_bipush (v := 10) hx hb dX13_readItem_105 (by decide) ?_
                        cases g118 : fX13_item r116.2 r2 0 r114.1 10 with
                        | none => rw [g118] at h; cases h
                        | some r119 =>
                          rw [g118, Option.bind_some] at h
                          refine x_backv (va_runV (C := RX13) (b := (xa E 186)) (As := [.int r2, .int 0, .int r114.1, .int 10]) (rest := []) F.1 (mX13_item l E r116.2 r2 0 r114.1 10 r119 g118) (cwV 4 hts (lw_V q1660 q1662 qs96 q115 q1663) rfl rfl rfl (by decide +kernel) ⟨Nat.le_of_ble_eq_true rfl, Nat.le_of_ble_eq_true rfl⟩) ⟨xPc.blind, va_recv hK (xO_M hW) (ci := 13) (q0 := 0) rfl rfl, F.pre hW hS (.ref (xa E 186) :: [.int r2, .int 0, .int r114.1, .int 10])⟩ rfl rfl hl.1 rfl (lv_room (Nat.le_of_ble_eq_true rfl)) dX13_readItem_107 ⟨Nat.le_refl _, Nat.le_refl _⟩) hS (fun H locs hW hS => ?_)
                          refine lv_goto (tgt := 258) hx hb dX13_readItem_110 (by decide) ?_
                          have h := Option.some.inj h; subst h
                          exact x_vret F hr hlk hW hS dX13_readItem_258
                      · rw [if_neg c117] at h
                        refine lv_aload_n hx hb dX13_readItem_95 rfl (lv_at hl 3 rfl) ?_
                        refine lv_iconst (v := 1) hx hb dX13_readItem_96 (by decide) ?_
                        refine lv_bipush (v := 99) hx hb dX13_readItem_97 (by decide) ?_
                        cases g120 : fX13_number r116.2 1 99 with
                        | none => rw [g120] at h; cases h
                        | some r121 =>
                          rw [g120, Option.bind_some] at h
                          refine x_backi (va_runV (C := RX13) (b := (xa E 186)) (As := [.int 1, .int 99]) (rest := [.int r114.1, .int 0, .int r2, .ref (xa E 186)]) F.1 (mX13_number l E r116.2 1 99 r121.1 r121.2 g120) (cwV 2 hts (lw_V q1654 q1656 qs95 q115 q1657) rfl rfl rfl (by decide +kernel) ⟨Nat.le_of_ble_eq_true rfl, Nat.le_of_ble_eq_true rfl⟩) ⟨xPc.blind, va_recv hK (xO_M hW) (ci := 13) (q0 := 0) rfl rfl, F.pre hW hS (.ref (xa E 186) :: [.int 1, .int 99])⟩ rfl rfl hl.1 rfl (lv_room (Nat.le_of_ble_eq_true rfl)) dX13_readItem_99 ⟨Nat.le_refl _, Nat.le_refl _⟩) hS (fun H locs hW hS => ?_)
                          refine lv_goto (tgt := 107) hx hb dX13_readItem_102 (by decide) ?_
                          cases g122 : fX13_item r121.2 r2 0 r114.1 r121.1 with
                          | none => rw [g122] at h; cases h
                          | some r123 =>
                            rw [g122, Option.bind_some] at h
                            refine x_backv (va_runV (C := RX13) (b := (xa E 186)) (As := [.int r2, .int 0, .int r114.1, .int r121.1]) (rest := []) F.1 (mX13_item l E r121.2 r2 0 r114.1 r121.1 r123 g122) (cwV 4 hts (lw_V q1660 q1662 qs96 q115 q1663) rfl rfl rfl (by decide +kernel) ⟨Nat.le_of_ble_eq_true rfl, Nat.le_of_ble_eq_true rfl⟩) ⟨xPc.blind, va_recv hK (xO_M hW) (ci := 13) (q0 := 0) rfl rfl, F.pre hW hS (.ref (xa E 186) :: [.int r2, .int 0, .int r114.1, .int r121.1])⟩ rfl rfl hl.1 rfl (lv_room (Nat.le_of_ble_eq_true rfl)) dX13_readItem_107 ⟨Nat.le_refl _, Nat.le_refl _⟩) hS (fun H locs hW hS => ?_)
                            refine lv_goto (tgt := 258) hx hb dX13_readItem_110 (by decide) ?_
                            have h := Option.some.inj h; subst h
                            exact x_vret F hr hlk hW hS dX13_readItem_258
            · rw [if_neg c100] at h
              refine lv_aload_n hx hb dX13_readItem_47 rfl (lv_at hl 1 rfl) ?_
              refine lv_iconst (v := 0) hx hb dX13_readItem_48 (by decide) ?_
              refine lv_bipush (v := 63) hx hb dX13_readItem_49 (by decide) ?_
              cases g124 : fX13_number r99.2 0 63 with
              | none => rw [g124] at h; cases h
              | some r125 =>
                rw [g124, Option.bind_some] at h
                refine x_backi (va_runV (C := RX13) (b := (xa E 186)) (As := [.int 0, .int 63]) (rest := []) F.1 (mX13_number l E r99.2 0 63 r125.1 r125.2 g124) (cwV 2 hts (lw_V q1654 q1656 qs95 q115 q1657) rfl rfl rfl (by decide +kernel) ⟨Nat.le_of_ble_eq_true rfl, Nat.le_of_ble_eq_true rfl⟩) ⟨xPc.blind, va_recv hK (xO_M hW) (ci := 13) (q0 := 0) rfl rfl, F.pre hW hS (.ref (xa E 186) :: [.int 0, .int 63])⟩ rfl rfl hl.1 rfl (lv_room (Nat.le_of_ble_eq_true rfl)) dX13_readItem_51 ⟨Nat.le_refl _, Nat.le_refl _⟩) hS (fun H locs hW hS => ?_)
                refine lv_goto (tgt := 58) hx hb dX13_readItem_54 (by decide) ?_
                refine lv_istore_n (lv' := [(2, .int r125.1), (1, .int r2), (0, .ref (xa E 186))]) hx hb dX13_readItem_58 rfl hl (by decide) rfl (fun ls hl => ?_)
                refine lv_aload_n hx hb dX13_readItem_59 rfl (lv_at hl 2 rfl) ?_
                refine va_ldcSw hx hb hown (xk_8 F.2.1) dX13_readItem_60 ?_
                cases g126 : fX13_isNext r125.2 8 with
                | none => rw [g126] at h; cases h
                | some r127 =>
                  rw [g126, Option.bind_some] at h
                  refine x_backi (va_runV (C := RX13) (b := (xa E 186)) (As := [.ref (xks E 8)]) (rest := []) F.1 (mX13_isNext l E r125.2 8 (by decide) r127.1 r127.2 g126) (cwV 1 hts (lw_V q1650 q1652 qs94 q115 q1653) rfl rfl rfl (by decide +kernel) ⟨Nat.le_of_ble_eq_true rfl, Nat.le_of_ble_eq_true rfl⟩) ⟨xPc.blind, va_recv hK (xO_M hW) (ci := 13) (q0 := 0) rfl rfl, F.pre hW hS (.ref (xa E 186) :: [.ref (xks E 8)])⟩ rfl rfl hl.1 rfl (lv_room (Nat.le_of_ble_eq_true rfl)) dX13_readItem_63 ⟨Nat.le_refl _, Nat.le_refl _⟩) hS (fun H locs hW hS => ?_)
                  refine lv_if_eq (tgt := 79) hx hb dX13_readItem_66 (by decide) (fun c128 => ?_) (fun c128 => ?_)
                  · rw [if_pos c128] at h
                    refine lv_iconst (v := 0) hx hb dX13_readItem_79 (by decide) ?_
                    refine lv_istore_n (lv' := [(3, .int 0), (2, .int r125.1), (1, .int r2), (0, .ref (xa E 186))]) hx hb dX13_readItem_80 rfl hl (by decide) rfl (fun ls hl => ?_)
                    refine lv_aload_n hx hb dX13_readItem_81 rfl (lv_at hl 3 rfl) ?_
                    refine lv_iload_n hx hb dX13_readItem_82 rfl (lv_at hl 2 rfl) ?_
                    refine lv_iload_n hx hb dX13_readItem_83 rfl (lv_at hl 1 rfl) ?_
                    refine lv_iload_n hx hb dX13_readItem_84 rfl (lv_at hl 0 rfl) ?_
                    refine lv_aload_n hx hb dX13_readItem_85 rfl (lv_at hl 3 rfl) ?_
                    refine va_ldcSw hx hb hown (xk_9 F.2.1) dX13_readItem_86 ?_
                    cases g129 : fX13_isNext r127.2 9 with
                    | none => rw [g129] at h; cases h
                    | some r130 =>
                      rw [g129, Option.bind_some] at h
                      refine x_backi (va_runV (C := RX13) (b := (xa E 186)) (As := [.ref (xks E 9)]) (rest := [.int 0, .int r125.1, .int r2, .ref (xa E 186)]) F.1 (mX13_isNext l E r127.2 9 (by decide) r130.1 r130.2 g129) (cwV 1 hts (lw_V q1650 q1652 qs94 q115 q1653) rfl rfl rfl (by decide +kernel) ⟨Nat.le_of_ble_eq_true rfl, Nat.le_of_ble_eq_true rfl⟩) ⟨xPc.blind, va_recv hK (xO_M hW) (ci := 13) (q0 := 0) rfl rfl, F.pre hW hS (.ref (xa E 186) :: [.ref (xks E 9)])⟩ rfl rfl hl.1 rfl (lv_room (Nat.le_of_ble_eq_true rfl)) dX13_readItem_89 ⟨Nat.le_refl _, Nat.le_refl _⟩) hS (fun H locs hW hS => ?_)
                      refine lv_if_eq (tgt := 105) hx hb dX13_readItem_92 (by decide) (fun c131 => ?_) (fun c131 => ?_)
                      · rw [if_pos c131] at h
                        refine lv_bipush (v := 10) hx hb dX13_readItem_105 (by decide) ?_
                        cases g132 : fX13_item r130.2 r2 r125.1 0 10 with
                        | none => rw [g132] at h; cases h
                        | some r133 =>
                          rw [g132, Option.bind_some] at h
                          refine x_backv (va_runV (C := RX13) (b := (xa E 186)) (As := [.int r2, .int r125.1, .int 0, .int 10]) (rest := []) F.1 (mX13_item l E r130.2 r2 r125.1 0 10 r133 g132) (cwV 4 hts (lw_V q1660 q1662 qs96 q115 q1663) rfl rfl rfl (by decide +kernel) ⟨Nat.le_of_ble_eq_true rfl, Nat.le_of_ble_eq_true rfl⟩) ⟨xPc.blind, va_recv hK (xO_M hW) (ci := 13) (q0 := 0) rfl rfl, F.pre hW hS (.ref (xa E 186) :: [.int r2, .int r125.1, .int 0, .int 10])⟩ rfl rfl hl.1 rfl (lv_room (Nat.le_of_ble_eq_true rfl)) dX13_readItem_107 ⟨Nat.le_refl _, Nat.le_refl _⟩) hS (fun H locs hW hS => ?_)
                          refine lv_goto (tgt := 258) hx hb dX13_readItem_110 (by decide) ?_
                          have h := Option.some.inj h; subst h
                          exact x_vret F hr hlk hW hS dX13_readItem_258
                      · rw [if_neg c131] at h
                        refine lv_aload_n hx hb dX13_readItem_95 rfl (lv_at hl 3 rfl) ?_
                        refine lv_iconst (v := 1) hx hb dX13_readItem_96 (by decide) ?_
                        refine lv_bipush (v := 99) hx hb dX13_readItem_97 (by decide) ?_
                        cases g134 : fX13_number r130.2 1 99 with
                        | none => rw [g134] at h; cases h
                        | some r135 =>
                          rw [g134, Option.bind_some] at h
                          refine x_backi (va_runV (C := RX13) (b := (xa E 186)) (As := [.int 1, .int 99]) (rest := [.int 0, .int r125.1, .int r2, .ref (xa E 186)]) F.1 (mX13_number l E r130.2 1 99 r135.1 r135.2 g134) (cwV 2 hts (lw_V q1654 q1656 qs95 q115 q1657) rfl rfl rfl (by decide +kernel) ⟨Nat.le_of_ble_eq_true rfl, Nat.le_of_ble_eq_true rfl⟩) ⟨xPc.blind, va_recv hK (xO_M hW) (ci := 13) (q0 := 0) rfl rfl, F.pre hW hS (.ref (xa E 186) :: [.int 1, .int 99])⟩ rfl rfl hl.1 rfl (lv_room (Nat.le_of_ble_eq_true rfl)) dX13_readItem_99 ⟨Nat.le_refl _, Nat.le_refl _⟩) hS (fun H locs hW hS => ?_)
                          refine lv_goto (tgt := 107) hx hb dX13_readItem_102 (by decide) ?_
                          cases g136 : fX13_item r135.2 r2 r125.1 0 r135.1 with
                          | none => rw [g136] at h; cases h
                          | some r137 =>
                            rw [g136, Option.bind_some] at h
                            refine x_backv (va_runV (C := RX13) (b := (xa E 186)) (As := [.int r2, .int r125.1, .int 0, .int r135.1]) (rest := []) F.1 (mX13_item l E r135.2 r2 r125.1 0 r135.1 r137 g136) (cwV 4 hts (lw_V q1660 q1662 qs96 q115 q1663) rfl rfl rfl (by decide +kernel) ⟨Nat.le_of_ble_eq_true rfl, Nat.le_of_ble_eq_true rfl⟩) ⟨xPc.blind, va_recv hK (xO_M hW) (ci := 13) (q0 := 0) rfl rfl, F.pre hW hS (.ref (xa E 186) :: [.int r2, .int r125.1, .int 0, .int r135.1])⟩ rfl rfl hl.1 rfl (lv_room (Nat.le_of_ble_eq_true rfl)) dX13_readItem_107 ⟨Nat.le_refl _, Nat.le_refl _⟩) hS (fun H locs hW hS => ?_)
                            refine lv_goto (tgt := 258) hx hb dX13_readItem_110 (by decide) ?_
                            have h := Option.some.inj h; subst h
                            exact x_vret F hr hlk hW hS dX13_readItem_258
                  · rw [if_neg c128] at h
                    refine lv_aload_n hx hb dX13_readItem_69 rfl (lv_at hl 2 rfl) ?_
                    refine lv_iconst (v := 0) hx hb dX13_readItem_70 (by decide) ?_
                    refine lv_bipush (v := 11) hx hb dX13_readItem_71 (by decide) ?_
                    cases g138 : fX13_number r127.2 0 11 with
                    | none => rw [g138] at h; cases h
                    | some r139 =>
                      rw [g138, Option.bind_some] at h
                      refine x_backi (va_runV (C := RX13) (b := (xa E 186)) (As := [.int 0, .int 11]) (rest := []) F.1 (mX13_number l E r127.2 0 11 r139.1 r139.2 g138) (cwV 2 hts (lw_V q1654 q1656 qs95 q115 q1657) rfl rfl rfl (by decide +kernel) ⟨Nat.le_of_ble_eq_true rfl, Nat.le_of_ble_eq_true rfl⟩) ⟨xPc.blind, va_recv hK (xO_M hW) (ci := 13) (q0 := 0) rfl rfl, F.pre hW hS (.ref (xa E 186) :: [.int 0, .int 11])⟩ rfl rfl hl.1 rfl (lv_room (Nat.le_of_ble_eq_true rfl)) dX13_readItem_73 ⟨Nat.le_refl _, Nat.le_refl _⟩) hS (fun H locs hW hS => ?_)
                      refine lv_goto (tgt := 80) hx hb dX13_readItem_76 (by decide) ?_
                      refine lv_istore_n (lv' := [(3, .int r139.1), (2, .int r125.1), (1, .int r2), (0, .ref (xa E 186))]) hx hb dX13_readItem_80 rfl hl (by decide) rfl (fun ls hl => ?_)
                      refine lv_aload_n hx hb dX13_readItem_81 rfl (lv_at hl 3 rfl) ?_
                      refine lv_iload_n hx hb dX13_readItem_82 rfl (lv_at hl 2 rfl) ?_
                      refine lv_iload_n hx hb dX13_readItem_83 rfl (lv_at hl 1 rfl) ?_
                      refine lv_iload_n hx hb dX13_readItem_84 rfl (lv_at hl 0 rfl) ?_
                      refine lv_aload_n hx hb dX13_readItem_85 rfl (lv_at hl 3 rfl) ?_
                      refine va_ldcSw hx hb hown (xk_9 F.2.1) dX13_readItem_86 ?_
                      cases g140 : fX13_isNext r139.2 9 with
                      | none => rw [g140] at h; cases h
                      | some r141 =>
                        rw [g140, Option.bind_some] at h
                        refine x_backi (va_runV (C := RX13) (b := (xa E 186)) (As := [.ref (xks E 9)]) (rest := [.int r139.1, .int r125.1, .int r2, .ref (xa E 186)]) F.1 (mX13_isNext l E r139.2 9 (by decide) r141.1 r141.2 g140) (cwV 1 hts (lw_V q1650 q1652 qs94 q115 q1653) rfl rfl rfl (by decide +kernel) ⟨Nat.le_of_ble_eq_true rfl, Nat.le_of_ble_eq_true rfl⟩) ⟨xPc.blind, va_recv hK (xO_M hW) (ci := 13) (q0 := 0) rfl rfl, F.pre hW hS (.ref (xa E 186) :: [.ref (xks E 9)])⟩ rfl rfl hl.1 rfl (lv_room (Nat.le_of_ble_eq_true rfl)) dX13_readItem_89 ⟨Nat.le_refl _, Nat.le_refl _⟩) hS (fun H locs hW hS => ?_)
                        refine lv_if_eq (tgt := 105) hx hb dX13_readItem_92 (by decide) (fun c142 => ?_) (fun c142 => ?_)
                        · rw [if_pos c142] at h
                          refine lv_bipush (v := 10) hx hb dX13_readItem_105 (by decide) ?_
                          cases g143 : fX13_item r141.2 r2 r125.1 r139.1 10 with
                          | none => rw [g143] at h; cases h
                          | some r144 =>
                            rw [g143, Option.bind_some] at h
                            refine x_backv (va_runV (C := RX13) (b := (xa E 186)) (As := [.int r2, .int r125.1, .int r139.1, .int 10]) (rest := []) F.1 (mX13_item l E r141.2 r2 r125.1 r139.1 10 r144 g143) (cwV 4 hts (lw_V q1660 q1662 qs96 q115 q1663) rfl rfl rfl (by decide +kernel) ⟨Nat.le_of_ble_eq_true rfl, Nat.le_of_ble_eq_true rfl⟩) ⟨xPc.blind, va_recv hK (xO_M hW) (ci := 13) (q0 := 0) rfl rfl, F.pre hW hS (.ref (xa E 186) :: [.int r2, .int r125.1, .int r139.1, .int 10])⟩ rfl rfl hl.1 rfl (lv_room (Nat.le_of_ble_eq_true rfl)) dX13_readItem_107 ⟨Nat.le_refl _, Nat.le_refl _⟩) hS (fun H locs hW hS => ?_)
                            refine lv_goto (tgt := 258) hx hb dX13_readItem_110 (by decide) ?_
                            have h := Option.some.inj h; subst h
                            exact x_vret F hr hlk hW hS dX13_readItem_258
                        · rw [if_neg c142] at h
                          refine lv_aload_n hx hb dX13_readItem_95 rfl (lv_at hl 3 rfl) ?_
                          refine lv_iconst (v := 1) hx hb dX13_readItem_96 (by decide) ?_
                          refine lv_bipush (v := 99) hx hb dX13_readItem_97 (by decide) ?_
                          cases g145 : fX13_number r141.2 1 99 with
                          | none => rw [g145] at h; cases h
                          | some r146 =>
                            rw [g145, Option.bind_some] at h
                            refine x_backi (va_runV (C := RX13) (b := (xa E 186)) (As := [.int 1, .int 99]) (rest := [.int r139.1, .int r125.1, .int r2, .ref (xa E 186)]) F.1 (mX13_number l E r141.2 1 99 r146.1 r146.2 g145) (cwV 2 hts (lw_V q1654 q1656 qs95 q115 q1657) rfl rfl rfl (by decide +kernel) ⟨Nat.le_of_ble_eq_true rfl, Nat.le_of_ble_eq_true rfl⟩) ⟨xPc.blind, va_recv hK (xO_M hW) (ci := 13) (q0 := 0) rfl rfl, F.pre hW hS (.ref (xa E 186) :: [.int 1, .int 99])⟩ rfl rfl hl.1 rfl (lv_room (Nat.le_of_ble_eq_true rfl)) dX13_readItem_99 ⟨Nat.le_refl _, Nat.le_refl _⟩) hS (fun H locs hW hS => ?_)
                            refine lv_goto (tgt := 107) hx hb dX13_readItem_102 (by decide) ?_
                            cases g147 : fX13_item r146.2 r2 r125.1 r139.1 r146.1 with
                            | none => rw [g147] at h; cases h
                            | some r148 =>
                              rw [g147, Option.bind_some] at h
                              refine x_backv (va_runV (C := RX13) (b := (xa E 186)) (As := [.int r2, .int r125.1, .int r139.1, .int r146.1]) (rest := []) F.1 (mX13_item l E r146.2 r2 r125.1 r139.1 r146.1 r148 g147) (cwV 4 hts (lw_V q1660 q1662 qs96 q115 q1663) rfl rfl rfl (by decide +kernel) ⟨Nat.le_of_ble_eq_true rfl, Nat.le_of_ble_eq_true rfl⟩) ⟨xPc.blind, va_recv hK (xO_M hW) (ci := 13) (q0 := 0) rfl rfl, F.pre hW hS (.ref (xa E 186) :: [.int r2, .int r125.1, .int r139.1, .int r146.1])⟩ rfl rfl hl.1 rfl (lv_room (Nat.le_of_ble_eq_true rfl)) dX13_readItem_107 ⟨Nat.le_refl _, Nat.le_refl _⟩) hS (fun H locs hW hS => ?_)
                              refine lv_goto (tgt := 258) hx hb dX13_readItem_110 (by decide) ?_
                              have h := Option.some.inj h; subst h
                              exact x_vret F hr hlk hW hS dX13_readItem_258
/-! WildBellsModel.text()I -/
def gX13_text_33  : Nat → xM → Option xM
  | 0, _ => none
  | n + 1, σ => if (σ 24 7) = 0 then (if (σ 24 5) = 3 then (if xin (σ 24 3) 120 then (if (σ 26 ((σ 24 3).toNatClampNeg)) = 59 then ((fX13_must σ 1).bind (fun r10 => (fX13_readItem r10).bind (fun r12 => gX13_text_33 n r12))) else (some σ)) else none) else (some σ)) else (some σ)
def gX13_text_113  : Nat → Int32 → Int32 → xM → Option (Int32 × Int32 × xM)
  | 0, _, _, _ => none
  | n + 1, x1, x2, σ => if (σ 24 8) ≤ x2 then (some (x1, x2, σ)) else ((fX13_isToldSo σ (4 * x2)).bind (fun r21 => if (-1) ≤ r21.1 then (gX13_text_113 n (x1 + 1) (x2 + 1) r21.2) else (gX13_text_113 n (x1 + 0) (x2 + 1) r21.2)))
def fX13_text (σ : xM) : Option (Int32 × xM) :=
  (fX13_next (xup (xup (xup (xup σ 24 4 0) 24 7 0) 24 8 0) 24 9 ((xup (xup (xup σ 24 4 0) 24 7 0) 24 8 0) 20 ((2 : Int32).toNatClampNeg)))).bind (fun r2 => (fX13_readItem r2).bind (fun r4 => (gX13_text_33 xfu r4).bind (fun q14 => if (q14 24 5) = 0 then ((fX13_must q14 1).bind (fun r26 => if ((xup r26 24 2 0) 24 7) = 0 then ((gX13_text_113 xfu 0 0 (xup r26 24 2 0)).bind (fun q29 => some (q29.1, q29.2.2))) else (some (((-1) - ((xup r26 24 2 0) 24 3)), (xup r26 24 2 0))))) else ((fX13_must q14 0).bind (fun r17 => if ((xup r17 24 2 0) 24 7) = 0 then ((gX13_text_113 xfu 0 0 (xup r17 24 2 0)).bind (fun q24 => some (q24.1, q24.2.2))) else (some (((-1) - ((xup r17 24 2 0) 24 3)), (xup r17 24 2 0))))))))
set_option maxHeartbeats 4000000 in
theorem lX13_text_33 {p : Program} {l : Launch} {e : Env} {s : State} {m : MethodId} {av : Array Value} {below : List Frame} {meth : Method} {c : Code} {Q : State → Prop} {E : xE} (F : xFx p m c cX13_text 3 s av RX13 E) : ∀ (n : Nat) (σ : xM) (q : xM), gX13_text_33 n σ = some q → ∀ (H : Heap) (locs : List Loc) (ls : Array Slot), xW E σ H → va_S (xA E) s.heap H locs → lv_has ls 3 [(0, .ref (xa E 186))] → (∀ (H : Heap) (locs : List Loc) (ls : Array Slot), xW E q H → va_S (xA E) s.heap H locs → lv_has ls 3 [(0, .ref (xa E 186))] → W p l e ({ frames := 7, cells := 0, slots := 0, locals := 153 } : Room) s m av below meth c H locs 0 0 Q (F0 m 74 ls [])) → W p l e ({ frames := 7, cells := 0, slots := 0, locals := 153 } : Room) s m av below meth c H locs 0 0 Q (F0 m 33 ls []) := by
  obtain ⟨hx, hb, hml, hown, hts⟩ := id F.1
  have hK := F.2.1.1
  intro n
  induction n with
  | zero =>
    intro σ q h
    cases h
  | succ n ih =>
    intro σ q h H locs ls hW hS hl kk
    rw [gX13_text_33] at h
    refine lv_aload_n hx hb dX13_text_33 rfl (lv_at hl 0 rfl) ?_
    refine va_get (D := xD E) (ci := 13) (v := .int (σ 24 7)) (C := RX13) (T := TX13) (N := 24) hx hb hts in_X13 hown hK (xO_M hW) 0 rfl rfl 15 (by decide) (hts _ q1211) (fun _ h9 => h9) rfl dX13_text_34 ?_
    refine lv_if_ne (tgt := 74) hx hb dX13_text_37 (by decide) (fun c5 => ?_) (fun c5 => ?_)
    · rw [if_neg c5] at h
      have h := Option.some.inj h; subst h
      exact kk _ _ _ hW hS (lv_sub hl [0] rfl)
    · rw [if_pos c5] at h
      refine lv_aload_n hx hb dX13_text_40 rfl (lv_at hl 0 rfl) ?_
      refine va_get (D := xD E) (ci := 13) (v := .int (σ 24 5)) (C := RX13) (T := TX13) (N := 24) hx hb hts in_X13 hown hK (xO_M hW) 0 rfl rfl 13 (by decide) (hts _ q1209) (fun _ h9 => h9) rfl dX13_text_41 ?_
      refine lv_iconst (v := 3) hx hb dX13_text_44 (by decide) ?_
      refine lv_icmp_ne (tgt := 74) hx hb dX13_text_45 (by decide) (fun c6 => ?_) (fun c6 => ?_)
      · rw [if_neg c6] at h
        have h := Option.some.inj h; subst h
        exact kk _ _ _ hW hS (lv_sub hl [0] rfl)
      · rw [if_pos c6] at h
        refine lv_aload_n hx hb dX13_text_48 rfl (lv_at hl 0 rfl) ?_
        refine va_get (D := xD E) (ci := 13) (v := .ref (xa E 194)) (C := RX13) (T := TX13) (N := 24) hx hb hts in_X13 hown hK (xO_M hW) 0 rfl rfl 9 (by decide) (hts _ q1205) (fun _ h9 => h9) rfl dX13_text_49 ?_
        refine lv_aload_n hx hb dX13_text_52 rfl (lv_at hl 0 rfl) ?_
        refine va_get (D := xD E) (ci := 13) (v := .int (σ 24 3)) (C := RX13) (T := TX13) (N := 24) hx hb hts in_X13 hown hK (xO_M hW) 0 rfl rfl 11 (by decide) (hts _ q1207) (fun _ h9 => h9) rfl dX13_text_53 ?_
        by_cases hi7 : xin (σ 24 3) 120
        · rw [if_pos hi7] at h
          refine va_iald hx hb hK (xV_p hW xp_194) 0 0 rfl rfl hi7 dX13_text_56 ?_
          refine lv_bipush (v := 59) hx hb dX13_text_57 (by decide) ?_
          refine lv_icmp_ne (tgt := 74) hx hb dX13_text_59 (by decide) (fun c8 => ?_) (fun c8 => ?_)
          · rw [if_neg c8] at h
            have h := Option.some.inj h; subst h
            exact kk _ _ _ hW hS (lv_sub hl [0] rfl)
          · rw [if_pos c8] at h
            refine lv_aload_n hx hb dX13_text_62 rfl (lv_at hl 0 rfl) ?_
            refine lv_iconst (v := 1) hx hb dX13_text_63 (by decide) ?_
            cases g9 : fX13_must σ 1 with
            | none => rw [g9] at h; cases h
            | some r10 =>
              rw [g9, Option.bind_some] at h
              refine x_backv (va_runV (C := RX13) (b := (xa E 186)) (As := [.int 1]) (rest := []) F.1 (mX13_must l E σ 1 r10 g9) (cwV 1 hts (lw_V q1645 q1647 qs93 q115 q1648) rfl rfl rfl (by decide +kernel) ⟨Nat.le_of_ble_eq_true rfl, Nat.le_of_ble_eq_true rfl⟩) ⟨xPc.blind, va_recv hK (xO_M hW) (ci := 13) (q0 := 0) rfl rfl, F.pre hW hS (.ref (xa E 186) :: [.int 1])⟩ rfl rfl hl.1 rfl (lv_room (Nat.le_of_ble_eq_true rfl)) dX13_text_64 ⟨Nat.le_refl _, Nat.le_refl _⟩) hS (fun H locs hW hS => ?_)
              refine lv_aload_n hx hb dX13_text_67 rfl (lv_at hl 0 rfl) ?_
              cases g11 : fX13_readItem r10 with
              | none => rw [g11] at h; cases h
              | some r12 =>
                rw [g11, Option.bind_some] at h
                refine x_backv (va_runV (C := RX13) (b := (xa E 186)) (As := []) (rest := []) F.1 (mX13_readItem l E r10 r12 g11) (cwV 0 hts (lw_V q1624 q1626 qs90 q115 q1627) rfl rfl rfl (by decide +kernel) ⟨Nat.le_of_ble_eq_true rfl, Nat.le_of_ble_eq_true rfl⟩) ⟨xPc.blind, va_recv hK (xO_M hW) (ci := 13) (q0 := 0) rfl rfl, F.pre hW hS (.ref (xa E 186) :: [])⟩ rfl rfl hl.1 rfl (lv_room (Nat.le_of_ble_eq_true rfl)) dX13_text_68 ⟨Nat.le_refl _, Nat.le_refl _⟩) hS (fun H locs hW hS => ?_)
                refine lv_goto (tgt := 33) hx hb dX13_text_71 (by decide) ?_
                exact ih r12 _ h _ _ _ hW hS (lv_sub hl [0] rfl) kk
        · rw [if_neg hi7] at h; cases h
set_option maxHeartbeats 4000000 in
theorem lX13_text_113 {p : Program} {l : Launch} {e : Env} {s : State} {m : MethodId} {av : Array Value} {below : List Frame} {meth : Method} {c : Code} {Q : State → Prop} {E : xE} (F : xFx p m c cX13_text 3 s av RX13 E) : ∀ (n : Nat) (x1 : Int32) (x2 : Int32) (σ : xM) (q : (Int32 × Int32 × xM)), gX13_text_113 n x1 x2 σ = some q → ∀ (H : Heap) (locs : List Loc) (ls : Array Slot), xW E σ H → va_S (xA E) s.heap H locs → lv_has ls 3 [(2, .int x2), (1, .int x1), (0, .ref (xa E 186))] → (∀ (H : Heap) (locs : List Loc) (ls : Array Slot), xW E q.2.2 H → va_S (xA E) s.heap H locs → lv_has ls 3 [(2, .int q.2.1), (1, .int q.1), (0, .ref (xa E 186))] → W p l e ({ frames := 7, cells := 0, slots := 0, locals := 153 } : Room) s m av below meth c H locs 0 0 Q (F0 m 146 ls [])) → W p l e ({ frames := 7, cells := 0, slots := 0, locals := 153 } : Room) s m av below meth c H locs 0 0 Q (F0 m 113 ls []) := by
  obtain ⟨hx, hb, hml, hown, hts⟩ := id F.1
  have hK := F.2.1.1
  intro n
  induction n with
  | zero =>
    intro x1 x2 σ q h
    cases h
  | succ n ih =>
    intro x1 x2 σ q h H locs ls hW hS hl kk
    rw [gX13_text_113] at h
    refine lv_iload_n hx hb dX13_text_113 rfl (lv_at hl 0 rfl) ?_
    refine lv_aload_n hx hb dX13_text_114 rfl (lv_at hl 2 rfl) ?_
    refine va_get (D := xD E) (ci := 13) (v := .int (σ 24 8)) (C := RX13) (T := TX13) (N := 24) hx hb hts in_X13 hown hK (xO_M hW) 0 rfl rfl 18 (by decide) (hts _ q1214) (fun _ h9 => h9) rfl dX13_text_115 ?_
    refine lv_icmp_ge (tgt := 146) hx hb dX13_text_118 (by decide) (fun c19 => ?_) (fun c19 => ?_)
    · rw [if_pos c19] at h
      have h := Option.some.inj h; subst h
      exact kk _ _ _ hW hS (lv_sub hl [0, 1, 2] rfl)
    · rw [if_neg c19] at h
      refine lv_iload_n hx hb dX13_text_121 rfl (lv_at hl 1 rfl) ?_
      refine lv_aload_n hx hb dX13_text_122 rfl (lv_at hl 2 rfl) ?_
      refine lv_iconst (v := 4) hx hb dX13_text_123 (by decide) ?_
      refine lv_iload_n hx hb dX13_text_124 rfl (lv_at hl 0 rfl) ?_
      refine lv_imul hx hb dX13_text_125 ?_
      cases g20 : fX13_isToldSo σ (4 * x2) with
      | none => rw [g20] at h; cases h
      | some r21 =>
        rw [g20, Option.bind_some] at h
        refine x_backi (va_runV (C := RX13) (b := (xa E 186)) (As := [.int (4 * x2)]) (rest := [.int x1]) F.1 (mX13_isToldSo l E σ (4 * x2) r21.1 r21.2 g20) (cwV 1 hts (lw_V q1668 q1670 qs97 q115 q1671) rfl rfl rfl (by decide +kernel) ⟨Nat.le_of_ble_eq_true rfl, Nat.le_of_ble_eq_true rfl⟩) ⟨xPc.blind, va_recv hK (xO_M hW) (ci := 13) (q0 := 0) rfl rfl, F.pre hW hS (.ref (xa E 186) :: [.int (4 * x2)])⟩ rfl rfl hl.1 rfl (lv_room (Nat.le_of_ble_eq_true rfl)) dX13_text_126 ⟨Nat.le_refl _, Nat.le_refl _⟩) hS (fun H locs hW hS => ?_)
        refine lv_iconst (v := (-1)) hx hb dX13_text_129 (by decide) ?_
        refine lv_icmp_ge (tgt := 137) hx hb dX13_text_130 (by decide) (fun c22 => ?_) (fun c22 => ?_)
        · rw [if_pos c22] at h
          refine lv_iconst (v := 1) hx hb dX13_text_137 (by decide) ?_
          refine lv_iadd hx hb dX13_text_138 ?_
          refine lv_istore_n (lv' := [(1, .int (x1 + 1)), (2, .int x2), (0, .ref (xa E 186))]) hx hb dX13_text_139 rfl hl (by decide) rfl (fun ls hl => ?_)
          refine lv_iinc (k := 1) (v := (x2 + 1)) (lv' := [(2, .int (x2 + 1)), (1, .int (x1 + 1)), (0, .ref (xa E 186))]) hx hb dX13_text_140 hl rfl rfl (by decide) rfl (fun ls hl => ?_)
          refine lv_goto (tgt := 113) hx hb dX13_text_143 (by decide) ?_
          exact ih (x1 + 1) (x2 + 1) r21.2 _ h _ _ _ hW hS (lv_sub hl [0, 1, 2] rfl) kk
        · rw [if_neg c22] at h
          refine lv_iconst (v := 0) hx hb dX13_text_133 (by decide) ?_
          refine lv_goto (tgt := 138) hx hb dX13_text_134 (by decide) ?_
          refine lv_iadd hx hb dX13_text_138 ?_
          refine lv_istore_n (lv' := [(1, .int (x1 + 0)), (2, .int x2), (0, .ref (xa E 186))]) hx hb dX13_text_139 rfl hl (by decide) rfl (fun ls hl => ?_)
          refine lv_iinc (k := 1) (v := (x2 + 1)) (lv' := [(2, .int (x2 + 1)), (1, .int (x1 + 0)), (0, .ref (xa E 186))]) hx hb dX13_text_140 hl rfl rfl (by decide) rfl (fun ls hl => ?_)
          refine lv_goto (tgt := 113) hx hb dX13_text_143 (by decide) ?_
          exact ih (x1 + 0) (x2 + 1) r21.2 _ h _ _ _ hW hS (lv_sub hl [0, 1, 2] rfl) kk
set_option maxHeartbeats 4000000 in
theorem mX13_text (l : Launch) (E : xE) (σ : xM) (r : Int32) (σ' : xM) (h : fX13_text σ = some (r, σ')) : Met l yX13_text (ws_ yX13_text cX13_text 3 (some .int)) ({ frames := 7, cells := 0, slots := 0, locals := 153 } : Room) (xPc E σ [.ref (xa E 186)]) (xQc E (.returned (some (.int r))) σ') 0 0 (xA E) := by
  refine x_of (C := RX13) (n := "text") (d := "()I") (r := (some .int)) (by decide) rfl (by first | decide | exact Nat.le_of_ble_eq_true rfl) ?_
  intro p e s m below meth c ls F hr hlk hW hS hl
  have hl : lv_has ls 3 [(0, .ref (xa E 186))] := hl
  obtain ⟨hx, hb, hml, hown, hts⟩ := id F.1
  have hK := F.2.1.1
  unfold fX13_text at h
  refine lv_aload_n hx hb dX13_text_0 rfl (lv_at hl 0 rfl) ?_
  refine lv_iconst (v := 0) hx hb dX13_text_1 (by decide) ?_
  refine x_put (C := RX13) (T := TX13) (N := 24) (ci := 13) (ty := .int) F hW hS in_X13 tyX13 tyX13_ok nmX13 rfl 186 12 24 4 (by decide) rfl (by decide) rfl (by decide) (hts _ q1208) (fun _ h9 => h9) rfl (by decide +kernel) rfl rfl dX13_text_2 (fun H locs hW hS => ?_)
  refine lv_aload_n hx hb dX13_text_5 rfl (lv_at hl 0 rfl) ?_
  refine lv_iconst (v := 0) hx hb dX13_text_6 (by decide) ?_
  refine x_put (C := RX13) (T := TX13) (N := 24) (ci := 13) (ty := .boolean) F hW hS in_X13 tyX13 tyX13_ok nmX13 rfl 186 15 24 7 (by decide) rfl (by decide) rfl (by decide) (hts _ q1211) (fun _ h9 => h9) rfl (by decide +kernel) rfl rfl dX13_text_7 (fun H locs hW hS => ?_)
  refine lv_aload_n hx hb dX13_text_10 rfl (lv_at hl 0 rfl) ?_
  refine lv_iconst (v := 0) hx hb dX13_text_11 (by decide) ?_
  refine x_put (C := RX13) (T := TX13) (N := 24) (ci := 13) (ty := .int) F hW hS in_X13 tyX13 tyX13_ok nmX13 rfl 186 18 24 8 (by decide) rfl (by decide) rfl (by decide) (hts _ q1214) (fun _ h9 => h9) rfl (by decide +kernel) rfl rfl dX13_text_12 (fun H locs hW hS => ?_)
  refine lv_aload_n hx hb dX13_text_15 rfl (lv_at hl 0 rfl) ?_
  refine lv_aload_n hx hb dX13_text_16 rfl (lv_at hl 0 rfl) ?_
  refine va_get (D := xD E) (ci := 13) (v := .ref (xa E 187)) (C := RX13) (T := TX13) (N := 24) hx hb hts in_X13 hown hK (xO_M hW) 0 rfl rfl 0 (by decide) (hts _ q1196) (fun _ h9 => h9) rfl dX13_text_17 ?_
  refine lv_iconst (v := 2) hx hb dX13_text_20 (by decide) ?_
  refine va_iald hx hb hK (xV_p hW xp_187) 0 0 rfl rfl (x_lit (by decide)) dX13_text_21 ?_
  refine x_put (C := RX13) (T := TX13) (N := 24) (ci := 13) (ty := .int) F hW hS in_X13 tyX13 tyX13_ok nmX13 rfl 186 19 24 9 (by decide) rfl (by decide) rfl (by decide) (hts _ q1215) (fun _ h9 => h9) rfl (by decide +kernel) rfl rfl dX13_text_22 (fun H locs hW hS => ?_)
  refine lv_aload_n hx hb dX13_text_25 rfl (lv_at hl 0 rfl) ?_
  cases g1 : fX13_next (xup (xup (xup (xup σ 24 4 0) 24 7 0) 24 8 0) 24 9 ((xup (xup (xup σ 24 4 0) 24 7 0) 24 8 0) 20 ((2 : Int32).toNatClampNeg))) with
  | none => rw [g1] at h; cases h
  | some r2 =>
    rw [g1, Option.bind_some] at h
    refine x_backv (va_runV (C := RX13) (b := (xa E 186)) (As := []) (rest := []) F.1 (mX13_next l E (xup (xup (xup (xup σ 24 4 0) 24 7 0) 24 8 0) 24 9 ((xup (xup (xup σ 24 4 0) 24 7 0) 24 8 0) 20 ((2 : Int32).toNatClampNeg))) r2 g1) (cwV 0 hts (lw_V q1616 q1618 qs88 q115 q1619) rfl rfl rfl (by decide +kernel) ⟨Nat.le_of_ble_eq_true rfl, Nat.le_of_ble_eq_true rfl⟩) ⟨xPc.blind, va_recv hK (xO_M hW) (ci := 13) (q0 := 0) rfl rfl, F.pre hW hS (.ref (xa E 186) :: [])⟩ rfl rfl hl.1 rfl (lv_room (Nat.le_of_ble_eq_true rfl)) dX13_text_26 ⟨Nat.le_refl _, Nat.le_refl _⟩) hS (fun H locs hW hS => ?_)
    refine lv_aload_n hx hb dX13_text_29 rfl (lv_at hl 0 rfl) ?_
    cases g3 : fX13_readItem r2 with
    | none => rw [g3] at h; cases h
    | some r4 =>
      rw [g3, Option.bind_some] at h
      refine x_backv (va_runV (C := RX13) (b := (xa E 186)) (As := []) (rest := []) F.1 (mX13_readItem l E r2 r4 g3) (cwV 0 hts (lw_V q1624 q1626 qs90 q115 q1627) rfl rfl rfl (by decide +kernel) ⟨Nat.le_of_ble_eq_true rfl, Nat.le_of_ble_eq_true rfl⟩) ⟨xPc.blind, va_recv hK (xO_M hW) (ci := 13) (q0 := 0) rfl rfl, F.pre hW hS (.ref (xa E 186) :: [])⟩ rfl rfl hl.1 rfl (lv_room (Nat.le_of_ble_eq_true rfl)) dX13_text_30 ⟨Nat.le_refl _, Nat.le_refl _⟩) hS (fun H locs hW hS => ?_)
      cases g13 : gX13_text_33 xfu r4 with
      | none => rw [g13] at h; cases h
      | some q14 =>
        rw [g13, Option.bind_some] at h
        refine lX13_text_33 F xfu r4 q14 g13 _ _ _ hW hS (lv_sub hl [0] rfl) (fun H locs ls hW hS hl => ?_)
        refine lv_aload_n hx hb dX13_text_74 rfl (lv_at hl 0 rfl) ?_
        refine lv_aload_n hx hb dX13_text_75 rfl (lv_at hl 0 rfl) ?_
        refine va_get (D := xD E) (ci := 13) (v := .int (q14 24 5)) (C := RX13) (T := TX13) (N := 24) hx hb hts in_X13 hown hK (xO_M hW) 0 rfl rfl 13 (by decide) (hts _ q1209) (fun _ h9 => h9) rfl dX13_text_76 ?_
        refine lv_if_ne (tgt := 86) hx hb dX13_text_79 (by decide) (fun c15 => ?_) (fun c15 => ?_)
        · rw [if_neg c15] at h
          refine lv_iconst (v := 0) hx hb dX13_text_86 (by decide) ?_
          cases g16 : fX13_must q14 0 with
          | none => rw [g16] at h; cases h
          | some r17 =>
            rw [g16, Option.bind_some] at h
            refine x_backv (va_runV (C := RX13) (b := (xa E 186)) (As := [.int 0]) (rest := []) F.1 (mX13_must l E q14 0 r17 g16) (cwV 1 hts (lw_V q1645 q1647 qs93 q115 q1648) rfl rfl rfl (by decide +kernel) ⟨Nat.le_of_ble_eq_true rfl, Nat.le_of_ble_eq_true rfl⟩) ⟨xPc.blind, va_recv hK (xO_M hW) (ci := 13) (q0 := 0) rfl rfl, F.pre hW hS (.ref (xa E 186) :: [.int 0])⟩ rfl rfl hl.1 rfl (lv_room (Nat.le_of_ble_eq_true rfl)) dX13_text_87 ⟨Nat.le_refl _, Nat.le_refl _⟩) hS (fun H locs hW hS => ?_)
            refine lv_aload_n hx hb dX13_text_90 rfl (lv_at hl 0 rfl) ?_
            refine lv_iconst (v := 0) hx hb dX13_text_91 (by decide) ?_
            refine x_put (C := RX13) (T := TX13) (N := 24) (ci := 13) (ty := .int) F hW hS in_X13 tyX13 tyX13_ok nmX13 rfl 186 10 24 2 (by decide) rfl (by decide) rfl (by decide) (hts _ q1206) (fun _ h9 => h9) rfl (by decide +kernel) rfl rfl dX13_text_92 (fun H locs hW hS => ?_)
            refine lv_aload_n hx hb dX13_text_95 rfl (lv_at hl 0 rfl) ?_
            refine va_get (D := xD E) (ci := 13) (v := .int ((xup r17 24 2 0) 24 7)) (C := RX13) (T := TX13) (N := 24) hx hb hts in_X13 hown hK (xO_M hW) 0 rfl rfl 15 (by decide) (hts _ q1211) (fun _ h9 => h9) rfl dX13_text_96 ?_
            refine lv_if_eq (tgt := 109) hx hb dX13_text_99 (by decide) (fun c18 => ?_) (fun c18 => ?_)
            · rw [if_pos c18] at h
              refine lv_iconst (v := 0) hx hb dX13_text_109 (by decide) ?_
              refine lv_istore_n (lv' := [(1, .int 0), (0, .ref (xa E 186))]) hx hb dX13_text_110 rfl hl (by decide) rfl (fun ls hl => ?_)
              refine lv_iconst (v := 0) hx hb dX13_text_111 (by decide) ?_
              refine lv_istore_n (lv' := [(2, .int 0), (1, .int 0), (0, .ref (xa E 186))]) hx hb dX13_text_112 rfl hl (by decide) rfl (fun ls hl => ?_)
              cases g23 : gX13_text_113 xfu 0 0 (xup r17 24 2 0) with
              | none => rw [g23] at h; cases h
              | some q24 =>
                rw [g23, Option.bind_some] at h
                refine lX13_text_113 F xfu 0 0 (xup r17 24 2 0) q24 g23 _ _ _ hW hS (lv_sub hl [0, 1, 2] rfl) (fun H locs ls hW hS hl => ?_)
                refine lv_iload_n hx hb dX13_text_146 rfl (lv_at hl 1 rfl) ?_
                obtain ⟨h1, h2⟩ := Prod.mk.inj (Option.some.inj h); subst h1; subst h2
                exact x_iret F hr hlk hW hS dX13_text_147
            · rw [if_neg c18] at h
              refine lv_iconst (v := (-1)) hx hb dX13_text_102 (by decide) ?_
              refine lv_aload_n hx hb dX13_text_103 rfl (lv_at hl 0 rfl) ?_
              refine va_get (D := xD E) (ci := 13) (v := .int ((xup r17 24 2 0) 24 3)) (C := RX13) (T := TX13) (N := 24) hx hb hts in_X13 hown hK (xO_M hW) 0 rfl rfl 11 (by decide) (hts _ q1207) (fun _ h9 => h9) rfl dX13_text_104 ?_
              refine lv_isub hx hb dX13_text_107 ?_
              obtain ⟨h1, h2⟩ := Prod.mk.inj (Option.some.inj h); subst h1; subst h2
              exact x_iret F hr hlk hW hS dX13_text_108
        · rw [if_pos c15] at h
          refine lv_iconst (v := 1) hx hb dX13_text_82 (by decide) ?_
          refine lv_goto (tgt := 87) hx hb dX13_text_83 (by decide) ?_
          cases g25 : fX13_must q14 1 with
          | none => rw [g25] at h; cases h
          | some r26 =>
            rw [g25, Option.bind_some] at h
            refine x_backv (va_runV (C := RX13) (b := (xa E 186)) (As := [.int 1]) (rest := []) F.1 (mX13_must l E q14 1 r26 g25) (cwV 1 hts (lw_V q1645 q1647 qs93 q115 q1648) rfl rfl rfl (by decide +kernel) ⟨Nat.le_of_ble_eq_true rfl, Nat.le_of_ble_eq_true rfl⟩) ⟨xPc.blind, va_recv hK (xO_M hW) (ci := 13) (q0 := 0) rfl rfl, F.pre hW hS (.ref (xa E 186) :: [.int 1])⟩ rfl rfl hl.1 rfl (lv_room (Nat.le_of_ble_eq_true rfl)) dX13_text_87 ⟨Nat.le_refl _, Nat.le_refl _⟩) hS (fun H locs hW hS => ?_)
            refine lv_aload_n hx hb dX13_text_90 rfl (lv_at hl 0 rfl) ?_
            refine lv_iconst (v := 0) hx hb dX13_text_91 (by decide) ?_
            refine x_put (C := RX13) (T := TX13) (N := 24) (ci := 13) (ty := .int) F hW hS in_X13 tyX13 tyX13_ok nmX13 rfl 186 10 24 2 (by decide) rfl (by decide) rfl (by decide) (hts _ q1206) (fun _ h9 => h9) rfl (by decide +kernel) rfl rfl dX13_text_92 (fun H locs hW hS => ?_)
            refine lv_aload_n hx hb dX13_text_95 rfl (lv_at hl 0 rfl) ?_
            refine va_get (D := xD E) (ci := 13) (v := .int ((xup r26 24 2 0) 24 7)) (C := RX13) (T := TX13) (N := 24) hx hb hts in_X13 hown hK (xO_M hW) 0 rfl rfl 15 (by decide) (hts _ q1211) (fun _ h9 => h9) rfl dX13_text_96 ?_
            refine lv_if_eq (tgt := 109) hx hb dX13_text_99 (by decide) (fun c27 => ?_) (fun c27 => ?_)
            · rw [if_pos c27] at h
              refine lv_iconst (v := 0) hx hb dX13_text_109 (by decide) ?_
              refine lv_istore_n (lv' := [(1, .int 0), (0, .ref (xa E 186))]) hx hb dX13_text_110 rfl hl (by decide) rfl (fun ls hl => ?_)
              refine lv_iconst (v := 0) hx hb dX13_text_111 (by decide) ?_
              refine lv_istore_n (lv' := [(2, .int 0), (1, .int 0), (0, .ref (xa E 186))]) hx hb dX13_text_112 rfl hl (by decide) rfl (fun ls hl => ?_)
              cases g28 : gX13_text_113 xfu 0 0 (xup r26 24 2 0) with
              | none => rw [g28] at h; cases h
              | some q29 =>
                rw [g28, Option.bind_some] at h
                refine lX13_text_113 F xfu 0 0 (xup r26 24 2 0) q29 g28 _ _ _ hW hS (lv_sub hl [0, 1, 2] rfl) (fun H locs ls hW hS hl => ?_)
                refine lv_iload_n hx hb dX13_text_146 rfl (lv_at hl 1 rfl) ?_
                obtain ⟨h1, h2⟩ := Prod.mk.inj (Option.some.inj h); subst h1; subst h2
                exact x_iret F hr hlk hW hS dX13_text_147
            · rw [if_neg c27] at h
              refine lv_iconst (v := (-1)) hx hb dX13_text_102 (by decide) ?_
              refine lv_aload_n hx hb dX13_text_103 rfl (lv_at hl 0 rfl) ?_
              refine va_get (D := xD E) (ci := 13) (v := .int ((xup r26 24 2 0) 24 3)) (C := RX13) (T := TX13) (N := 24) hx hb hts in_X13 hown hK (xO_M hW) 0 rfl rfl 11 (by decide) (hts _ q1207) (fun _ h9 => h9) rfl dX13_text_104 ?_
              refine lv_isub hx hb dX13_text_107 ?_
              obtain ⟨h1, h2⟩ := Prod.mk.inj (Option.some.inj h); subst h1; subst h2
              exact x_iret F hr hlk hW hS dX13_text_108
