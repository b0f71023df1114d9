set_option maxRecDepth 100000
/-! WildBells$Reader.need(Z)V -/
def fX2_need (σ : xM) (a1 : Int32) : Option (Option Unit × xM) :=
  if a1 = 0 then (some (none, σ)) else (some (some (), σ))
set_option maxHeartbeats 4000000 in
theorem mX2_need (l : Launch) (E : xE) (σ : xM) (a1 : Int32) (o : Option Unit) (σ' : xM) (h : fX2_need σ a1 = some (o, σ')) : xMT l yX2_need (ws_ yX2_need cX2_need 2 none) ({ frames := 0, cells := 0, slots := 0, locals := 0 } : Room) (xPc E σ [.ref (xa E 2), .int a1]) (xQc E (xoV (xa E 3) o) σ') (xA E) := by
  refine x_ofT (C := RX2) (n := "need") (d := "(Z)V") (r := none) (by decide) (by first | decide | exact Nat.le_of_ble_eq_true rfl) ?_
  intro p e s m below meth c ls F hr hlk hno hW hS hl
  have hl : lv_has ls 2 [(0, .ref (xa E 2)), (1, .int a1)] := hl
  obtain ⟨hx, hb, hml, hown, hts⟩ := id F.1
  have hK := F.2.1.1
  unfold fX2_need at h
  refine lv_iload_n hx hb dX2_need_0 rfl (lv_at hl 1 rfl) ?_
  refine lv_if_ne (tgt := 9) hx hb dX2_need_1 (by decide) (fun c1 => ?_) (fun c1 => ?_)
  · rw [if_neg c1] at h
    obtain ⟨h1, h2⟩ := Prod.mk.inj (Option.some.inj h); subst h1; subst h2
    exact x_mono xMQ.of (x_vret F hr hlk hW hS dX2_need_9)
  · rw [if_pos c1] at h
    refine lv_aload_n hx hb dX2_need_4 rfl (lv_at hl 0 rfl) ?_
    refine va_get (D := xD E) (ci := 2) (v := .ref (xa E 3)) (C := RX2) (T := TX2) (N := 8) hx hb hts in_X2 hown hK (xO_R hW) 0 rfl rfl 0 (by decide) (hts _ q270) (fun _ h9 => h9) rfl dX2_need_5 ?_
    obtain ⟨h1, h2⟩ := Prod.mk.inj (Option.some.inj h); subst h1; subst h2
    exact x_athrow F hlk (hno _) hW hS dX2_need_8
/-! WildBells$Reader.byteAt(I)I -/
def fX2_byteAt (σ : xM) (a1 : Int32) : Option Int32 :=
  if (σ 4 0) ≤ a1 then (some (-1)) else (if xin a1 120 then (some ((σ 5 (a1.toNatClampNeg)) &&& 255)) else none)
set_option maxHeartbeats 4000000 in
theorem mX2_byteAt (l : Launch) (E : xE) (σ : xM) (a1 : Int32) (r : Int32) (h : fX2_byteAt σ a1 = some r) : Met l yX2_byteAt (ws_ yX2_byteAt cX2_byteAt 2 (some .int)) ({ frames := 0, cells := 0, slots := 0, locals := 0 } : Room) (xPc E σ [.ref (xa E 2), .int a1]) (xQc E (.returned (some (.int r))) σ) 0 0 (xA E) := by
  refine x_of (C := RX2) (n := "byteAt") (d := "(I)I") (r := (some .int)) (by decide) rfl (by first | decide | exact Nat.le_of_ble_eq_true rfl) ?_
  intro p e s m below meth c ls F hr hlk hW hS hl
  have hl : lv_has ls 2 [(0, .ref (xa E 2)), (1, .int a1)] := hl
  obtain ⟨hx, hb, hml, hown, hts⟩ := id F.1
  have hK := F.2.1.1
  unfold fX2_byteAt at h
  refine lv_iload_n hx hb dX2_byteAt_0 rfl (lv_at hl 1 rfl) ?_
  refine lv_aload_n hx hb dX2_byteAt_1 rfl (lv_at hl 0 rfl) ?_
  refine va_get (D := xD E) (ci := 2) (v := .int (σ 4 0)) (C := RX2) (T := TX2) (N := 8) hx hb hts in_X2 hown hK (xO_R hW) 0 rfl rfl 3 (by decide) (hts _ q275) (fun _ h9 => h9) rfl dX2_byteAt_2 ?_
  refine lv_icmp_ge (tgt := 21) hx hb dX2_byteAt_5 (by decide) (fun c1 => ?_) (fun c1 => ?_)
  · rw [if_pos c1] at h
    refine lv_iconst (v := (-1)) hx hb dX2_byteAt_21 (by decide) ?_
    have h := Option.some.inj h; subst h
    exact x_iret F hr hlk hW hS dX2_byteAt_22
  · rw [if_neg c1] at h
    refine lv_aload_n hx hb dX2_byteAt_8 rfl (lv_at hl 0 rfl) ?_
    refine va_get (D := xD E) (ci := 2) (v := .ref (xa E 4)) (C := RX2) (T := TX2) (N := 8) hx hb hts in_X2 hown hK (xO_R hW) 0 rfl rfl 1 (by decide) (hts _ q271) (fun _ h9 => h9) rfl dX2_byteAt_9 ?_
    refine lv_iload_n hx hb dX2_byteAt_12 rfl (lv_at hl 1 rfl) ?_
    by_cases hi2 : xin a1 120
    · rw [if_pos hi2] at h
      refine va_bald hx hb hK (xV_p hW xp_4) 0 1 rfl rfl hi2 dX2_byteAt_13 ?_
      refine lv_sipush (v := 255) hx hb dX2_byteAt_14 (by decide) ?_
      refine lv_iand hx hb dX2_byteAt_17 ?_
      refine lv_goto (tgt := 22) hx hb dX2_byteAt_18 (by decide) ?_
      have h := Option.some.inj h; subst h
      exact x_iret F hr hlk hW hS dX2_byteAt_22
    · rw [if_neg hi2] at h; cases h
/-! WildBells$Reader.isDigit(I)Z -/
def fX2_isDigit (a0 : Int32) : Int32 :=
  (fX0_in a0 48 57)
theorem bX2_isDigit (a0 : Int32) : narrow .boolean (.int (fX2_isDigit a0)) = .int (fX2_isDigit a0) := by
  unfold fX2_isDigit
  first
    | (repeat' split) <;> rfl
    | exact bX0_in _ _ _
    | exact bX13_within _ _ _
    | ((repeat' split) <;> first | rfl | exact bX0_in _ _ _ | exact bX0_isKind _ | exact bX0_isCell _ | exact bX0_isWeight _)
    | ((repeat' split) <;> first | rfl | exact bX13_within _ _ _ | exact bX13_isKind _ | exact bX13_isCell _)
set_option maxHeartbeats 4000000 in
theorem mX2_isDigit (l : Launch) (E : xE) (σ : xM) (a0 : Int32) : Met l yX2_isDigit (ws_ yX2_isDigit cX2_isDigit 1 (some .boolean)) ({ frames := 1, cells := 0, slots := 0, locals := 22 } : Room) (xPc E σ [.int a0]) (xQc E (.returned (some (.int (fX2_isDigit a0)))) σ) 0 0 (xA E) := by
  refine x_of (C := RX2) (n := "isDigit") (d := "(I)Z") (r := (some .boolean)) (by decide) rfl (by first | decide | exact Nat.le_of_ble_eq_true rfl) ?_
  intro p e s m below meth c ls F hr hlk hW hS hl
  have hl : lv_has ls 1 [(0, .int a0)] := hl
  obtain ⟨hx, hb, hml, hown, hts⟩ := id F.1
  have hK := F.2.1.1
  obtain ⟨r, h⟩ : ∃ r, fX2_isDigit a0 = r := ⟨_, rfl⟩
  rw [h]
  unfold fX2_isDigit at h
  refine lv_iload_n hx hb dX2_isDigit_0 rfl (lv_at hl 0 rfl) ?_
  refine lv_bipush (v := 48) hx hb dX2_isDigit_1 (by decide) ?_
  refine lv_bipush (v := 57) hx hb dX2_isDigit_3 (by decide) ?_
  refine x_backi (va_runSN (host := "WildBells") (As := [.int a0, .int 48, .int 57]) (rest := []) F.1 (mX0_in l E σ a0 48 57) ⟨va_cnB 3 hts (lw_meth q468) rfl rfl rfl (F.2.1.2.1 _ q1006 rfl) (hts _ q99) (by decide +kernel) ⟨Nat.le_of_ble_eq_true rfl, Nat.le_of_ble_eq_true rfl⟩, hts _ q467, trivial⟩ ⟨xPc.blind, F.pre hW hS [.int a0, .int 48, .int 57]⟩ rfl rfl hl.1 rfl (lv_room (Nat.le_of_ble_eq_true rfl)) dX2_isDigit_5 ⟨Nat.le_refl _, Nat.le_refl _⟩) hS (fun H locs hW hS => ?_)
  subst h
  exact x_zret F hr hlk hW hS (by first | exact bX0_in _ _ _ | rfl) dX2_isDigit_8
/-! WildBells$Reader.isLetter(I)Z -/
def fX2_isLetter (a0 : Int32) : Int32 :=
  (fX0_in a0 97 122)
theorem bX2_isLetter (a0 : Int32) : narrow .boolean (.int (fX2_isLetter a0)) = .int (fX2_isLetter a0) := by
  unfold fX2_isLetter
  first
    | (repeat' split) <;> rfl
    | exact bX0_in _ _ _
    | exact bX13_within _ _ _
    | ((repeat' split) <;> first | rfl | exact bX0_in _ _ _ | exact bX0_isKind _ | exact bX0_isCell _ | exact bX0_isWeight _)
    | ((repeat' split) <;> first | rfl | exact bX13_within _ _ _ | exact bX13_isKind _ | exact bX13_isCell _)
set_option maxHeartbeats 4000000 in
theorem mX2_isLetter (l : Launch) (E : xE) (σ : xM) (a0 : Int32) : Met l yX2_isLetter (ws_ yX2_isLetter cX2_isLetter 1 (some .boolean)) ({ frames := 1, cells := 0, slots := 0, locals := 22 } : Room) (xPc E σ [.int a0]) (xQc E (.returned (some (.int (fX2_isLetter a0)))) σ) 0 0 (xA E) := by
  refine x_of (C := RX2) (n := "isLetter") (d := "(I)Z") (r := (some .boolean)) (by decide) rfl (by first | decide | exact Nat.le_of_ble_eq_true rfl) ?_
  intro p e s m below meth c ls F hr hlk hW hS hl
  have hl : lv_has ls 1 [(0, .int a0)] := hl
  obtain ⟨hx, hb, hml, hown, hts⟩ := id F.1
  have hK := F.2.1.1
  obtain ⟨r, h⟩ : ∃ r, fX2_isLetter a0 = r := ⟨_, rfl⟩
  rw [h]
  unfold fX2_isLetter at h
  refine lv_iload_n hx hb dX2_isLetter_0 rfl (lv_at hl 0 rfl) ?_
  refine lv_bipush (v := 97) hx hb dX2_isLetter_1 (by decide) ?_
  refine lv_bipush (v := 122) hx hb dX2_isLetter_3 (by decide) ?_
  refine x_backi (va_runSN (host := "WildBells") (As := [.int a0, .int 97, .int 122]) (rest := []) F.1 (mX0_in l E σ a0 97 122) ⟨va_cnB 3 hts (lw_meth q468) rfl rfl rfl (F.2.1.2.1 _ q1006 rfl) (hts _ q99) (by decide +kernel) ⟨Nat.le_of_ble_eq_true rfl, Nat.le_of_ble_eq_true rfl⟩, hts _ q467, trivial⟩ ⟨xPc.blind, F.pre hW hS [.int a0, .int 97, .int 122]⟩ rfl rfl hl.1 rfl (lv_room (Nat.le_of_ble_eq_true rfl)) dX2_isLetter_5 ⟨Nat.le_refl _, Nat.le_refl _⟩) hS (fun H locs hW hS => ?_)
  subst h
  exact x_zret F hr hlk hW hS (by first | exact bX0_in _ _ _ | rfl) dX2_isLetter_8
/-! WildBells$Reader.isKey(II)Z -/
def gX2_isKey_37 (σ : xM) (b1 : Int32) (b2 : Int32) : Nat → Int32 → Int32 → Option (Int32 × Int32)
  | 0, _, _ => none
  | n + 1, x3, x4 => if b2 ≤ x4 then (some (x3, x4)) else (if x3 = 0 then (some (x3, x4)) else ((fJ5_charAt 14 ((6 * b1) + x4)).bind (fun r5 => (fX2_byteAt σ ((σ 4 2) + x4)).bind (fun r7 => if r5 = r7 then (gX2_isKey_37 σ b1 b2 n 1 (x4 + 1)) else (gX2_isKey_37 σ b1 b2 n 0 (x4 + 1))))))
def fX2_isKey (σ : xM) (a1 : Int32) (a2 : Int32) : Option Int32 :=
  if 6 < a2 then ((gX2_isKey_37 σ a1 a2 xfu 0 0).bind (fun q10 => if q10.1 = 0 ∨ q10.1 = 1 then (some q10.1) else none)) else (if a2 = 6 then ((gX2_isKey_37 σ a1 a2 xfu 1 0).bind (fun q14 => if q14.1 = 0 ∨ q14.1 = 1 then (some q14.1) else none)) else ((fJ5_charAt 14 ((6 * a1) + a2)).bind (fun r17 => if r17 = 32 then ((gX2_isKey_37 σ a1 a2 xfu 1 0).bind (fun q23 => if q23.1 = 0 ∨ q23.1 = 1 then (some q23.1) else none)) else ((gX2_isKey_37 σ a1 a2 xfu 0 0).bind (fun q20 => if q20.1 = 0 ∨ q20.1 = 1 then (some q20.1) else none)))))
set_option maxHeartbeats 4000000 in
theorem lX2_isKey_37 {p : Program} {l : Launch} {e : Env} {s : State} {m : MethodId} {av : Array Value} {below : List Frame} {meth : Method} {c : Code} {Q : State → Prop} {E : xE} {σ : xM} {b1 : Int32} {b2 : Int32} (F : xFx p m c cX2_isKey 5 s av RX2 E) : ∀ (n : Nat) (x3 : Int32) (x4 : Int32) (q : (Int32 × Int32)), gX2_isKey_37 σ b1 b2 n x3 x4 = some q → ∀ (H : Heap) (locs : List Loc) (ls : Array Slot), xW E σ H → va_S (xA E) s.heap H locs → lv_has ls 5 [(4, .int x4), (3, .int x3), (0, .ref (xa E 2)), (1, .int b1), (2, .int b2)] → (∀ (H : Heap) (locs : List Loc) (ls : Array Slot), xW E σ H → va_S (xA E) s.heap H locs → lv_has ls 5 [(4, .int q.2), (3, .int q.1), (0, .ref (xa E 2)), (1, .int b1), (2, .int b2)] → W p l e ({ frames := 4, cells := 0, slots := 0, locals := 85 } : Room) s m av below meth c H locs 0 0 Q (F0 m 85 ls [])) → W p l e ({ frames := 4, cells := 0, slots := 0, locals := 85 } : Room) s m av below meth c H locs 0 0 Q (F0 m 37 ls []) := by
  obtain ⟨hx, hb, hml, hown, hts⟩ := id F.1
  have hK := F.2.1.1
  intro n
  induction n with
  | zero =>
    intro x3 x4 q h
    cases h
  | succ n ih =>
    intro x3 x4 q h H locs ls hW hS hl kk
    rw [gX2_isKey_37] at h
    refine lv_iload hx hb dX2_isKey_37 (lv_at hl 0 rfl) ?_
    refine lv_iload_n hx hb dX2_isKey_39 rfl (lv_at hl 4 rfl) ?_
    refine lv_icmp_ge (tgt := 85) hx hb dX2_isKey_40 (by decide) (fun c2 => ?_) (fun c2 => ?_)
    · rw [if_pos c2] at h
      have h := Option.some.inj h; subst h
      exact kk _ _ _ hW hS (lv_sub hl [0, 1, 2, 3, 4] rfl)
    · rw [if_neg c2] at h
      refine lv_iload_n hx hb dX2_isKey_43 rfl (lv_at hl 1 rfl) ?_
      refine lv_if_eq (tgt := 85) hx hb dX2_isKey_44 (by decide) (fun c3 => ?_) (fun c3 => ?_)
      · rw [if_pos c3] at h
        have h := Option.some.inj h; subst h
        exact kk _ _ _ hW hS (lv_sub hl [0, 1, 2, 3, 4] rfl)
      · rw [if_neg c3] at h
        refine va_ldcS hx hb hown (xk_14 F.2.1) dX2_isKey_47 ?_
        refine lv_bipush (v := 6) hx hb dX2_isKey_49 (by decide) ?_
        refine lv_iload_n hx hb dX2_isKey_51 rfl (lv_at hl 3 rfl) ?_
        refine lv_imul hx hb dX2_isKey_52 ?_
        refine lv_iload hx hb dX2_isKey_53 (lv_at hl 0 rfl) ?_
        refine lv_iadd hx hb dX2_isKey_55 ?_
        cases g4 : fJ5_charAt 14 ((6 * b1) + x4) with
        | none => rw [g4] at h; cases h
        | some r5 =>
          rw [g4, Option.bind_some] at h
          refine x_backi (va_runV (C := RJ5) (b := (xks E 14)) (As := [.int ((6 * b1) + x4)]) (rest := []) F.1 (mJ5_charAt l E σ 14 (by decide) ((6 * b1) + x4) r5 g4) (cwV 1 hts (lw_V q1016 q1017 q1018 q119 q1019) rfl rfl rfl (by decide +kernel) ⟨Nat.le_of_ble_eq_true rfl, Nat.le_of_ble_eq_true rfl⟩) ⟨xPc.blind, vk_recv F.2.2.1 (by decide) hS, F.pre hW hS (.ref (xks E 14) :: [.int ((6 * b1) + x4)])⟩ rfl rfl hl.1 rfl (lv_room (Nat.le_of_ble_eq_true rfl)) dX2_isKey_56 ⟨Nat.le_refl _, Nat.le_refl _⟩) hS (fun H locs hW hS => ?_)
          refine lv_aload_n hx hb dX2_isKey_59 rfl (lv_at hl 2 rfl) ?_
          refine lv_aload_n hx hb dX2_isKey_60 rfl (lv_at hl 2 rfl) ?_
          refine va_get (D := xD E) (ci := 2) (v := .int (σ 4 2)) (C := RX2) (T := TX2) (N := 8) hx hb hts in_X2 hown hK (xO_R hW) 0 rfl rfl 5 (by decide) (hts _ q278) (fun _ h9 => h9) rfl dX2_isKey_61 ?_
          refine lv_iload hx hb dX2_isKey_64 (lv_at hl 0 rfl) ?_
          refine lv_iadd hx hb dX2_isKey_66 ?_
          cases g6 : fX2_byteAt σ ((σ 4 2) + x4) with
          | none => rw [g6] at h; cases h
          | some r7 =>
            rw [g6, Option.bind_some] at h
            refine x_backi (va_runV (C := RX2) (b := (xa E 2)) (As := [.int ((σ 4 2) + x4)]) (rest := [.int r5]) F.1 (mX2_byteAt l E σ ((σ 4 2) + x4) r7 g6) (cwV 1 hts (lw_V q999 q1001 qs35 q104 q1002) rfl rfl rfl (by decide +kernel) ⟨Nat.le_of_ble_eq_true rfl, Nat.le_of_ble_eq_true rfl⟩) ⟨xPc.blind, va_recv hK (xO_R hW) (ci := 2) (q0 := 0) rfl rfl, F.pre hW hS (.ref (xa E 2) :: [.int ((σ 4 2) + x4)])⟩ rfl rfl hl.1 rfl (lv_room (Nat.le_of_ble_eq_true rfl)) dX2_isKey_67 ⟨Nat.le_refl _, Nat.le_refl _⟩) hS (fun H locs hW hS => ?_)
            refine lv_icmp_ne (tgt := 77) hx hb dX2_isKey_70 (by decide) (fun c8 => ?_) (fun c8 => ?_)
            · rw [if_neg c8] at h
              refine lv_iconst (v := 0) hx hb dX2_isKey_77 (by decide) ?_
              refine lv_istore_n (lv' := [(3, .int 0), (4, .int x4), (0, .ref (xa E 2)), (1, .int b1), (2, .int b2)]) hx hb dX2_isKey_78 rfl hl (by decide) rfl (fun ls hl => ?_)
              refine lv_iinc (k := 1) (v := (x4 + 1)) (lv' := [(4, .int (x4 + 1)), (3, .int 0), (0, .ref (xa E 2)), (1, .int b1), (2, .int b2)]) hx hb dX2_isKey_79 hl rfl rfl (by decide) rfl (fun ls hl => ?_)
              refine lv_goto (tgt := 37) hx hb dX2_isKey_82 (by decide) ?_
              exact ih 0 (x4 + 1) _ h _ _ _ hW hS (lv_sub hl [0, 1, 2, 3, 4] rfl) kk
            · rw [if_pos c8] at h
              refine lv_iconst (v := 1) hx hb dX2_isKey_73 (by decide) ?_
              refine lv_goto (tgt := 78) hx hb dX2_isKey_74 (by decide) ?_
              refine lv_istore_n (lv' := [(3, .int 1), (4, .int x4), (0, .ref (xa E 2)), (1, .int b1), (2, .int b2)]) hx hb dX2_isKey_78 rfl hl (by decide) rfl (fun ls hl => ?_)
              refine lv_iinc (k := 1) (v := (x4 + 1)) (lv' := [(4, .int (x4 + 1)), (3, .int 1), (0, .ref (xa E 2)), (1, .int b1), (2, .int b2)]) hx hb dX2_isKey_79 hl rfl rfl (by decide) rfl (fun ls hl => ?_)
              refine lv_goto (tgt := 37) hx hb dX2_isKey_82 (by decide) ?_
              exact ih 1 (x4 + 1) _ h _ _ _ hW hS (lv_sub hl [0, 1, 2, 3, 4] rfl) kk
set_option maxHeartbeats 4000000 in
theorem mX2_isKey (l : Launch) (E : xE) (σ : xM) (a1 : Int32) (a2 : Int32) (r : Int32) (h : fX2_isKey σ a1 a2 = some r) : Met l yX2_isKey (ws_ yX2_isKey cX2_isKey 5 (some .boolean)) ({ frames := 4, cells := 0, slots := 0, locals := 85 } : Room) (xPc E σ [.ref (xa E 2), .int a1, .int a2]) (xQc E (.returned (some (.int r))) σ) 0 0 (xA E) := by
  refine x_of (C := RX2) (n := "isKey") (d := "(II)Z") (r := (some .boolean)) (by decide) rfl (by first | decide | exact Nat.le_of_ble_eq_true rfl) ?_
  intro p e s m below meth c ls F hr hlk hW hS hl
  have hl : lv_has ls 5 [(0, .ref (xa E 2)), (1, .int a1), (2, .int a2)] := hl
  obtain ⟨hx, hb, hml, hown, hts⟩ := id F.1
  have hK := F.2.1.1
  unfold fX2_isKey at h
  refine lv_iload_n hx hb dX2_isKey_0 rfl (lv_at hl 2 rfl) ?_
  refine lv_bipush (v := 6) hx hb dX2_isKey_1 (by decide) ?_
  refine lv_icmp_gt (tgt := 32) hx hb dX2_isKey_3 (by decide) (fun c1 => ?_) (fun c1 => ?_)
  · rw [if_pos c1] at h
    refine lv_iconst (v := 0) hx hb dX2_isKey_32 (by decide) ?_
    refine lv_istore_n (lv' := [(3, .int 0), (0, .ref (xa E 2)), (1, .int a1), (2, .int a2)]) hx hb dX2_isKey_33 rfl hl (by decide) rfl (fun ls hl => ?_)
    refine lv_iconst (v := 0) hx hb dX2_isKey_34 (by decide) ?_
    refine lv_istore (lv' := [(4, .int 0), (3, .int 0), (0, .ref (xa E 2)), (1, .int a1), (2, .int a2)]) hx hb dX2_isKey_35 hl (by decide) rfl (fun ls hl => ?_)
    cases g9 : gX2_isKey_37 σ a1 a2 xfu 0 0 with
    | none => rw [g9] at h; cases h
    | some q10 =>
      rw [g9, Option.bind_some] at h
      refine lX2_isKey_37 F xfu 0 0 q10 g9 _ _ _ hW hS (lv_sub hl [0, 1, 2, 3, 4] rfl) (fun H locs ls hW hS hl => ?_)
      refine lv_iload_n hx hb dX2_isKey_85 rfl (lv_at hl 1 rfl) ?_
      by_cases hz11 : q10.1 = 0 ∨ q10.1 = 1
      · rw [if_pos hz11] at h
        have h := Option.some.inj h; subst h
        exact x_zret F hr hlk hW hS (x_b01 hz11) dX2_isKey_86
      · rw [if_neg hz11] at h; cases h
  · rw [if_neg c1] at h
    refine lv_iload_n hx hb dX2_isKey_6 rfl (lv_at hl 2 rfl) ?_
    refine lv_bipush (v := 6) hx hb dX2_isKey_7 (by decide) ?_
    refine lv_icmp_eq (tgt := 28) hx hb dX2_isKey_9 (by decide) (fun c12 => ?_) (fun c12 => ?_)
    · rw [if_pos c12] at h
      refine lv_iconst (v := 1) hx hb dX2_isKey_28 (by decide) ?_
      refine lv_goto (tgt := 33) hx hb dX2_isKey_29 (by decide) ?_
      refine lv_istore_n (lv' := [(3, .int 1), (0, .ref (xa E 2)), (1, .int a1), (2, .int a2)]) hx hb dX2_isKey_33 rfl hl (by decide) rfl (fun ls hl => ?_)
      refine lv_iconst (v := 0) hx hb dX2_isKey_34 (by decide) ?_
      refine lv_istore (lv' := [(4, .int 0), (3, .int 1), (0, .ref (xa E 2)), (1, .int a1), (2, .int a2)]) hx hb dX2_isKey_35 hl (by decide) rfl (fun ls hl => ?_)
      cases g13 : gX2_isKey_37 σ a1 a2 xfu 1 0 with
      | none => rw [g13] at h; cases h
      | some q14 =>
        rw [g13, Option.bind_some] at h
        refine lX2_isKey_37 F xfu 1 0 q14 g13 _ _ _ hW hS (lv_sub hl [0, 1, 2, 3, 4] rfl) (fun H locs ls hW hS hl => ?_)
        refine lv_iload_n hx hb dX2_isKey_85 rfl (lv_at hl 1 rfl) ?_
        by_cases hz15 : q14.1 = 0 ∨ q14.1 = 1
        · rw [if_pos hz15] at h
          have h := Option.some.inj h; subst h
          exact x_zret F hr hlk hW hS (x_b01 hz15) dX2_isKey_86
        · rw [if_neg hz15] at h; cases h
    · rw [if_neg c12] at h
      refine va_ldcS hx hb hown (xk_14 F.2.1) dX2_isKey_12 ?_
      refine lv_bipush (v := 6) hx hb dX2_isKey_14 (by decide) ?_
      refine lv_iload_n hx hb dX2_isKey_16 rfl (lv_at hl 1 rfl) ?_
      refine lv_imul hx hb dX2_isKey_17 ?_
      refine lv_iload_n hx hb dX2_isKey_18 rfl (lv_at hl 2 rfl) ?_
      refine lv_iadd hx hb dX2_isKey_19 ?_
      cases g16 : fJ5_charAt 14 ((6 * a1) + a2) with
      | none => rw [g16] at h; cases h
      | some r17 =>
        rw [g16, Option.bind_some] at h
        refine x_backi (va_runV (C := RJ5) (b := (xks E 14)) (As := [.int ((6 * a1) + a2)]) (rest := []) F.1 (mJ5_charAt l E σ 14 (by decide) ((6 * a1) + a2) r17 g16) (cwV 1 hts (lw_V q1016 q1017 q1018 q119 q1019) rfl rfl rfl (by decide +kernel) ⟨Nat.le_of_ble_eq_true rfl, Nat.le_of_ble_eq_true rfl⟩) ⟨xPc.blind, vk_recv F.2.2.1 (by decide) hS, F.pre hW hS (.ref (xks E 14) :: [.int ((6 * a1) + a2)])⟩ rfl rfl hl.1 rfl (lv_room (Nat.le_of_ble_eq_true rfl)) dX2_isKey_20 ⟨Nat.le_refl _, Nat.le_refl _⟩) hS (fun H locs hW hS => ?_)
        refine lv_bipush (v := 32) hx hb dX2_isKey_23 (by decide) ?_
        refine lv_icmp_ne (tgt := 32) hx hb dX2_isKey_25 (by decide) (fun c18 => ?_) (fun c18 => ?_)
        · rw [if_neg c18] at h
          refine lv_iconst (v := 0) hx hb dX2_isKey_32 (by decide) ?_
          refine lv_istore_n (lv' := [(3, .int 0), (0, .ref (xa E 2)), (1, .int a1), (2, .int a2)]) hx hb dX2_isKey_33 rfl hl (by decide) rfl (fun ls hl => ?_)
          refine lv_iconst (v := 0) hx hb dX2_isKey_34 (by decide) ?_
          refine lv_istore (lv' := [(4, .int 0), (3, .int 0), (0, .ref (xa E 2)), (1, .int a1), (2, .int a2)]) hx hb dX2_isKey_35 hl (by decide) rfl (fun ls hl => ?_)
          cases g19 : gX2_isKey_37 σ a1 a2 xfu 0 0 with
          | none => rw [g19] at h; cases h
          | some q20 =>
            rw [g19, Option.bind_some] at h
            refine lX2_isKey_37 F xfu 0 0 q20 g19 _ _ _ hW hS (lv_sub hl [0, 1, 2, 3, 4] rfl) (fun H locs ls hW hS hl => ?_)
            refine lv_iload_n hx hb dX2_isKey_85 rfl (lv_at hl 1 rfl) ?_
            by_cases hz21 : q20.1 = 0 ∨ q20.1 = 1
            · rw [if_pos hz21] at h
              have h := Option.some.inj h; subst h
              exact x_zret F hr hlk hW hS (x_b01 hz21) dX2_isKey_86
            · rw [if_neg hz21] at h; cases h
        · rw [if_pos c18] at h
          refine lv_iconst (v := 1) hx hb dX2_isKey_28 (by decide) ?_
          refine lv_goto (tgt := 33) hx hb dX2_isKey_29 (by decide) ?_
          refine lv_istore_n (lv' := [(3, .int 1), (0, .ref (xa E 2)), (1, .int a1), (2, .int a2)]) hx hb dX2_isKey_33 rfl hl (by decide) rfl (fun ls hl => ?_)
          refine lv_iconst (v := 0) hx hb dX2_isKey_34 (by decide) ?_
          refine lv_istore (lv' := [(4, .int 0), (3, .int 1), (0, .ref (xa E 2)), (1, .int a1), (2, .int a2)]) hx hb dX2_isKey_35 hl (by decide) rfl (fun ls hl => ?_)
          cases g22 : gX2_isKey_37 σ a1 a2 xfu 1 0 with
          | none => rw [g22] at h; cases h
          | some q23 =>
            rw [g22, Option.bind_some] at h
            refine lX2_isKey_37 F xfu 1 0 q23 g22 _ _ _ hW hS (lv_sub hl [0, 1, 2, 3, 4] rfl) (fun H locs ls hW hS hl => ?_)
            refine lv_iload_n hx hb dX2_isKey_85 rfl (lv_at hl 1 rfl) ?_
            by_cases hz24 : q23.1 = 0 ∨ q23.1 = 1
            · rw [if_pos hz24] at h
              have h := Option.some.inj h; subst h
              exact x_zret F hr hlk hW hS (x_b01 hz24) dX2_isKey_86
            · rw [if_neg hz24] at h; cases h
/-! WildBells$Reader.word()V -/
def gX2_word_0  : Nat → xM → Option xM
  | 0, _ => none
  | n + 1, σ => (fX2_byteAt σ (σ 4 1)).bind (fun r2 => if (fX2_isLetter r2) = 0 then (some σ) else (gX2_word_0 n (xup σ 4 1 ((σ 4 1) + 1))))
def gX2_word_29 (σ : xM) : Nat → Int32 → Option Int32
  | 0, _ => none
  | n + 1, x1 => if 14 ≤ x1 then (some x1) else ((fX2_isKey σ x1 ((σ 4 1) - (σ 4 2))).bind (fun r8 => if r8 = 0 then (gX2_word_29 σ n (x1 + 1)) else (some x1)))
def fX2_word (σ : xM) : Option (Option Unit × xM) :=
  (gX2_word_0 xfu σ).bind (fun q5 => (gX2_word_29 q5 xfu 0).bind (fun q11 => if 14 ≤ q11 then (xbt (fX2_need q5 0) (fun r14 σ15 => some (some (), (xup (xup σ15 4 3 2) 4 4 q11)))) else (xbt (fX2_need q5 1) (fun r17 σ18 => some (some (), (xup (xup σ18 4 3 2) 4 4 q11))))))
set_option maxHeartbeats 4000000 in
theorem lX2_word_0 {p : Program} {l : Launch} {e : Env} {s : State} {m : MethodId} {av : Array Value} {below : List Frame} {meth : Method} {c : Code} {Q : State → Prop} {E : xE} (F : xFx p m c cX2_word 2 s av RX2 E) : ∀ (n : Nat) (σ : xM) (q : xM), gX2_word_0 n σ = some q → ∀ (H : Heap) (locs : List Loc) (ls : Array Slot), xW E σ H → va_S (xA E) s.heap H locs → lv_has ls 2 [(0, .ref (xa E 2))] → (∀ (H : Heap) (locs : List Loc) (ls : Array Slot), xW E q H → va_S (xA E) s.heap H locs → lv_has ls 2 [(0, .ref (xa E 2))] → W p l e ({ frames := 5, cells := 0, slots := 0, locals := 109 } : Room) s m av below meth c H locs 0 0 Q (F0 m 27 ls [])) → W p l e ({ frames := 5, cells := 0, slots := 0, locals := 109 } : Room) s m av below meth c H locs 0 0 Q (F0 m 0 ls []) := by
  obtain ⟨hx, hb, hml, hown, hts⟩ := id F.1
  have hK := F.2.1.1
  intro n
  induction n with
  | zero =>
    intro σ q h
    cases h
  | succ n ih =>
    intro σ q h H locs ls hW hS hl kk
    rw [gX2_word_0] at h
    refine lv_aload_n hx hb dX2_word_0 rfl (lv_at hl 0 rfl) ?_
    refine lv_aload_n hx hb dX2_word_1 rfl (lv_at hl 0 rfl) ?_
    refine va_get (D := xD E) (ci := 2) (v := .int (σ 4 1)) (C := RX2) (T := TX2) (N := 8) hx hb hts in_X2 hown hK (xO_R hW) 0 rfl rfl 4 (by decide) (hts _ q277) (fun _ h9 => h9) rfl dX2_word_2 ?_
    cases g1 : fX2_byteAt σ (σ 4 1) with
    | none => rw [g1] at h; cases h
    | some r2 =>
      rw [g1, Option.bind_some] at h
      refine x_backi (va_runV (C := RX2) (b := (xa E 2)) (As := [.int (σ 4 1)]) (rest := []) F.1 (mX2_byteAt l E σ (σ 4 1) r2 g1) (cwV 1 hts (lw_V q999 q1001 qs35 q104 q1002) rfl rfl rfl (by decide +kernel) ⟨Nat.le_of_ble_eq_true rfl, Nat.le_of_ble_eq_true rfl⟩) ⟨xPc.blind, va_recv hK (xO_R hW) (ci := 2) (q0 := 0) rfl rfl, F.pre hW hS (.ref (xa E 2) :: [.int (σ 4 1)])⟩ rfl rfl hl.1 rfl (lv_room (Nat.le_of_ble_eq_true rfl)) dX2_word_5 ⟨Nat.le_refl _, Nat.le_refl _⟩) hS (fun H locs hW hS => ?_)
      refine x_backi (va_runS (As := [.int r2]) (rest := []) F.1 (mX2_isLetter l E σ r2) (va_cwS 1 hts (lw_S q1003 q1004 q104 q1005) rfl rfl rfl (by decide +kernel) ⟨Nat.le_of_ble_eq_true rfl, Nat.le_of_ble_eq_true rfl⟩) ⟨xPc.blind, F.pre hW hS [.int r2]⟩ rfl rfl hl.1 rfl (lv_room (Nat.le_of_ble_eq_true rfl)) dX2_word_8 ⟨Nat.le_refl _, Nat.le_refl _⟩) hS (fun H locs hW hS => ?_)
      refine lv_if_eq (tgt := 27) hx hb dX2_word_11 (by decide) (fun c3 => ?_) (fun c3 => ?_)
      · rw [if_pos c3] at h
        have h := Option.some.inj h; subst h
        exact kk _ _ _ hW hS (lv_sub hl [0] rfl)
      · rw [if_neg c3] at h
        refine lv_aload_n hx hb dX2_word_14 rfl (lv_at hl 0 rfl) ?_
        refine lv_dup hx hb dX2_word_15 rfl ?_
        refine va_get (D := xD E) (ci := 2) (v := .int (σ 4 1)) (C := RX2) (T := TX2) (N := 8) hx hb hts in_X2 hown hK (xO_R hW) 0 rfl rfl 4 (by decide) (hts _ q277) (fun _ h9 => h9) rfl dX2_word_16 ?_
        refine lv_iconst (v := 1) hx hb dX2_word_19 (by decide) ?_
        refine lv_iadd hx hb dX2_word_20 ?_
        refine x_put (C := RX2) (T := TX2) (N := 8) (ci := 2) (ty := .int) F hW hS in_X2 tyX2 tyX2_ok nmX2 rfl 2 4 4 1 (by decide) rfl (by decide) rfl (by decide) (hts _ q277) (fun _ h9 => h9) rfl (by decide +kernel) rfl rfl dX2_word_21 (fun H locs hW hS => ?_)
        refine lv_goto (tgt := 0) hx hb dX2_word_24 (by decide) ?_
        exact ih (xup σ 4 1 ((σ 4 1) + 1)) _ h _ _ _ hW hS (lv_sub hl [0] rfl) kk
set_option maxHeartbeats 4000000 in
theorem lX2_word_29 {p : Program} {l : Launch} {e : Env} {s : State} {m : MethodId} {av : Array Value} {below : List Frame} {meth : Method} {c : Code} {Q : State → Prop} {E : xE} {σ : xM} (F : xFx p m c cX2_word 2 s av RX2 E) : ∀ (n : Nat) (x1 : Int32) (q : Int32), gX2_word_29 σ n x1 = some q → ∀ (H : Heap) (locs : List Loc) (ls : Array Slot), xW E σ H → va_S (xA E) s.heap H locs → lv_has ls 2 [(1, .int x1), (0, .ref (xa E 2))] → (∀ (H : Heap) (locs : List Loc) (ls : Array Slot), xW E σ H → va_S (xA E) s.heap H locs → lv_has ls 2 [(1, .int q), (0, .ref (xa E 2))] → W p l e ({ frames := 5, cells := 0, slots := 0, locals := 109 } : Room) s m av below meth c H locs 0 0 Q (F0 m 58 ls [])) → W p l e ({ frames := 5, cells := 0, slots := 0, locals := 109 } : Room) s m av below meth c H locs 0 0 Q (F0 m 29 ls []) := by
  obtain ⟨hx, hb, hml, hown, hts⟩ := id F.1
  have hK := F.2.1.1
  intro n
  induction n with
  | zero =>
    intro x1 q h
    cases h
  | succ n ih =>
    intro x1 q h H locs ls hW hS hl kk
    rw [gX2_word_29] at h
    refine lv_iload_n hx hb dX2_word_29 rfl (lv_at hl 0 rfl) ?_
    refine lv_bipush (v := 14) hx hb dX2_word_30 (by decide) ?_
    refine lv_icmp_ge (tgt := 58) hx hb dX2_word_32 (by decide) (fun c6 => ?_) (fun c6 => ?_)
    · rw [if_pos c6] at h
      have h := Option.some.inj h; subst h
      exact kk _ _ _ hW hS (lv_sub hl [0, 1] rfl)
    · rw [if_neg c6] at h
      refine lv_aload_n hx hb dX2_word_35 rfl (lv_at hl 1 rfl) ?_
      refine lv_iload_n hx hb dX2_word_36 rfl (lv_at hl 0 rfl) ?_
      refine lv_aload_n hx hb dX2_word_37 rfl (lv_at hl 1 rfl) ?_
      refine va_get (D := xD E) (ci := 2) (v := .int (σ 4 1)) (C := RX2) (T := TX2) (N := 8) hx hb hts in_X2 hown hK (xO_R hW) 0 rfl rfl 4 (by decide) (hts _ q277) (fun _ h9 => h9) rfl dX2_word_38 ?_
      refine lv_aload_n hx hb dX2_word_41 rfl (lv_at hl 1 rfl) ?_
      refine va_get (D := xD E) (ci := 2) (v := .int (σ 4 2)) (C := RX2) (T := TX2) (N := 8) hx hb hts in_X2 hown hK (xO_R hW) 0 rfl rfl 5 (by decide) (hts _ q278) (fun _ h9 => h9) rfl dX2_word_42 ?_
      refine lv_isub hx hb dX2_word_45 ?_
      cases g7 : fX2_isKey σ x1 ((σ 4 1) - (σ 4 2)) with
      | none => rw [g7] at h; cases h
      | some r8 =>
        rw [g7, Option.bind_some] at h
        refine x_backi (va_runV (C := RX2) (b := (xa E 2)) (As := [.int x1, .int ((σ 4 1) - (σ 4 2))]) (rest := []) F.1 (mX2_isKey l E σ x1 ((σ 4 1) - (σ 4 2)) r8 g7) (cwV 2 hts (lw_V q1011 q1013 qs37 q104 q1014) rfl rfl rfl (by decide +kernel) ⟨Nat.le_of_ble_eq_true rfl, Nat.le_of_ble_eq_true rfl⟩) ⟨xPc.blind, va_recv hK (xO_R hW) (ci := 2) (q0 := 0) rfl rfl, F.pre hW hS (.ref (xa E 2) :: [.int x1, .int ((σ 4 1) - (σ 4 2))])⟩ rfl rfl hl.1 rfl (lv_room (Nat.le_of_ble_eq_true rfl)) dX2_word_46 ⟨Nat.le_refl _, Nat.le_refl _⟩) hS (fun H locs hW hS => ?_)
        refine lv_if_ne (tgt := 58) hx hb dX2_word_49 (by decide) (fun c9 => ?_) (fun c9 => ?_)
        · rw [if_neg c9] at h
          have h := Option.some.inj h; subst h
          exact kk _ _ _ hW hS (lv_sub hl [0, 1] rfl)
        · rw [if_pos c9] at h
          refine lv_iinc (k := 0) (v := (x1 + 1)) (lv' := [(1, .int (x1 + 1)), (0, .ref (xa E 2))]) hx hb dX2_word_52 hl rfl rfl (by decide) rfl (fun ls hl => ?_)
          refine lv_goto (tgt := 29) hx hb dX2_word_55 (by decide) ?_
          exact ih (x1 + 1) _ h _ _ _ hW hS (lv_sub hl [0, 1] rfl) kk
set_option maxHeartbeats 4000000 in
theorem mX2_word (l : Launch) (E : xE) (σ : xM) (o : Option Unit) (σ' : xM) (h : fX2_word σ = some (o, σ')) : xMT l yX2_word (ws_ yX2_word cX2_word 2 none) ({ frames := 5, cells := 0, slots := 0, locals := 109 } : Room) (xPc E σ [.ref (xa E 2)]) (xQc E (xoV (xa E 3) o) σ') (xA E) := by
  refine x_ofT (C := RX2) (n := "word") (d := "()V") (r := none) (by decide) (by first | decide | exact Nat.le_of_ble_eq_true rfl) ?_
  intro p e s m below meth c ls F hr hlk hno hW hS hl
  have hl : lv_has ls 2 [(0, .ref (xa E 2))] := hl
  obtain ⟨hx, hb, hml, hown, hts⟩ := id F.1
  have hK := F.2.1.1
  unfold fX2_word at h
  cases g4 : gX2_word_0 xfu σ with
  | none => rw [g4] at h; cases h
  | some q5 =>
    rw [g4, Option.bind_some] at h
    refine lX2_word_0 F xfu σ q5 g4 _ _ _ hW hS (lv_sub hl [0] rfl) (fun H locs ls hW hS hl => ?_)
    refine lv_iconst (v := 0) hx hb dX2_word_27 (by decide) ?_
    refine lv_istore_n (lv' := [(1, .int 0), (0, .ref (xa E 2))]) hx hb dX2_word_28 rfl hl (by decide) rfl (fun ls hl => ?_)
    cases g10 : gX2_word_29 q5 xfu 0 with
    | none => rw [g10] at h; cases h
    | some q11 =>
      rw [g10, Option.bind_some] at h
      refine lX2_word_29 F xfu 0 q11 g10 _ _ _ hW hS (lv_sub hl [0, 1] rfl) (fun H locs ls hW hS hl => ?_)
      refine lv_aload_n hx hb dX2_word_58 rfl (lv_at hl 1 rfl) ?_
      refine lv_iload_n hx hb dX2_word_59 rfl (lv_at hl 0 rfl) ?_
      refine lv_bipush (v := 14) hx hb dX2_word_60 (by decide) ?_
      refine lv_icmp_ge (tgt := 69) hx hb dX2_word_62 (by decide) (fun c12 => ?_) (fun c12 => ?_)
      · rw [if_pos c12] at h
        refine lv_iconst (v := 0) hx hb dX2_word_69 (by decide) ?_
        rcases g13 : fX2_need q5 0 with _ | ⟨_ | r14, σ15⟩
        · rw [g13] at h; cases h
        · rw [g13, xbt_t] at h
          obtain ⟨h1, h2⟩ := Prod.mk.inj (Option.some.inj h); subst h1; subst h2
          exact x_backTl (x_runVT (C := RX2) (b := (xa E 2)) (As := [.int 0]) (rest := []) F.1 (mX2_need l E q5 0 none σ15 g13) (cwV 1 hts (lw_V q1056 q1058 qs38 q104 q1059) rfl rfl rfl (by decide +kernel) ⟨Nat.le_of_ble_eq_true rfl, Nat.le_of_ble_eq_true rfl⟩) ⟨xPc.blind, va_recv hK (xO_R hW) (ci := 2) (q0 := 0) rfl rfl, F.pre hW hS (.ref (xa E 2) :: [.int 0])⟩ rfl rfl hl.1 rfl (lv_room (Nat.le_of_ble_eq_true rfl)) dX2_word_70 ⟨Nat.le_refl _, Nat.le_refl _⟩) hS hlk (hno _)
        · rw [g13, xbt_r] at h
          refine x_backTv (x_runVT (C := RX2) (b := (xa E 2)) (As := [.int 0]) (rest := []) F.1 (mX2_need l E q5 0 (some r14) σ15 g13) (cwV 1 hts (lw_V q1056 q1058 qs38 q104 q1059) rfl rfl rfl (by decide +kernel) ⟨Nat.le_of_ble_eq_true rfl, Nat.le_of_ble_eq_true rfl⟩) ⟨xPc.blind, va_recv hK (xO_R hW) (ci := 2) (q0 := 0) rfl rfl, F.pre hW hS (.ref (xa E 2) :: [.int 0])⟩ rfl rfl hl.1 rfl (lv_room (Nat.le_of_ble_eq_true rfl)) dX2_word_70 ⟨Nat.le_refl _, Nat.le_refl _⟩) hS (fun H locs hW hS => ?_)
          refine lv_aload_n hx hb dX2_word_73 rfl (lv_at hl 1 rfl) ?_
          refine lv_iconst (v := 2) hx hb dX2_word_74 (by decide) ?_
          refine x_put (C := RX2) (T := TX2) (N := 8) (ci := 2) (ty := .int) F hW hS in_X2 tyX2 tyX2_ok nmX2 rfl 2 6 4 3 (by decide) rfl (by decide) rfl (by decide) (hts _ q280) (fun _ h9 => h9) rfl (by decide +kernel) rfl rfl dX2_word_75 (fun H locs hW hS => ?_)
          refine lv_aload_n hx hb dX2_word_78 rfl (lv_at hl 1 rfl) ?_
          refine lv_iload_n hx hb dX2_word_79 rfl (lv_at hl 0 rfl) ?_
          refine x_put (C := RX2) (T := TX2) (N := 8) (ci := 2) (ty := .int) F hW hS in_X2 tyX2 tyX2_ok nmX2 rfl 2 7 4 4 (by decide) rfl (by decide) rfl (by decide) (hts _ q281) (fun _ h9 => h9) rfl (by decide +kernel) rfl rfl dX2_word_80 (fun H locs hW hS => ?_)
          obtain ⟨h1, h2⟩ := Prod.mk.inj (Option.some.inj h); subst h1; subst h2
          exact x_mono xMQ.of (x_vret F hr hlk hW hS dX2_word_83)
      · rw [if_neg c12] at h
        refine lv_iconst (v := 1) hx hb dX2_word_65 (by decide) ?_
        refine lv_goto (tgt := 70) hx hb dX2_word_66 (by decide) ?_
        rcases g16 : fX2_need q5 1 with _ | ⟨_ | r17, σ18⟩
        · rw [g16] at h; cases h
        · rw [g16, xbt_t] at h
          obtain ⟨h1, h2⟩ := Prod.mk.inj (Option.some.inj h); subst h1; subst h2
          exact x_backTl (x_runVT (C := RX2) (b := (xa E 2)) (As := [.int 1]) (rest := []) F.1 (mX2_need l E q5 1 none σ18 g16) (cwV 1 hts (lw_V q1056 q1058 qs38 q104 q1059) rfl rfl rfl (by decide +kernel) ⟨Nat.le_of_ble_eq_true rfl, Nat.le_of_ble_eq_true rfl⟩) ⟨xPc.blind, va_recv hK (xO_R hW) (ci := 2) (q0 := 0) rfl rfl, F.pre hW hS (.ref (xa E 2) :: [.int 1])⟩ rfl rfl hl.1 rfl (lv_room (Nat.le_of_ble_eq_true rfl)) dX2_word_70 ⟨Nat.le_refl _, Nat.le_refl _⟩) hS hlk (hno _)
        · rw [g16, xbt_r] at h
          refine x_backTv (x_runVT (C := RX2) (b := (xa E 2)) (As := [.int 1]) (rest := []) F.1 (mX2_need l E q5 1 (some r17) σ18 g16) (cwV 1 hts (lw_V q1056 q1058 qs38 q104 q1059) rfl rfl rfl (by decide +kernel) ⟨Nat.le_of_ble_eq_true rfl, Nat.le_of_ble_eq_true rfl⟩) ⟨xPc.blind, va_recv hK (xO_R hW) (ci := 2) (q0 := 0) rfl rfl, F.pre hW hS (.ref (xa E 2) :: [.int 1])⟩ rfl rfl hl.1 rfl (lv_room (Nat.le_of_ble_eq_true rfl)) dX2_word_70 ⟨Nat.le_refl _, Nat.le_refl _⟩) hS (fun H locs hW hS => ?_)
          refine lv_aload_n hx hb dX2_word_73 rfl (lv_at hl 1 rfl) ?_
          refine lv_iconst (v := 2) hx hb dX2_word_74 (by decide) ?_
          refine x_put (C := RX2) (T := TX2) (N := 8) (ci := 2) (ty := .int) F hW hS in_X2 tyX2 tyX2_ok nmX2 rfl 2 6 4 3 (by decide) rfl (by decide) rfl (by decide) (hts _ q280) (fun _ h9 => h9) rfl (by decide +kernel) rfl rfl dX2_word_75 (fun H locs hW hS => ?_)
          refine lv_aload_n hx hb dX2_word_78 rfl (lv_at hl 1 rfl) ?_
          refine lv_iload_n hx hb dX2_word_79 rfl (lv_at hl 0 rfl) ?_
          refine x_put (C := RX2) (T := TX2) (N := 8) (ci := 2) (ty := .int) F hW hS in_X2 tyX2 tyX2_ok nmX2 rfl 2 7 4 4 (by decide) rfl (by decide) rfl (by decide) (hts _ q281) (fun _ h9 => h9) rfl (by decide +kernel) rfl rfl dX2_word_80 (fun H locs hW hS => ?_)
          obtain ⟨h1, h2⟩ := Prod.mk.inj (Option.some.inj h); subst h1; subst h2
          exact x_mono xMQ.of (x_vret F hr hlk hW hS dX2_word_83)
/-! WildBells$Reader.digits()V -/
def gX2_digits_2  : Nat → Int32 → xM → Option (Int32 × xM)
  | 0, _, _ => none
  | n + 1, x1, σ => (fX2_byteAt σ (σ 4 1)).bind (fun r2 => if (fX2_isDigit r2) = 0 then (some (x1, σ)) else (if x1 ≤ 999 then (gX2_digits_2 n (((10 * x1) + r2) - 48) (xup σ 4 1 ((σ 4 1) + 1))) else (gX2_digits_2 n x1 (xup σ 4 1 ((σ 4 1) + 1)))))
def fX2_digits (σ : xM) : Option (Option Unit × xM) :=
  (gX2_digits_2 xfu 0 σ).bind (fun q6 => if 999 < q6.1 then (xbt (fX2_need (xup (xup q6.2 4 3 1) 4 4 q6.1) 0) (fun r9 σ10 => some (some (), σ10))) else (xbt (fX2_need (xup (xup q6.2 4 3 1) 4 4 q6.1) 1) (fun r12 σ13 => some (some (), σ13))))
set_option maxHeartbeats 4000000 in
theorem lX2_digits_2 {p : Program} {l : Launch} {e : Env} {s : State} {m : MethodId} {av : Array Value} {below : List Frame} {meth : Method} {c : Code} {Q : State → Prop} {E : xE} (F : xFx p m c cX2_digits 2 s av RX2 E) : ∀ (n : Nat) (x1 : Int32) (σ : xM) (q : (Int32 × xM)), gX2_digits_2 n x1 σ = some q → ∀ (H : Heap) (locs : List Loc) (ls : Array Slot), xW E σ H → va_S (xA E) s.heap H locs → lv_has ls 2 [(1, .int x1), (0, .ref (xa E 2))] → (∀ (H : Heap) (locs : List Loc) (ls : Array Slot), xW E q.2 H → va_S (xA E) s.heap H locs → lv_has ls 2 [(1, .int q.1), (0, .ref (xa E 2))] → W p l e ({ frames := 2, cells := 0, slots := 0, locals := 42 } : Room) s m av below meth c H locs 0 0 Q (F0 m 57 ls [])) → W p l e ({ frames := 2, cells := 0, slots := 0, locals := 42 } : Room) s m av below meth c H locs 0 0 Q (F0 m 2 ls []) := by
  obtain ⟨hx, hb, hml, hown, hts⟩ := id F.1
  have hK := F.2.1.1
  intro n
  induction n with
  | zero =>
    intro x1 σ q h
    cases h
  | succ n ih =>
    intro x1 σ q h H locs ls hW hS hl kk
    rw [gX2_digits_2] at h
    refine lv_aload_n hx hb dX2_digits_2 rfl (lv_at hl 1 rfl) ?_
    refine lv_aload_n hx hb dX2_digits_3 rfl (lv_at hl 1 rfl) ?_
    refine va_get (D := xD E) (ci := 2) (v := .int (σ 4 1)) (C := RX2) (T := TX2) (N := 8) hx hb hts in_X2 hown hK (xO_R hW) 0 rfl rfl 4 (by decide) (hts _ q277) (fun _ h9 => h9) rfl dX2_digits_4 ?_
    cases g1 : fX2_byteAt σ (σ 4 1) with
    | none => rw [g1] at h; cases h
    | some r2 =>
      rw [g1, Option.bind_some] at h
      refine x_backi (va_runV (C := RX2) (b := (xa E 2)) (As := [.int (σ 4 1)]) (rest := []) F.1 (mX2_byteAt l E σ (σ 4 1) r2 g1) (cwV 1 hts (lw_V q999 q1001 qs35 q104 q1002) rfl rfl rfl (by decide +kernel) ⟨Nat.le_of_ble_eq_true rfl, Nat.le_of_ble_eq_true rfl⟩) ⟨xPc.blind, va_recv hK (xO_R hW) (ci := 2) (q0 := 0) rfl rfl, F.pre hW hS (.ref (xa E 2) :: [.int (σ 4 1)])⟩ rfl rfl hl.1 rfl (lv_room (Nat.le_of_ble_eq_true rfl)) dX2_digits_7 ⟨Nat.le_refl _, Nat.le_refl _⟩) hS (fun H locs hW hS => ?_)
      refine x_backi (va_runS (As := [.int r2]) (rest := []) F.1 (mX2_isDigit l E σ r2) (va_cwS 1 hts (lw_S q1060 q1061 q104 q1062) rfl rfl rfl (by decide +kernel) ⟨Nat.le_of_ble_eq_true rfl, Nat.le_of_ble_eq_true rfl⟩) ⟨xPc.blind, F.pre hW hS [.int r2]⟩ rfl rfl hl.1 rfl (lv_room (Nat.le_of_ble_eq_true rfl)) dX2_digits_10 ⟨Nat.le_refl _, Nat.le_refl _⟩) hS (fun H locs hW hS => ?_)
      refine lv_if_eq (tgt := 57) hx hb dX2_digits_13 (by decide) (fun c3 => ?_) (fun c3 => ?_)
      · rw [if_pos c3] at h
        have h := Option.some.inj h; subst h
        exact kk _ _ _ hW hS (lv_sub hl [0, 1] rfl)
      · rw [if_neg c3] at h
        refine lv_iload_n hx hb dX2_digits_16 rfl (lv_at hl 0 rfl) ?_
        refine lv_sipush (v := 999) hx hb dX2_digits_17 (by decide) ?_
        refine lv_icmp_le (tgt := 27) hx hb dX2_digits_20 (by decide) (fun c4 => ?_) (fun c4 => ?_)
        · rw [if_pos c4] at h
          refine lv_bipush (v := 10) hx hb dX2_digits_27 (by decide) ?_
          refine lv_iload_n hx hb dX2_digits_29 rfl (lv_at hl 0 rfl) ?_
          refine lv_imul hx hb dX2_digits_30 ?_
          refine lv_aload_n hx hb dX2_digits_31 rfl (lv_at hl 1 rfl) ?_
          refine lv_aload_n hx hb dX2_digits_32 rfl (lv_at hl 1 rfl) ?_
          refine va_get (D := xD E) (ci := 2) (v := .int (σ 4 1)) (C := RX2) (T := TX2) (N := 8) hx hb hts in_X2 hown hK (xO_R hW) 0 rfl rfl 4 (by decide) (hts _ q277) (fun _ h9 => h9) rfl dX2_digits_33 ?_
          refine x_backi (va_runV (C := RX2) (b := (xa E 2)) (As := [.int (σ 4 1)]) (rest := [.int (10 * x1)]) F.1 (mX2_byteAt l E σ (σ 4 1) r2 g1) (cwV 1 hts (lw_V q999 q1001 qs35 q104 q1002) rfl rfl rfl (by decide +kernel) ⟨Nat.le_of_ble_eq_true rfl, Nat.le_of_ble_eq_true rfl⟩) ⟨xPc.blind, va_recv hK (xO_R hW) (ci := 2) (q0 := 0) rfl rfl, F.pre hW hS (.ref (xa E 2) :: [.int (σ 4 1)])⟩ rfl rfl hl.1 rfl (lv_room (Nat.le_of_ble_eq_true rfl)) dX2_digits_36 ⟨Nat.le_refl _, Nat.le_refl _⟩) hS (fun H locs hW hS => ?_)
          refine lv_iadd hx hb dX2_digits_39 ?_
          refine lv_bipush (v := 48) hx hb dX2_digits_40 (by decide) ?_
          refine lv_isub hx hb dX2_digits_42 ?_
          refine lv_istore_n (lv' := [(1, .int (((10 * x1) + r2) - 48)), (0, .ref (xa E 2))]) hx hb dX2_digits_43 rfl hl (by decide) rfl (fun ls hl => ?_)
          refine lv_aload_n hx hb dX2_digits_44 rfl (lv_at hl 1 rfl) ?_
          refine lv_dup hx hb dX2_digits_45 rfl ?_
          refine va_get (D := xD E) (ci := 2) (v := .int (σ 4 1)) (C := RX2) (T := TX2) (N := 8) hx hb hts in_X2 hown hK (xO_R hW) 0 rfl rfl 4 (by decide) (hts _ q277) (fun _ h9 => h9) rfl dX2_digits_46 ?_
          refine lv_iconst (v := 1) hx hb dX2_digits_49 (by decide) ?_
          refine lv_iadd hx hb dX2_digits_50 ?_
          refine x_put (C := RX2) (T := TX2) (N := 8) (ci := 2) (ty := .int) F hW hS in_X2 tyX2 tyX2_ok nmX2 rfl 2 4 4 1 (by decide) rfl (by decide) rfl (by decide) (hts _ q277) (fun _ h9 => h9) rfl (by decide +kernel) rfl rfl dX2_digits_51 (fun H locs hW hS => ?_)
          refine lv_goto (tgt := 2) hx hb dX2_digits_54 (by decide) ?_
          exact ih (((10 * x1) + r2) - 48) (xup σ 4 1 ((σ 4 1) + 1)) _ h _ _ _ hW hS (lv_sub hl [0, 1] rfl) kk
        · rw [if_neg c4] at h
          refine lv_iload_n hx hb dX2_digits_23 rfl (lv_at hl 0 rfl) ?_
          refine lv_goto (tgt := 43) hx hb dX2_digits_24 (by decide) ?_
          refine lv_istore_n (lv' := [(1, .int x1), (0, .ref (xa E 2))]) hx hb dX2_digits_43 rfl hl (by decide) rfl (fun ls hl => ?_)
          refine lv_aload_n hx hb dX2_digits_44 rfl (lv_at hl 1 rfl) ?_
          refine lv_dup hx hb dX2_digits_45 rfl ?_
          refine va_get (D := xD E) (ci := 2) (v := .int (σ 4 1)) (C := RX2) (T := TX2) (N := 8) hx hb hts in_X2 hown hK (xO_R hW) 0 rfl rfl 4 (by decide) (hts _ q277) (fun _ h9 => h9) rfl dX2_digits_46 ?_
          refine lv_iconst (v := 1) hx hb dX2_digits_49 (by decide) ?_
          refine lv_iadd hx hb dX2_digits_50 ?_
          refine x_put (C := RX2) (T := TX2) (N := 8) (ci := 2) (ty := .int) F hW hS in_X2 tyX2 tyX2_ok nmX2 rfl 2 4 4 1 (by decide) rfl (by decide) rfl (by decide) (hts _ q277) (fun _ h9 => h9) rfl (by decide +kernel) rfl rfl dX2_digits_51 (fun H locs hW hS => ?_)
          refine lv_goto (tgt := 2) hx hb dX2_digits_54 (by decide) ?_
          exact ih x1 (xup σ 4 1 ((σ 4 1) + 1)) _ h _ _ _ hW hS (lv_sub hl [0, 1] rfl) kk
set_option maxHeartbeats 4000000 in
theorem mX2_digits (l : Launch) (E : xE) (σ : xM) (o : Option Unit) (σ' : xM) (h : fX2_digits σ = some (o, σ')) : xMT l yX2_digits (ws_ yX2_digits cX2_digits 2 none) ({ frames := 2, cells := 0, slots := 0, locals := 42 } : Room) (xPc E σ [.ref (xa E 2)]) (xQc E (xoV (xa E 3) o) σ') (xA E) := by
  refine x_ofT (C := RX2) (n := "digits") (d := "()V") (r := none) (by decide) (by first | decide | exact Nat.le_of_ble_eq_true rfl) ?_
  intro p e s m below meth c ls F hr hlk hno hW hS hl
  have hl : lv_has ls 2 [(0, .ref (xa E 2))] := hl
  obtain ⟨hx, hb, hml, hown, hts⟩ := id F.1
  have hK := F.2.1.1
  unfold fX2_digits at h
  refine lv_iconst (v := 0) hx hb dX2_digits_0 (by decide) ?_
  refine lv_istore_n (lv' := [(1, .int 0), (0, .ref (xa E 2))]) hx hb dX2_digits_1 rfl hl (by decide) rfl (fun ls hl => ?_)
  cases g5 : gX2_digits_2 xfu 0 σ with
  | none => rw [g5] at h; cases h
  | some q6 =>
    rw [g5, Option.bind_some] at h
    refine lX2_digits_2 F xfu 0 σ q6 g5 _ _ _ hW hS (lv_sub hl [0, 1] rfl) (fun H locs ls hW hS hl => ?_)
    refine lv_aload_n hx hb dX2_digits_57 rfl (lv_at hl 1 rfl) ?_
    refine lv_iconst (v := 1) hx hb dX2_digits_58 (by decide) ?_
    refine x_put (C := RX2) (T := TX2) (N := 8) (ci := 2) (ty := .int) F hW hS in_X2 tyX2 tyX2_ok nmX2 rfl 2 6 4 3 (by decide) rfl (by decide) rfl (by decide) (hts _ q280) (fun _ h9 => h9) rfl (by decide +kernel) rfl rfl dX2_digits_59 (fun H locs hW hS => ?_)
    refine lv_aload_n hx hb dX2_digits_62 rfl (lv_at hl 1 rfl) ?_
    refine lv_iload_n hx hb dX2_digits_63 rfl (lv_at hl 0 rfl) ?_
    refine x_put (C := RX2) (T := TX2) (N := 8) (ci := 2) (ty := .int) F hW hS in_X2 tyX2 tyX2_ok nmX2 rfl 2 7 4 4 (by decide) rfl (by decide) rfl (by decide) (hts _ q281) (fun _ h9 => h9) rfl (by decide +kernel) rfl rfl dX2_digits_64 (fun H locs hW hS => ?_)
    refine lv_aload_n hx hb dX2_digits_67 rfl (lv_at hl 1 rfl) ?_
    refine lv_iload_n hx hb dX2_digits_68 rfl (lv_at hl 0 rfl) ?_
    refine lv_sipush (v := 999) hx hb dX2_digits_69 (by decide) ?_
    refine lv_icmp_gt (tgt := 79) hx hb dX2_digits_72 (by decide) (fun c7 => ?_) (fun c7 => ?_)
    · rw [if_pos c7] at h
      refine lv_iconst (v := 0) hx hb dX2_digits_79 (by decide) ?_
      rcases g8 : fX2_need (xup (xup q6.2 4 3 1) 4 4 q6.1) 0 with _ | ⟨_ | r9, σ10⟩
      · rw [g8] at h; cases h
      · rw [g8, xbt_t] at h
        obtain ⟨h1, h2⟩ := Prod.mk.inj (Option.some.inj h); subst h1; subst h2
        exact x_backTl (x_runVT (C := RX2) (b := (xa E 2)) (As := [.int 0]) (rest := []) F.1 (mX2_need l E (xup (xup q6.2 4 3 1) 4 4 q6.1) 0 none σ10 g8) (cwV 1 hts (lw_V q1056 q1058 qs38 q104 q1059) rfl rfl rfl (by decide +kernel) ⟨Nat.le_of_ble_eq_true rfl, Nat.le_of_ble_eq_true rfl⟩) ⟨xPc.blind, va_recv hK (xO_R hW) (ci := 2) (q0 := 0) rfl rfl, F.pre hW hS (.ref (xa E 2) :: [.int 0])⟩ rfl rfl hl.1 rfl (lv_room (Nat.le_of_ble_eq_true rfl)) dX2_digits_80 ⟨Nat.le_refl _, Nat.le_refl _⟩) hS hlk (hno _)
      · rw [g8, xbt_r] at h
        refine x_backTv (x_runVT (C := RX2) (b := (xa E 2)) (As := [.int 0]) (rest := []) F.1 (mX2_need l E (xup (xup q6.2 4 3 1) 4 4 q6.1) 0 (some r9) σ10 g8) (cwV 1 hts (lw_V q1056 q1058 qs38 q104 q1059) rfl rfl rfl (by decide +kernel) ⟨Nat.le_of_ble_eq_true rfl, Nat.le_of_ble_eq_true rfl⟩) ⟨xPc.blind, va_recv hK (xO_R hW) (ci := 2) (q0 := 0) rfl rfl, F.pre hW hS (.ref (xa E 2) :: [.int 0])⟩ rfl rfl hl.1 rfl (lv_room (Nat.le_of_ble_eq_true rfl)) dX2_digits_80 ⟨Nat.le_refl _, Nat.le_refl _⟩) hS (fun H locs hW hS => ?_)
        obtain ⟨h1, h2⟩ := Prod.mk.inj (Option.some.inj h); subst h1; subst h2
        exact x_mono xMQ.of (x_vret F hr hlk hW hS dX2_digits_83)
    · rw [if_neg c7] at h
      refine lv_iconst (v := 1) hx hb dX2_digits_75 (by decide) ?_
      refine lv_goto (tgt := 80) hx hb dX2_digits_76 (by decide) ?_
      rcases g11 : fX2_need (xup (xup q6.2 4 3 1) 4 4 q6.1) 1 with _ | ⟨_ | r12, σ13⟩
      · rw [g11] at h; cases h
      · rw [g11, xbt_t] at h
        obtain ⟨h1, h2⟩ := Prod.mk.inj (Option.some.inj h); subst h1; subst h2
        exact x_backTl (x_runVT (C := RX2) (b := (xa E 2)) (As := [.int 1]) (rest := []) F.1 (mX2_need l E (xup (xup q6.2 4 3 1) 4 4 q6.1) 1 none σ13 g11) (cwV 1 hts (lw_V q1056 q1058 qs38 q104 q1059) rfl rfl rfl (by decide +kernel) ⟨Nat.le_of_ble_eq_true rfl, Nat.le_of_ble_eq_true rfl⟩) ⟨xPc.blind, va_recv hK (xO_R hW) (ci := 2) (q0 := 0) rfl rfl, F.pre hW hS (.ref (xa E 2) :: [.int 1])⟩ rfl rfl hl.1 rfl (lv_room (Nat.le_of_ble_eq_true rfl)) dX2_digits_80 ⟨Nat.le_refl _, Nat.le_refl _⟩) hS hlk (hno _)
      · rw [g11, xbt_r] at h
        refine x_backTv (x_runVT (C := RX2) (b := (xa E 2)) (As := [.int 1]) (rest := []) F.1 (mX2_need l E (xup (xup q6.2 4 3 1) 4 4 q6.1) 1 (some r12) σ13 g11) (cwV 1 hts (lw_V q1056 q1058 qs38 q104 q1059) rfl rfl rfl (by decide +kernel) ⟨Nat.le_of_ble_eq_true rfl, Nat.le_of_ble_eq_true rfl⟩) ⟨xPc.blind, va_recv hK (xO_R hW) (ci := 2) (q0 := 0) rfl rfl, F.pre hW hS (.ref (xa E 2) :: [.int 1])⟩ rfl rfl hl.1 rfl (lv_room (Nat.le_of_ble_eq_true rfl)) dX2_digits_80 ⟨Nat.le_refl _, Nat.le_refl _⟩) hS (fun H locs hW hS => ?_)
        obtain ⟨h1, h2⟩ := Prod.mk.inj (Option.some.inj h); subst h1; subst h2
        exact x_mono xMQ.of (x_vret F hr hlk hW hS dX2_digits_83)
/-! WildBells$Reader.next()V -/
def gX2_next_0  : Nat → xM → Option xM
  | 0, _ => none
  | n + 1, σ => (fX2_byteAt σ (σ 4 1)).bind (fun r2 => if r2 = 32 then (gX2_next_0 n (xup σ 4 1 ((σ 4 1) + 1))) else (some σ))
def fX2_next (σ : xM) : Option (Option Unit × xM) :=
  (gX2_next_0 xfu σ).bind (fun q5 => (fX2_byteAt (xup q5 4 2 (q5 4 1)) ((xup q5 4 2 (q5 4 1)) 4 1)).bind (fun r7 => if 0 ≤ r7 then (if (fX2_isLetter r7) = 0 then (if (fX2_isDigit r7) = 0 then (if r7 = 59 then (xbt (fX2_need (xup q5 4 2 (q5 4 1)) 1) (fun r16 σ17 => some (some (), (xup (xup σ17 4 3 3) 4 1 (((xup σ17 4 3 3) 4 1) + 1))))) else (xbt (fX2_need (xup q5 4 2 (q5 4 1)) 0) (fun r13 σ14 => some (some (), (xup (xup σ14 4 3 3) 4 1 (((xup σ14 4 3 3) 4 1) + 1)))))) else (xbt (fX2_digits (xup q5 4 2 (q5 4 1))) (fun r19 σ20 => some (some (), σ20)))) else (xbt (fX2_word (xup q5 4 2 (q5 4 1))) (fun r22 σ23 => some (some (), σ23)))) else (some (some (), (xup (xup q5 4 2 (q5 4 1)) 4 3 0)))))
set_option maxHeartbeats 4000000 in
theorem lX2_next_0 {p : Program} {l : Launch} {e : Env} {s : State} {m : MethodId} {av : Array Value} {below : List Frame} {meth : Method} {c : Code} {Q : State → Prop} {E : xE} (F : xFx p m c cX2_next 2 s av RX2 E) : ∀ (n : Nat) (σ : xM) (q : xM), gX2_next_0 n σ = some q → ∀ (H : Heap) (locs : List Loc) (ls : Array Slot), xW E σ H → va_S (xA E) s.heap H locs → lv_has ls 2 [(0, .ref (xa E 2))] → (∀ (H : Heap) (locs : List Loc) (ls : Array Slot), xW E q H → va_S (xA E) s.heap H locs → lv_has ls 2 [(0, .ref (xa E 2))] → W p l e ({ frames := 6, cells := 0, slots := 0, locals := 130 } : Room) s m av below meth c H locs 0 0 Q (F0 m 26 ls [])) → W p l e ({ frames := 6, cells := 0, slots := 0, locals := 130 } : Room) s m av below meth c H locs 0 0 Q (F0 m 0 ls []) := by
  obtain ⟨hx, hb, hml, hown, hts⟩ := id F.1
  have hK := F.2.1.1
  intro n
  induction n with
  | zero =>
    intro σ q h
    cases h
  | succ n ih =>
    intro σ q h H locs ls hW hS hl kk
    rw [gX2_next_0] at h
    refine lv_aload_n hx hb dX2_next_0 rfl (lv_at hl 0 rfl) ?_
    refine lv_aload_n hx hb dX2_next_1 rfl (lv_at hl 0 rfl) ?_
    refine va_get (D := xD E) (ci := 2) (v := .int (σ 4 1)) (C := RX2) (T := TX2) (N := 8) hx hb hts in_X2 hown hK (xO_R hW) 0 rfl rfl 4 (by decide) (hts _ q277) (fun _ h9 => h9) rfl dX2_next_2 ?_
    cases g1 : fX2_byteAt σ (σ 4 1) with
    | none => rw [g1] at h; cases h
    | some r2 =>
      rw [g1, Option.bind_some] at h
      refine x_backi (va_runV (C := RX2) (b := (xa E 2)) (As := [.int (σ 4 1)]) (rest := []) F.1 (mX2_byteAt l E σ (σ 4 1) r2 g1) (cwV 1 hts (lw_V q999 q1001 qs35 q104 q1002) rfl rfl rfl (by decide +kernel) ⟨Nat.le_of_ble_eq_true rfl, Nat.le_of_ble_eq_true rfl⟩) ⟨xPc.blind, va_recv hK (xO_R hW) (ci := 2) (q0 := 0) rfl rfl, F.pre hW hS (.ref (xa E 2) :: [.int (σ 4 1)])⟩ rfl rfl hl.1 rfl (lv_room (Nat.le_of_ble_eq_true rfl)) dX2_next_5 ⟨Nat.le_refl _, Nat.le_refl _⟩) hS (fun H locs hW hS => ?_)
      refine lv_bipush (v := 32) hx hb dX2_next_8 (by decide) ?_
      refine lv_icmp_ne (tgt := 26) hx hb dX2_next_10 (by decide) (fun c3 => ?_) (fun c3 => ?_)
      · rw [if_neg c3] at h
        have h := Option.some.inj h; subst h
        exact kk _ _ _ hW hS (lv_sub hl [0] rfl)
      · rw [if_pos c3] at h
        refine lv_aload_n hx hb dX2_next_13 rfl (lv_at hl 0 rfl) ?_
        refine lv_dup hx hb dX2_next_14 rfl ?_
        refine va_get (D := xD E) (ci := 2) (v := .int (σ 4 1)) (C := RX2) (T := TX2) (N := 8) hx hb hts in_X2 hown hK (xO_R hW) 0 rfl rfl 4 (by decide) (hts _ q277) (fun _ h9 => h9) rfl dX2_next_15 ?_
        refine lv_iconst (v := 1) hx hb dX2_next_18 (by decide) ?_
        refine lv_iadd hx hb dX2_next_19 ?_
        refine x_put (C := RX2) (T := TX2) (N := 8) (ci := 2) (ty := .int) F hW hS in_X2 tyX2 tyX2_ok nmX2 rfl 2 4 4 1 (by decide) rfl (by decide) rfl (by decide) (hts _ q277) (fun _ h9 => h9) rfl (by decide +kernel) rfl rfl dX2_next_20 (fun H locs hW hS => ?_)
        refine lv_goto (tgt := 0) hx hb dX2_next_23 (by decide) ?_
        exact ih (xup σ 4 1 ((σ 4 1) + 1)) _ h _ _ _ hW hS (lv_sub hl [0] rfl) kk
set_option maxHeartbeats 4000000 in
theorem mX2_next (l : Launch) (E : xE) (σ : xM) (o : Option Unit) (σ' : xM) (h : fX2_next σ = some (o, σ')) : xMT l yX2_next (ws_ yX2_next cX2_next 2 none) ({ frames := 6, cells := 0, slots := 0, locals := 130 } : Room) (xPc E σ [.ref (xa E 2)]) (xQc E (xoV (xa E 3) o) σ') (xA E) := by
  refine x_ofT (C := RX2) (n := "next") (d := "()V") (r := none) (by decide) (by first | decide | exact Nat.le_of_ble_eq_true rfl) ?_
  intro p e s m below meth c ls F hr hlk hno hW hS hl
  have hl : lv_has ls 2 [(0, .ref (xa E 2))] := hl
  obtain ⟨hx, hb, hml, hown, hts⟩ := id F.1
  have hK := F.2.1.1
  unfold fX2_next at h
  cases g4 : gX2_next_0 xfu σ with
  | none => rw [g4] at h; cases h
  | some q5 =>
    rw [g4, Option.bind_some] at h
    refine lX2_next_0 F xfu σ q5 g4 _ _ _ hW hS (lv_sub hl [0] rfl) (fun H locs ls hW hS hl => ?_)
    refine lv_aload_n hx hb dX2_next_26 rfl (lv_at hl 0 rfl) ?_
    refine lv_aload_n hx hb dX2_next_27 rfl (lv_at hl 0 rfl) ?_
    refine va_get (D := xD E) (ci := 2) (v := .int (q5 4 1)) (C := RX2) (T := TX2) (N := 8) hx hb hts in_X2 hown hK (xO_R hW) 0 rfl rfl 4 (by decide) (hts _ q277) (fun _ h9 => h9) rfl dX2_next_28 ?_
    refine x_put (C := RX2) (T := TX2) (N := 8) (ci := 2) (ty := .int) F hW hS in_X2 tyX2 tyX2_ok nmX2 rfl 2 5 4 2 (by decide) rfl (by decide) rfl (by decide) (hts _ q278) (fun _ h9 => h9) rfl (by decide +kernel) rfl rfl dX2_next_31 (fun H locs hW hS => ?_)
    refine lv_aload_n hx hb dX2_next_34 rfl (lv_at hl 0 rfl) ?_
    refine lv_aload_n hx hb dX2_next_35 rfl (lv_at hl 0 rfl) ?_
    refine va_get (D := xD E) (ci := 2) (v := .int ((xup q5 4 2 (q5 4 1)) 4 1)) (C := RX2) (T := TX2) (N := 8) hx hb hts in_X2 hown hK (xO_R hW) 0 rfl rfl 4 (by decide) (hts _ q277) (fun _ h9 => h9) rfl dX2_next_36 ?_
    cases g6 : fX2_byteAt (xup q5 4 2 (q5 4 1)) ((xup q5 4 2 (q5 4 1)) 4 1) with
    | none => rw [g6] at h; cases h
    | some r7 =>
      rw [g6, Option.bind_some] at h
      refine x_backi (va_runV (C := RX2) (b := (xa E 2)) (As := [.int ((xup q5 4 2 (q5 4 1)) 4 1)]) (rest := []) F.1 (mX2_byteAt l E (xup q5 4 2 (q5 4 1)) ((xup q5 4 2 (q5 4 1)) 4 1) r7 g6) (cwV 1 hts (lw_V q999 q1001 qs35 q104 q1002) rfl rfl rfl (by decide +kernel) ⟨Nat.le_of_ble_eq_true rfl, Nat.le_of_ble_eq_true rfl⟩) ⟨xPc.blind, va_recv hK (xO_R hW) (ci := 2) (q0 := 0) rfl rfl, F.pre hW hS (.ref (xa E 2) :: [.int ((xup q5 4 2 (q5 4 1)) 4 1)])⟩ rfl rfl hl.1 rfl (lv_room (Nat.le_of_ble_eq_true rfl)) dX2_next_39 ⟨Nat.le_refl _, Nat.le_refl _⟩) hS (fun H locs hW hS => ?_)
      refine lv_istore_n (lv' := [(1, .int r7), (0, .ref (xa E 2))]) hx hb dX2_next_42 rfl hl (by decide) rfl (fun ls hl => ?_)
      refine lv_iload_n hx hb dX2_next_43 rfl (lv_at hl 0 rfl) ?_
      refine lv_if_ge (tgt := 55) hx hb dX2_next_44 (by decide) (fun c8 => ?_) (fun c8 => ?_)
      · rw [if_pos c8] at h
        refine lv_iload_n hx hb dX2_next_55 rfl (lv_at hl 0 rfl) ?_
        refine x_backi (va_runS (As := [.int r7]) (rest := []) F.1 (mX2_isLetter l E (xup q5 4 2 (q5 4 1)) r7) (va_cwS 1 hts (lw_S q1003 q1004 q104 q1005) rfl rfl rfl (by decide +kernel) ⟨Nat.le_of_ble_eq_true rfl, Nat.le_of_ble_eq_true rfl⟩) ⟨xPc.blind, F.pre hW hS [.int r7]⟩ rfl rfl hl.1 rfl (lv_room (Nat.le_of_ble_eq_true rfl)) dX2_next_56 ⟨Nat.le_refl _, Nat.le_refl _⟩) hS (fun H locs hW hS => ?_)
        refine lv_if_eq (tgt := 69) hx hb dX2_next_59 (by decide) (fun c9 => ?_) (fun c9 => ?_)
        · rw [if_pos c9] at h
          refine lv_iload_n hx hb dX2_next_69 rfl (lv_at hl 0 rfl) ?_
          refine x_backi (va_runS (As := [.int r7]) (rest := []) F.1 (mX2_isDigit l E (xup q5 4 2 (q5 4 1)) r7) (va_cwS 1 hts (lw_S q1060 q1061 q104 q1062) rfl rfl rfl (by decide +kernel) ⟨Nat.le_of_ble_eq_true rfl, Nat.le_of_ble_eq_true rfl⟩) ⟨xPc.blind, F.pre hW hS [.int r7]⟩ rfl rfl hl.1 rfl (lv_room (Nat.le_of_ble_eq_true rfl)) dX2_next_70 ⟨Nat.le_refl _, Nat.le_refl _⟩) hS (fun H locs hW hS => ?_)
          refine lv_if_eq (tgt := 83) hx hb dX2_next_73 (by decide) (fun c10 => ?_) (fun c10 => ?_)
          · rw [if_pos c10] at h
            refine lv_aload_n hx hb dX2_next_83 rfl (lv_at hl 1 rfl) ?_
            refine lv_iload_n hx hb dX2_next_84 rfl (lv_at hl 0 rfl) ?_
            refine lv_bipush (v := 59) hx hb dX2_next_85 (by decide) ?_
            refine lv_icmp_ne (tgt := 94) hx hb dX2_next_87 (by decide) (fun c11 => ?_) (fun c11 => ?_)
            · rw [if_neg c11] at h
              refine lv_iconst (v := 0) hx hb dX2_next_94 (by decide) ?_
              rcases g12 : fX2_need (xup q5 4 2 (q5 4 1)) 0 with _ | ⟨_ | r13, σ14⟩
              · rw [g12] at h; cases h
              · rw [g12, xbt_t] at h
                obtain ⟨h1, h2⟩ := Prod.mk.inj (Option.some.inj h); subst h1; subst h2
                exact x_backTl (x_runVT (C := RX2) (b := (xa E 2)) (As := [.int 0]) (rest := []) F.1 (mX2_need l E (xup q5 4 2 (q5 4 1)) 0 none σ14 g12) (cwV 1 hts (lw_V q1056 q1058 qs38 q104 q1059) rfl rfl rfl (by decide +kernel) ⟨Nat.le_of_ble_eq_true rfl, Nat.le_of_ble_eq_true rfl⟩) ⟨xPc.blind, va_recv hK (xO_R hW) (ci := 2) (q0 := 0) rfl rfl, F.pre hW hS (.ref (xa E 2) :: [.int 0])⟩ rfl rfl hl.1 rfl (lv_room (Nat.le_of_ble_eq_true rfl)) dX2_next_95 ⟨Nat.le_refl _, Nat.le_refl _⟩) hS hlk (hno _)
              · rw [g12, xbt_r] at h
                refine x_backTv (x_runVT (C := RX2) (b := (xa E 2)) (As := [.int 0]) (rest := []) F.1 (mX2_need l E (xup q5 4 2 (q5 4 1)) 0 (some r13) σ14 g12) (cwV 1 hts (lw_V q1056 q1058 qs38 q104 q1059) rfl rfl rfl (by decide +kernel) ⟨Nat.le_of_ble_eq_true rfl, Nat.le_of_ble_eq_true rfl⟩) ⟨xPc.blind, va_recv hK (xO_R hW) (ci := 2) (q0 := 0) rfl rfl, F.pre hW hS (.ref (xa E 2) :: [.int 0])⟩ rfl rfl hl.1 rfl (lv_room (Nat.le_of_ble_eq_true rfl)) dX2_next_95 ⟨Nat.le_refl _, Nat.le_refl _⟩) hS (fun H locs hW hS => ?_)
                refine lv_aload_n hx hb dX2_next_98 rfl (lv_at hl 1 rfl) ?_
                refine lv_iconst (v := 3) hx hb dX2_next_99 (by decide) ?_
                refine x_put (C := RX2) (T := TX2) (N := 8) (ci := 2) (ty := .int) F hW hS in_X2 tyX2 tyX2_ok nmX2 rfl 2 6 4 3 (by decide) rfl (by decide) rfl (by decide) (hts _ q280) (fun _ h9 => h9) rfl (by decide +kernel) rfl rfl dX2_next_100 (fun H locs hW hS => ?_)
                refine lv_aload_n hx hb dX2_next_103 rfl (lv_at hl 1 rfl) ?_
                refine lv_dup hx hb dX2_next_104 rfl ?_
                refine va_get (D := xD E) (ci := 2) (v := .int ((xup σ14 4 3 3) 4 1)) (C := RX2) (T := TX2) (N := 8) hx hb hts in_X2 hown hK (xO_R hW) 0 rfl rfl 4 (by decide) (hts _ q277) (fun _ h9 => h9) rfl dX2_next_105 ?_
                refine lv_iconst (v := 1) hx hb dX2_next_108 (by decide) ?_
                refine lv_iadd hx hb dX2_next_109 ?_
                refine x_put (C := RX2) (T := TX2) (N := 8) (ci := 2) (ty := .int) F hW hS in_X2 tyX2 tyX2_ok nmX2 rfl 2 4 4 1 (by decide) rfl (by decide) rfl (by decide) (hts _ q277) (fun _ h9 => h9) rfl (by decide +kernel) rfl rfl dX2_next_110 (fun H locs hW hS => ?_)
                obtain ⟨h1, h2⟩ := Prod.mk.inj (Option.some.inj h); subst h1; subst h2
                exact x_mono xMQ.of (x_vret F hr hlk hW hS dX2_next_113)
            · rw [if_pos c11] at h
              refine lv_iconst (v := 1) hx hb dX2_next_90 (by decide) ?_
              refine lv_goto (tgt := 95) hx hb dX2_next_91 (by decide) ?_
              rcases g15 : fX2_need (xup q5 4 2 (q5 4 1)) 1 with _ | ⟨_ | r16, σ17⟩
              · rw [g15] at h; cases h
              · rw [g15, xbt_t] at h
                obtain ⟨h1, h2⟩ := Prod.mk.inj (Option.some.inj h); subst h1; subst h2
                exact x_backTl (x_runVT (C := RX2) (b := (xa E 2)) (As := [.int 1]) (rest := []) F.1 (mX2_need l E (xup q5 4 2 (q5 4 1)) 1 none σ17 g15) (cwV 1 hts (lw_V q1056 q1058 qs38 q104 q1059) rfl rfl rfl (by decide +kernel) ⟨Nat.le_of_ble_eq_true rfl, Nat.le_of_ble_eq_true rfl⟩) ⟨xPc.blind, va_recv hK (xO_R hW) (ci := 2) (q0 := 0) rfl rfl, F.pre hW hS (.ref (xa E 2) :: [.int 1])⟩ rfl rfl hl.1 rfl (lv_room (Nat.le_of_ble_eq_true rfl)) dX2_next_95 ⟨Nat.le_refl _, Nat.le_refl _⟩) hS hlk (hno _)
              · rw [g15, xbt_r] at h
                refine x_backTv (x_runVT (C := RX2) (b := (xa E 2)) (As := [.int 1]) (rest := []) F.1 (mX2_need l E (xup q5 4 2 (q5 4 1)) 1 (some r16) σ17 g15) (cwV 1 hts (lw_V q1056 q1058 qs38 q104 q1059) rfl rfl rfl (by decide +kernel) ⟨Nat.le_of_ble_eq_true rfl, Nat.le_of_ble_eq_true rfl⟩) ⟨xPc.blind, va_recv hK (xO_R hW) (ci := 2) (q0 := 0) rfl rfl, F.pre hW hS (.ref (xa E 2) :: [.int 1])⟩ rfl rfl hl.1 rfl (lv_room (Nat.le_of_ble_eq_true rfl)) dX2_next_95 ⟨Nat.le_refl _, Nat.le_refl _⟩) hS (fun H locs hW hS => ?_)
                refine lv_aload_n hx hb dX2_next_98 rfl (lv_at hl 1 rfl) ?_
                refine lv_iconst (v := 3) hx hb dX2_next_99 (by decide) ?_
                refine x_put (C := RX2) (T := TX2) (N := 8) (ci := 2) (ty := .int) F hW hS in_X2 tyX2 tyX2_ok nmX2 rfl 2 6 4 3 (by decide) rfl (by decide) rfl (by decide) (hts _ q280) (fun _ h9 => h9) rfl (by decide +kernel) rfl rfl dX2_next_100 (fun H locs hW hS => ?_)
                refine lv_aload_n hx hb dX2_next_103 rfl (lv_at hl 1 rfl) ?_
                refine lv_dup hx hb dX2_next_104 rfl ?_
                refine va_get (D := xD E) (ci := 2) (v := .int ((xup σ17 4 3 3) 4 1)) (C := RX2) (T := TX2) (N := 8) hx hb hts in_X2 hown hK (xO_R hW) 0 rfl rfl 4 (by decide) (hts _ q277) (fun _ h9 => h9) rfl dX2_next_105 ?_
                refine lv_iconst (v := 1) hx hb dX2_next_108 (by decide) ?_
                refine lv_iadd hx hb dX2_next_109 ?_
                refine x_put (C := RX2) (T := TX2) (N := 8) (ci := 2) (ty := .int) F hW hS in_X2 tyX2 tyX2_ok nmX2 rfl 2 4 4 1 (by decide) rfl (by decide) rfl (by decide) (hts _ q277) (fun _ h9 => h9) rfl (by decide +kernel) rfl rfl dX2_next_110 (fun H locs hW hS => ?_)
                obtain ⟨h1, h2⟩ := Prod.mk.inj (Option.some.inj h); subst h1; subst h2
                exact x_mono xMQ.of (x_vret F hr hlk hW hS dX2_next_113)
          · rw [if_neg c10] at h
            refine lv_aload_n hx hb dX2_next_76 rfl (lv_at hl 1 rfl) ?_
            rcases g18 : fX2_digits (xup q5 4 2 (q5 4 1)) with _ | ⟨_ | r19, σ20⟩
            · rw [g18] at h; cases h
            · rw [g18, xbt_t] at h
              obtain ⟨h1, h2⟩ := Prod.mk.inj (Option.some.inj h); subst h1; subst h2
              exact x_backTl (x_runVT (C := RX2) (b := (xa E 2)) (As := []) (rest := []) F.1 (mX2_digits l E (xup q5 4 2 (q5 4 1)) none σ20 g18) (cwV 0 hts (lw_V q1063 q1065 qs39 q104 q1066) rfl rfl rfl (by decide +kernel) ⟨Nat.le_of_ble_eq_true rfl, Nat.le_of_ble_eq_true rfl⟩) ⟨xPc.blind, va_recv hK (xO_R hW) (ci := 2) (q0 := 0) rfl rfl, F.pre hW hS (.ref (xa E 2) :: [])⟩ rfl rfl hl.1 rfl (lv_room (Nat.le_of_ble_eq_true rfl)) dX2_next_77 ⟨Nat.le_refl _, Nat.le_refl _⟩) hS hlk (hno _)
            · rw [g18, xbt_r] at h
              refine x_backTv (x_runVT (C := RX2) (b := (xa E 2)) (As := []) (rest := []) F.1 (mX2_digits l E (xup q5 4 2 (q5 4 1)) (some r19) σ20 g18) (cwV 0 hts (lw_V q1063 q1065 qs39 q104 q1066) rfl rfl rfl (by decide +kernel) ⟨Nat.le_of_ble_eq_true rfl, Nat.le_of_ble_eq_true rfl⟩) ⟨xPc.blind, va_recv hK (xO_R hW) (ci := 2) (q0 := 0) rfl rfl, F.pre hW hS (.ref (xa E 2) :: [])⟩ rfl rfl hl.1 rfl (lv_room (Nat.le_of_ble_eq_true rfl)) dX2_next_77 ⟨Nat.le_refl _, Nat.le_refl _⟩) hS (fun H locs hW hS => ?_)
              refine lv_goto (tgt := 113) hx hb dX2_next_80 (by decide) ?_
              obtain ⟨h1, h2⟩ := Prod.mk.inj (Option.some.inj h); subst h1; subst h2
              exact x_mono xMQ.of (x_vret F hr hlk hW hS dX2_next_113)
        · rw [if_neg c9] at h
          refine lv_aload_n hx hb dX2_next_62 rfl (lv_at hl 1 rfl) ?_
          rcases g21 : fX2_word (xup q5 4 2 (q5 4 1)) with _ | ⟨_ | r22, σ23⟩
          · rw [g21] at h; cases h
          · rw [g21, xbt_t] at h
            obtain ⟨h1, h2⟩ := Prod.mk.inj (Option.some.inj h); subst h1; subst h2
            exact x_backTl (x_runVT (C := RX2) (b := (xa E 2)) (As := []) (rest := []) F.1 (mX2_word l E (xup q5 4 2 (q5 4 1)) none σ23 g21) (cwV 0 hts (lw_V q1007 q1009 qs36 q104 q1010) rfl rfl rfl (by decide +kernel) ⟨Nat.le_of_ble_eq_true rfl, Nat.le_of_ble_eq_true rfl⟩) ⟨xPc.blind, va_recv hK (xO_R hW) (ci := 2) (q0 := 0) rfl rfl, F.pre hW hS (.ref (xa E 2) :: [])⟩ rfl rfl hl.1 rfl (lv_room (Nat.le_of_ble_eq_true rfl)) dX2_next_63 ⟨Nat.le_refl _, Nat.le_refl _⟩) hS hlk (hno _)
          · rw [g21, xbt_r] at h
            refine x_backTv (x_runVT (C := RX2) (b := (xa E 2)) (As := []) (rest := []) F.1 (mX2_word l E (xup q5 4 2 (q5 4 1)) (some r22) σ23 g21) (cwV 0 hts (lw_V q1007 q1009 qs36 q104 q1010) rfl rfl rfl (by decide +kernel) ⟨Nat.le_of_ble_eq_true rfl, Nat.le_of_ble_eq_true rfl⟩) ⟨xPc.blind, va_recv hK (xO_R hW) (ci := 2) (q0 := 0) rfl rfl, F.pre hW hS (.ref (xa E 2) :: [])⟩ rfl rfl hl.1 rfl (lv_room (Nat.le_of_ble_eq_true rfl)) dX2_next_63 ⟨Nat.le_refl _, Nat.le_refl _⟩) hS (fun H locs hW hS => ?_)
            refine lv_goto (tgt := 113) hx hb dX2_next_66 (by decide) ?_
            obtain ⟨h1, h2⟩ := Prod.mk.inj (Option.some.inj h); subst h1; subst h2
            exact x_mono xMQ.of (x_vret F hr hlk hW hS dX2_next_113)
      · rw [if_neg c8] at h
        refine lv_aload_n hx hb dX2_next_47 rfl (lv_at hl 1 rfl) ?_
        refine lv_iconst (v := 0) hx hb dX2_next_48 (by decide) ?_
        refine x_put (C := RX2) (T := TX2) (N := 8) (ci := 2) (ty := .int) F hW hS in_X2 tyX2 tyX2_ok nmX2 rfl 2 6 4 3 (by decide) rfl (by decide) rfl (by decide) (hts _ q280) (fun _ h9 => h9) rfl (by decide +kernel) rfl rfl dX2_next_49 (fun H locs hW hS => ?_)
        refine lv_goto (tgt := 113) hx hb dX2_next_52 (by decide) ?_
        obtain ⟨h1, h2⟩ := Prod.mk.inj (Option.some.inj h); subst h1; subst h2
        exact x_mono xMQ.of (x_vret F hr hlk hW hS dX2_next_113)
/-! WildBells$Reader.isWord(I)Z -/
def fX2_isWord (σ : xM) (a1 : Int32) : Int32 :=
  if (σ 4 3) = 2 then (if (σ 4 4) = a1 then 1 else 0) else 0
set_option maxHeartbeats 4000000 in
theorem mX2_isWord (l : Launch) (E : xE) (σ : xM) (a1 : Int32) : Met l yX2_isWord (ws_ yX2_isWord cX2_isWord 2 (some .boolean)) ({ frames := 0, cells := 0, slots := 0, locals := 0 } : Room) (xPc E σ [.ref (xa E 2), .int a1]) (xQc E (.returned (some (.int (fX2_isWord σ a1)))) σ) 0 0 (xA E) := by
  refine x_of (C := RX2) (n := "isWord") (d := "(I)Z") (r := (some .boolean)) (by decide) rfl (by first | decide | exact Nat.le_of_ble_eq_true rfl) ?_
  intro p e s m below meth c ls F hr hlk hW hS hl
  have hl : lv_has ls 2 [(0, .ref (xa E 2)), (1, .int a1)] := hl
  obtain ⟨hx, hb, hml, hown, hts⟩ := id F.1
  have hK := F.2.1.1
  obtain ⟨r, h⟩ : ∃ r, fX2_isWord σ a1 = r := ⟨_, rfl⟩
  rw [h]
  unfold fX2_isWord at h
  refine lv_aload_n hx hb dX2_isWord_0 rfl (lv_at hl 0 rfl) ?_
  refine va_get (D := xD E) (ci := 2) (v := .int (σ 4 3)) (C := RX2) (T := TX2) (N := 8) hx hb hts in_X2 hown hK (xO_R hW) 0 rfl rfl 6 (by decide) (hts _ q280) (fun _ h9 => h9) rfl dX2_isWord_1 ?_
  refine lv_iconst (v := 2) hx hb dX2_isWord_4 (by decide) ?_
  refine lv_icmp_ne (tgt := 20) hx hb dX2_isWord_5 (by decide) (fun c1 => ?_) (fun c1 => ?_)
  · rw [if_neg c1] at h
    refine lv_iconst (v := 0) hx hb dX2_isWord_20 (by decide) ?_
    subst h
    exact x_zret F hr hlk hW hS rfl dX2_isWord_21
  · rw [if_pos c1] at h
    refine lv_aload_n hx hb dX2_isWord_8 rfl (lv_at hl 0 rfl) ?_
    refine va_get (D := xD E) (ci := 2) (v := .int (σ 4 4)) (C := RX2) (T := TX2) (N := 8) hx hb hts in_X2 hown hK (xO_R hW) 0 rfl rfl 7 (by decide) (hts _ q281) (fun _ h9 => h9) rfl dX2_isWord_9 ?_
    refine lv_iload_n hx hb dX2_isWord_12 rfl (lv_at hl 1 rfl) ?_
    refine lv_icmp_ne (tgt := 20) hx hb dX2_isWord_13 (by decide) (fun c2 => ?_) (fun c2 => ?_)
    · rw [if_neg c2] at h
      refine lv_iconst (v := 0) hx hb dX2_isWord_20 (by decide) ?_
      subst h
      exact x_zret F hr hlk hW hS rfl dX2_isWord_21
    · rw [if_pos c2] at h
      refine lv_iconst (v := 1) hx hb dX2_isWord_16 (by decide) ?_
      refine lv_goto (tgt := 21) hx hb dX2_isWord_17 (by decide) ?_
      subst h
      exact x_zret F hr hlk hW hS rfl dX2_isWord_21
/-! WildBells$Reader.number(II)I -/
def fX2_number (σ : xM) (a1 : Int32) (a2 : Int32) : Option (Option Int32 × xM) :=
  if (σ 4 3) = 1 then (if (fX0_in (σ 4 4) a1 a2) = 0 then (xbt (fX2_need σ 0) (fun r10 σ11 => xbt (fX2_next σ11) (fun r13 σ14 => some (some (σ11 4 4), σ14)))) else (xbt (fX2_need σ 1) (fun r16 σ17 => xbt (fX2_next σ17) (fun r19 σ20 => some (some (σ17 4 4), σ20))))) else (xbt (fX2_need σ 0) (fun r3 σ4 => xbt (fX2_next σ4) (fun r6 σ7 => some (some (σ4 4 4), σ7))))
set_option maxHeartbeats 4000000 in
theorem mX2_number (l : Launch) (E : xE) (σ : xM) (a1 : Int32) (a2 : Int32) (o : Option Int32) (σ' : xM) (h : fX2_number σ a1 a2 = some (o, σ')) : xMT l yX2_number (ws_ yX2_number cX2_number 4 (some .int)) ({ frames := 7, cells := 0, slots := 0, locals := 151 } : Room) (xPc E σ [.ref (xa E 2), .int a1, .int a2]) (xQc E (xoI (xa E 3) o) σ') (xA E) := by
  refine x_ofT (C := RX2) (n := "number") (d := "(II)I") (r := (some .int)) (by decide) (by first | decide | exact Nat.le_of_ble_eq_true rfl) ?_
  intro p e s m below meth c ls F hr hlk hno hW hS hl
  have hl : lv_has ls 4 [(0, .ref (xa E 2)), (1, .int a1), (2, .int a2)] := hl
  obtain ⟨hx, hb, hml, hown, hts⟩ := id F.1
  have hK := F.2.1.1
  unfold fX2_number at h
  refine lv_aload_n hx hb dX2_number_0 rfl (lv_at hl 0 rfl) ?_
  refine lv_aload_n hx hb dX2_number_1 rfl (lv_at hl 0 rfl) ?_
  refine va_get (D := xD E) (ci := 2) (v := .int (σ 4 3)) (C := RX2) (T := TX2) (N := 8) hx hb hts in_X2 hown hK (xO_R hW) 0 rfl rfl 6 (by decide) (hts _ q280) (fun _ h9 => h9) rfl dX2_number_2 ?_
  refine lv_iconst (v := 1) hx hb dX2_number_5 (by decide) ?_
  refine lv_icmp_ne (tgt := 25) hx hb dX2_number_6 (by decide) (fun c1 => ?_) (fun c1 => ?_)
  · rw [if_neg c1] at h
    refine lv_iconst (v := 0) hx hb dX2_number_25 (by decide) ?_
    rcases g2 : fX2_need σ 0 with _ | ⟨_ | r3, σ4⟩
    · rw [g2] at h; cases h
    · rw [g2, xbt_t] at h
      obtain ⟨h1, h2⟩ := Prod.mk.inj (Option.some.inj h); subst h1; subst h2
      exact x_backTl (x_runVT (C := RX2) (b := (xa E 2)) (As := [.int 0]) (rest := []) F.1 (mX2_need l E σ 0 none σ4 g2) (cwV 1 hts (lw_V q1056 q1058 qs38 q104 q1059) rfl rfl rfl (by decide +kernel) ⟨Nat.le_of_ble_eq_true rfl, Nat.le_of_ble_eq_true rfl⟩) ⟨xPc.blind, va_recv hK (xO_R hW) (ci := 2) (q0 := 0) rfl rfl, F.pre hW hS (.ref (xa E 2) :: [.int 0])⟩ rfl rfl hl.1 rfl (lv_room (Nat.le_of_ble_eq_true rfl)) dX2_number_26 ⟨Nat.le_refl _, Nat.le_refl _⟩) hS hlk (hno _)
    · rw [g2, xbt_r] at h
      refine x_backTv (x_runVT (C := RX2) (b := (xa E 2)) (As := [.int 0]) (rest := []) F.1 (mX2_need l E σ 0 (some r3) σ4 g2) (cwV 1 hts (lw_V q1056 q1058 qs38 q104 q1059) rfl rfl rfl (by decide +kernel) ⟨Nat.le_of_ble_eq_true rfl, Nat.le_of_ble_eq_true rfl⟩) ⟨xPc.blind, va_recv hK (xO_R hW) (ci := 2) (q0 := 0) rfl rfl, F.pre hW hS (.ref (xa E 2) :: [.int 0])⟩ rfl rfl hl.1 rfl (lv_room (Nat.le_of_ble_eq_true rfl)) dX2_number_26 ⟨Nat.le_refl _, Nat.le_refl _⟩) hS (fun H locs hW hS => ?_)
      refine lv_aload_n hx hb dX2_number_29 rfl (lv_at hl 0 rfl) ?_
      refine va_get (D := xD E) (ci := 2) (v := .int (σ4 4 4)) (C := RX2) (T := TX2) (N := 8) hx hb hts in_X2 hown hK (xO_R hW) 0 rfl rfl 7 (by decide) (hts _ q281) (fun _ h9 => h9) rfl dX2_number_30 ?_
      refine lv_istore_n (lv' := [(3, .int (σ4 4 4)), (0, .ref (xa E 2)), (1, .int a1), (2, .int a2)]) hx hb dX2_number_33 rfl hl (by decide) rfl (fun ls hl => ?_)
      refine lv_aload_n hx hb dX2_number_34 rfl (lv_at hl 1 rfl) ?_
      rcases g5 : fX2_next σ4 with _ | ⟨_ | r6, σ7⟩
      · rw [g5] at h; cases h
      · rw [g5, xbt_t] at h
        obtain ⟨h1, h2⟩ := Prod.mk.inj (Option.some.inj h); subst h1; subst h2
        exact x_backTl (x_runVT (C := RX2) (b := (xa E 2)) (As := []) (rest := []) F.1 (mX2_next l E σ4 none σ7 g5) (cwV 0 hts (lw_V q995 q997 qs34 q104 q998) rfl rfl rfl (by decide +kernel) ⟨Nat.le_of_ble_eq_true rfl, Nat.le_of_ble_eq_true rfl⟩) ⟨xPc.blind, va_recv hK (xO_R hW) (ci := 2) (q0 := 0) rfl rfl, F.pre hW hS (.ref (xa E 2) :: [])⟩ rfl rfl hl.1 rfl (lv_room (Nat.le_of_ble_eq_true rfl)) dX2_number_35 ⟨Nat.le_refl _, Nat.le_refl _⟩) hS hlk (hno _)
      · rw [g5, xbt_r] at h
        refine x_backTv (x_runVT (C := RX2) (b := (xa E 2)) (As := []) (rest := []) F.1 (mX2_next l E σ4 (some r6) σ7 g5) (cwV 0 hts (lw_V q995 q997 qs34 q104 q998) rfl rfl rfl (by decide +kernel) ⟨Nat.le_of_ble_eq_true rfl, Nat.le_of_ble_eq_true rfl⟩) ⟨xPc.blind, va_recv hK (xO_R hW) (ci := 2) (q0 := 0) rfl rfl, F.pre hW hS (.ref (xa E 2) :: [])⟩ rfl rfl hl.1 rfl (lv_room (Nat.le_of_ble_eq_true rfl)) dX2_number_35 ⟨Nat.le_refl _, Nat.le_refl _⟩) hS (fun H locs hW hS => ?_)
        refine lv_iload_n hx hb dX2_number_38 rfl (lv_at hl 0 rfl) ?_
        obtain ⟨h1, h2⟩ := Prod.mk.inj (Option.some.inj h); subst h1; subst h2
        exact x_mono xMQ.of (x_iret F hr hlk hW hS dX2_number_39)
  · rw [if_pos c1] at h
    refine lv_aload_n hx hb dX2_number_9 rfl (lv_at hl 0 rfl) ?_
    refine va_get (D := xD E) (ci := 2) (v := .int (σ 4 4)) (C := RX2) (T := TX2) (N := 8) hx hb hts in_X2 hown hK (xO_R hW) 0 rfl rfl 7 (by decide) (hts _ q281) (fun _ h9 => h9) rfl dX2_number_10 ?_
    refine lv_iload_n hx hb dX2_number_13 rfl (lv_at hl 1 rfl) ?_
    refine lv_iload_n hx hb dX2_number_14 rfl (lv_at hl 2 rfl) ?_
    refine x_backi (va_runSN (host := "WildBells") (As := [.int (σ 4 4), .int a1, .int a2]) (rest := [.ref (xa E 2)]) F.1 (mX0_in l E σ (σ 4 4) a1 a2) ⟨va_cnB 3 hts (lw_meth q468) rfl rfl rfl (F.2.1.2.1 _ q1006 rfl) (hts _ q99) (by decide +kernel) ⟨Nat.le_of_ble_eq_true rfl, Nat.le_of_ble_eq_true rfl⟩, hts _ q467, trivial⟩ ⟨xPc.blind, F.pre hW hS [.int (σ 4 4), .int a1, .int a2]⟩ rfl rfl hl.1 rfl (lv_room (Nat.le_of_ble_eq_true rfl)) dX2_number_15 ⟨Nat.le_refl _, Nat.le_refl _⟩) hS (fun H locs hW hS => ?_)
    refine lv_if_eq (tgt := 25) hx hb dX2_number_18 (by decide) (fun c8 => ?_) (fun c8 => ?_)
    · rw [if_pos c8] at h
      refine lv_iconst (v := 0) hx hb dX2_number_25 (by decide) ?_
      rcases g9 : fX2_need σ 0 with _ | ⟨_ | r10, σ11⟩
      · rw [g9] at h; cases h
      · rw [g9, xbt_t] at h
        obtain ⟨h1, h2⟩ := Prod.mk.inj (Option.some.inj h); subst h1; subst h2
        exact x_backTl (x_runVT (C := RX2) (b := (xa E 2)) (As := [.int 0]) (rest := []) F.1 (mX2_need l E σ 0 none σ11 g9) (cwV 1 hts (lw_V q1056 q1058 qs38 q104 q1059) rfl rfl rfl (by decide +kernel) ⟨Nat.le_of_ble_eq_true rfl, Nat.le_of_ble_eq_true rfl⟩) ⟨xPc.blind, va_recv hK (xO_R hW) (ci := 2) (q0 := 0) rfl rfl, F.pre hW hS (.ref (xa E 2) :: [.int 0])⟩ rfl rfl hl.1 rfl (lv_room (Nat.le_of_ble_eq_true rfl)) dX2_number_26 ⟨Nat.le_refl _, Nat.le_refl _⟩) hS hlk (hno _)
      · rw [g9, xbt_r] at h
        refine x_backTv (x_runVT (C := RX2) (b := (xa E 2)) (As := [.int 0]) (rest := []) F.1 (mX2_need l E σ 0 (some r10) σ11 g9) (cwV 1 hts (lw_V q1056 q1058 qs38 q104 q1059) rfl rfl rfl (by decide +kernel) ⟨Nat.le_of_ble_eq_true rfl, Nat.le_of_ble_eq_true rfl⟩) ⟨xPc.blind, va_recv hK (xO_R hW) (ci := 2) (q0 := 0) rfl rfl, F.pre hW hS (.ref (xa E 2) :: [.int 0])⟩ rfl rfl hl.1 rfl (lv_room (Nat.le_of_ble_eq_true rfl)) dX2_number_26 ⟨Nat.le_refl _, Nat.le_refl _⟩) hS (fun H locs hW hS => ?_)
        refine lv_aload_n hx hb dX2_number_29 rfl (lv_at hl 0 rfl) ?_
        refine va_get (D := xD E) (ci := 2) (v := .int (σ11 4 4)) (C := RX2) (T := TX2) (N := 8) hx hb hts in_X2 hown hK (xO_R hW) 0 rfl rfl 7 (by decide) (hts _ q281) (fun _ h9 => h9) rfl dX2_number_30 ?_
        refine lv_istore_n (lv' := [(3, .int (σ11 4 4)), (0, .ref (xa E 2)), (1, .int a1), (2, .int a2)]) hx hb dX2_number_33 rfl hl (by decide) rfl (fun ls hl => ?_)
        refine lv_aload_n hx hb dX2_number_34 rfl (lv_at hl 1 rfl) ?_
        rcases g12 : fX2_next σ11 with _ | ⟨_ | r13, σ14⟩
        · rw [g12] at h; cases h
        · rw [g12, xbt_t] at h
          obtain ⟨h1, h2⟩ := Prod.mk.inj (Option.some.inj h); subst h1; subst h2
          exact x_backTl (x_runVT (C := RX2) (b := (xa E 2)) (As := []) (rest := []) F.1 (mX2_next l E σ11 none σ14 g12) (cwV 0 hts (lw_V q995 q997 qs34 q104 q998) rfl rfl rfl (by decide +kernel) ⟨Nat.le_of_ble_eq_true rfl, Nat.le_of_ble_eq_true rfl⟩) ⟨xPc.blind, va_recv hK (xO_R hW) (ci := 2) (q0 := 0) rfl rfl, F.pre hW hS (.ref (xa E 2) :: [])⟩ rfl rfl hl.1 rfl (lv_room (Nat.le_of_ble_eq_true rfl)) dX2_number_35 ⟨Nat.le_refl _, Nat.le_refl _⟩) hS hlk (hno _)
        · rw [g12, xbt_r] at h
          refine x_backTv (x_runVT (C := RX2) (b := (xa E 2)) (As := []) (rest := []) F.1 (mX2_next l E σ11 (some r13) σ14 g12) (cwV 0 hts (lw_V q995 q997 qs34 q104 q998) rfl rfl rfl (by decide +kernel) ⟨Nat.le_of_ble_eq_true rfl, Nat.le_of_ble_eq_true rfl⟩) ⟨xPc.blind, va_recv hK (xO_R hW) (ci := 2) (q0 := 0) rfl rfl, F.pre hW hS (.ref (xa E 2) :: [])⟩ rfl rfl hl.1 rfl (lv_room (Nat.le_of_ble_eq_true rfl)) dX2_number_35 ⟨Nat.le_refl _, Nat.le_refl _⟩) hS (fun H locs hW hS => ?_)
          refine lv_iload_n hx hb dX2_number_38 rfl (lv_at hl 0 rfl) ?_
          obtain ⟨h1, h2⟩ := Prod.mk.inj (Option.some.inj h); subst h1; subst h2
          exact x_mono xMQ.of (x_iret F hr hlk hW hS dX2_number_39)
    · rw [if_neg c8] at h
      refine lv_iconst (v := 1) hx hb dX2_number_21 (by decide) ?_
      refine lv_goto (tgt := 26) hx hb dX2_number_22 (by decide) ?_
      rcases g15 : fX2_need σ 1 with _ | ⟨_ | r16, σ17⟩
      · rw [g15] at h; cases h
      · rw [g15, xbt_t] at h
        obtain ⟨h1, h2⟩ := Prod.mk.inj (Option.some.inj h); subst h1; subst h2
        exact x_backTl (x_runVT (C := RX2) (b := (xa E 2)) (As := [.int 1]) (rest := []) F.1 (mX2_need l E σ 1 none σ17 g15) (cwV 1 hts (lw_V q1056 q1058 qs38 q104 q1059) rfl rfl rfl (by decide +kernel) ⟨Nat.le_of_ble_eq_true rfl, Nat.le_of_ble_eq_true rfl⟩) ⟨xPc.blind, va_recv hK (xO_R hW) (ci := 2) (q0 := 0) rfl rfl, F.pre hW hS (.ref (xa E 2) :: [.int 1])⟩ rfl rfl hl.1 rfl (lv_room (Nat.le_of_ble_eq_true rfl)) dX2_number_26 ⟨Nat.le_refl _, Nat.le_refl _⟩) hS hlk (hno _)
      · rw [g15, xbt_r] at h
        refine x_backTv (x_runVT (C := RX2) (b := (xa E 2)) (As := [.int 1]) (rest := []) F.1 (mX2_need l E σ 1 (some r16) σ17 g15) (cwV 1 hts (lw_V q1056 q1058 qs38 q104 q1059) rfl rfl rfl (by decide +kernel) ⟨Nat.le_of_ble_eq_true rfl, Nat.le_of_ble_eq_true rfl⟩) ⟨xPc.blind, va_recv hK (xO_R hW) (ci := 2) (q0 := 0) rfl rfl, F.pre hW hS (.ref (xa E 2) :: [.int 1])⟩ rfl rfl hl.1 rfl (lv_room (Nat.le_of_ble_eq_true rfl)) dX2_number_26 ⟨Nat.le_refl _, Nat.le_refl _⟩) hS (fun H locs hW hS => ?_)
        refine lv_aload_n hx hb dX2_number_29 rfl (lv_at hl 0 rfl) ?_
        refine va_get (D := xD E) (ci := 2) (v := .int (σ17 4 4)) (C := RX2) (T := TX2) (N := 8) hx hb hts in_X2 hown hK (xO_R hW) 0 rfl rfl 7 (by decide) (hts _ q281) (fun _ h9 => h9) rfl dX2_number_30 ?_
        refine lv_istore_n (lv' := [(3, .int (σ17 4 4)), (0, .ref (xa E 2)), (1, .int a1), (2, .int a2)]) hx hb dX2_number_33 rfl hl (by decide) rfl (fun ls hl => ?_)
        refine lv_aload_n hx hb dX2_number_34 rfl (lv_at hl 1 rfl) ?_
        rcases g18 : fX2_next σ17 with _ | ⟨_ | r19, σ20⟩
        · rw [g18] at h; cases h
        · rw [g18, xbt_t] at h
          obtain ⟨h1, h2⟩ := Prod.mk.inj (Option.some.inj h); subst h1; subst h2
          exact x_backTl (x_runVT (C := RX2) (b := (xa E 2)) (As := []) (rest := []) F.1 (mX2_next l E σ17 none σ20 g18) (cwV 0 hts (lw_V q995 q997 qs34 q104 q998) rfl rfl rfl (by decide +kernel) ⟨Nat.le_of_ble_eq_true rfl, Nat.le_of_ble_eq_true rfl⟩) ⟨xPc.blind, va_recv hK (xO_R hW) (ci := 2) (q0 := 0) rfl rfl, F.pre hW hS (.ref (xa E 2) :: [])⟩ rfl rfl hl.1 rfl (lv_room (Nat.le_of_ble_eq_true rfl)) dX2_number_35 ⟨Nat.le_refl _, Nat.le_refl _⟩) hS hlk (hno _)
        · rw [g18, xbt_r] at h
          refine x_backTv (x_runVT (C := RX2) (b := (xa E 2)) (As := []) (rest := []) F.1 (mX2_next l E σ17 (some r19) σ20 g18) (cwV 0 hts (lw_V q995 q997 qs34 q104 q998) rfl rfl rfl (by decide +kernel) ⟨Nat.le_of_ble_eq_true rfl, Nat.le_of_ble_eq_true rfl⟩) ⟨xPc.blind, va_recv hK (xO_R hW) (ci := 2) (q0 := 0) rfl rfl, F.pre hW hS (.ref (xa E 2) :: [])⟩ rfl rfl hl.1 rfl (lv_room (Nat.le_of_ble_eq_true rfl)) dX2_number_35 ⟨Nat.le_refl _, Nat.le_refl _⟩) hS (fun H locs hW hS => ?_)
          refine lv_iload_n hx hb dX2_number_38 rfl (lv_at hl 0 rfl) ?_
          obtain ⟨h1, h2⟩ := Prod.mk.inj (Option.some.inj h); subst h1; subst h2
          exact x_mono xMQ.of (x_iret F hr hlk hW hS dX2_number_39)
/-! WildBells$Reader.behind(II)I -/
def fX2_behind (σ : xM) (a1 : Int32) (a2 : Int32) : Option (Option Int32 × xM) :=
  xbt (fX2_next σ) (fun r2 σ3 => xbt (fX2_number σ3 a1 a2) (fun r5 σ6 => some (some r5, σ6)))
set_option maxHeartbeats 4000000 in
theorem mX2_behind (l : Launch) (E : xE) (σ : xM) (a1 : Int32) (a2 : Int32) (o : Option Int32) (σ' : xM) (h : fX2_behind σ a1 a2 = some (o, σ')) : xMT l yX2_behind (ws_ yX2_behind cX2_behind 3 (some .int)) ({ frames := 8, cells := 0, slots := 0, locals := 174 } : Room) (xPc E σ [.ref (xa E 2), .int a1, .int a2]) (xQc E (xoI (xa E 3) o) σ') (xA E) := by
  refine x_ofT (C := RX2) (n := "behind") (d := "(II)I") (r := (some .int)) (by decide) (by first | decide | exact Nat.le_of_ble_eq_true rfl) ?_
  intro p e s m below meth c ls F hr hlk hno hW hS hl
  have hl : lv_has ls 3 [(0, .ref (xa E 2)), (1, .int a1), (2, .int a2)] := hl
  obtain ⟨hx, hb, hml, hown, hts⟩ := id F.1
  have hK := F.2.1.1
  unfold fX2_behind at h
  refine lv_aload_n hx hb dX2_behind_0 rfl (lv_at hl 0 rfl) ?_
  rcases g1 : fX2_next σ with _ | ⟨_ | r2, σ3⟩
  · rw [g1] at h; cases h
  · rw [g1, xbt_t] at h
    obtain ⟨h1, h2⟩ := Prod.mk.inj (Option.some.inj h); subst h1; subst h2
    exact x_backTl (x_runVT (C := RX2) (b := (xa E 2)) (As := []) (rest := []) F.1 (mX2_next l E σ none σ3 g1) (cwV 0 hts (lw_V q995 q997 qs34 q104 q998) rfl rfl rfl (by decide +kernel) ⟨Nat.le_of_ble_eq_true rfl, Nat.le_of_ble_eq_true rfl⟩) ⟨xPc.blind, va_recv hK (xO_R hW) (ci := 2) (q0 := 0) rfl rfl, F.pre hW hS (.ref (xa E 2) :: [])⟩ rfl rfl hl.1 rfl (lv_room (Nat.le_of_ble_eq_true rfl)) dX2_behind_1 ⟨Nat.le_refl _, Nat.le_refl _⟩) hS hlk (hno _)
  · rw [g1, xbt_r] at h
    refine x_backTv (x_runVT (C := RX2) (b := (xa E 2)) (As := []) (rest := []) F.1 (mX2_next l E σ (some r2) σ3 g1) (cwV 0 hts (lw_V q995 q997 qs34 q104 q998) rfl rfl rfl (by decide +kernel) ⟨Nat.le_of_ble_eq_true rfl, Nat.le_of_ble_eq_true rfl⟩) ⟨xPc.blind, va_recv hK (xO_R hW) (ci := 2) (q0 := 0) rfl rfl, F.pre hW hS (.ref (xa E 2) :: [])⟩ rfl rfl hl.1 rfl (lv_room (Nat.le_of_ble_eq_true rfl)) dX2_behind_1 ⟨Nat.le_refl _, Nat.le_refl _⟩) hS (fun H locs hW hS => ?_)
    refine lv_aload_n hx hb dX2_behind_4 rfl (lv_at hl 0 rfl) ?_
    refine lv_iload_n hx hb dX2_behind_5 rfl (lv_at hl 1 rfl) ?_
    refine lv_iload_n hx hb dX2_behind_6 rfl (lv_at hl 2 rfl) ?_
    rcases g4 : fX2_number σ3 a1 a2 with _ | ⟨_ | r5, σ6⟩
    · rw [g4] at h; cases h
    · rw [g4, xbt_t] at h
      obtain ⟨h1, h2⟩ := Prod.mk.inj (Option.some.inj h); subst h1; subst h2
      exact x_backTl (x_runVT (C := RX2) (b := (xa E 2)) (As := [.int a1, .int a2]) (rest := []) F.1 (mX2_number l E σ3 a1 a2 none σ6 g4) (cwV 2 hts (lw_V q1075 q1077 qs42 q104 q1078) rfl rfl rfl (by decide +kernel) ⟨Nat.le_of_ble_eq_true rfl, Nat.le_of_ble_eq_true rfl⟩) ⟨xPc.blind, va_recv hK (xO_R hW) (ci := 2) (q0 := 0) rfl rfl, F.pre hW hS (.ref (xa E 2) :: [.int a1, .int a2])⟩ rfl rfl hl.1 rfl (lv_room (Nat.le_of_ble_eq_true rfl)) dX2_behind_7 ⟨Nat.le_refl _, Nat.le_refl _⟩) hS hlk (hno _)
    · rw [g4, xbt_r] at h
      refine x_backTi (x_runVT (C := RX2) (b := (xa E 2)) (As := [.int a1, .int a2]) (rest := []) F.1 (mX2_number l E σ3 a1 a2 (some r5) σ6 g4) (cwV 2 hts (lw_V q1075 q1077 qs42 q104 q1078) rfl rfl rfl (by decide +kernel) ⟨Nat.le_of_ble_eq_true rfl, Nat.le_of_ble_eq_true rfl⟩) ⟨xPc.blind, va_recv hK (xO_R hW) (ci := 2) (q0 := 0) rfl rfl, F.pre hW hS (.ref (xa E 2) :: [.int a1, .int a2])⟩ rfl rfl hl.1 rfl (lv_room (Nat.le_of_ble_eq_true rfl)) dX2_behind_7 ⟨Nat.le_refl _, Nat.le_refl _⟩) hS (fun H locs hW hS => ?_)
      obtain ⟨h1, h2⟩ := Prod.mk.inj (Option.some.inj h); subst h1; subst h2
      exact x_mono xMQ.of (x_iret F hr hlk hW hS dX2_behind_10)
/-! WildBells$Reader.perhaps(IIII)V -/
def fX2_perhaps (σ : xM) (a1 : Int32) (a2 : Int32) (a3 : Int32) (a4 : Int32) : Option (Option Unit × xM) :=
  if (fX2_isWord σ a1) = 0 then (some (some (), σ)) else (if xin a2 5 then (xbt (fX2_behind σ a3 a4) (fun r4 σ5 => if xin ((σ 3 2) - 1) 8 then (some (some (), (xup σ5 3 (146 + 5 * ((σ 3 2) - 1).toNatClampNeg + a2.toNatClampNeg) r4))) else none)) else none)
set_option maxHeartbeats 4000000 in
theorem mX2_perhaps (l : Launch) (E : xE) (σ : xM) (a1 : Int32) (a2 : Int32) (a3 : Int32) (a4 : Int32) (o : Option Unit) (σ' : xM) (h : fX2_perhaps σ a1 a2 a3 a4 = some (o, σ')) : xMT l yX2_perhaps (ws_ yX2_perhaps cX2_perhaps 5 none) ({ frames := 9, cells := 0, slots := 0, locals := 196 } : Room) (xPc E σ [.ref (xa E 2), .int a1, .int a2, .int a3, .int a4]) (xQc E (xoV (xa E 3) o) σ') (xA E) := by
  refine x_ofT (C := RX2) (n := "perhaps") (d := "(IIII)V") (r := none) (by decide) (by first | decide | exact Nat.le_of_ble_eq_true rfl) ?_
  intro p e s m below meth c ls F hr hlk hno hW hS hl
  have hl : lv_has ls 5 [(0, .ref (xa E 2)), (1, .int a1), (2, .int a2), (3, .int a3), (4, .int a4)] := hl
  obtain ⟨hx, hb, hml, hown, hts⟩ := id F.1
  have hK := F.2.1.1
  unfold fX2_perhaps at h
  refine lv_aload_n hx hb dX2_perhaps_0 rfl (lv_at hl 0 rfl) ?_
  refine lv_iload_n hx hb dX2_perhaps_1 rfl (lv_at hl 1 rfl) ?_
  refine x_backi (va_runV (C := RX2) (b := (xa E 2)) (As := [.int a1]) (rest := []) F.1 (mX2_isWord l E σ a1) (cwV 1 hts (lw_V q1087 q1089 qs45 q104 q1090) rfl rfl rfl (by decide +kernel) ⟨Nat.le_of_ble_eq_true rfl, Nat.le_of_ble_eq_true rfl⟩) ⟨xPc.blind, va_recv hK (xO_R hW) (ci := 2) (q0 := 0) rfl rfl, F.pre hW hS (.ref (xa E 2) :: [.int a1])⟩ rfl rfl hl.1 rfl (lv_room (Nat.le_of_ble_eq_true rfl)) dX2_perhaps_2 ⟨Nat.le_refl _, Nat.le_refl _⟩) hS (fun H locs hW hS => ?_)
  refine lv_if_eq (tgt := 34) hx hb dX2_perhaps_5 (by decide) (fun c1 => ?_) (fun c1 => ?_)
  · rw [if_pos c1] at h
    obtain ⟨h1, h2⟩ := Prod.mk.inj (Option.some.inj h); subst h1; subst h2
    exact x_mono xMQ.of (x_vret F hr hlk hW hS dX2_perhaps_34)
  · rw [if_neg c1] at h
    refine lv_aload_n hx hb dX2_perhaps_8 rfl (lv_at hl 0 rfl) ?_
    refine va_get (D := xD E) (ci := 2) (v := .ref (xa E (xwc 3 0))) (C := RX2) (T := TX2) (N := 8) hx hb hts in_X2 hown hK (xO_R hW) 0 rfl rfl 2 (by decide) (hts _ q273) (fun _ h9 => h9) rfl dX2_perhaps_9 ?_
    refine va_getN (D := xD E) (ci := 4) (v := .ref (xa E (xwc 3 5))) (C := RX4) (T := TX4) (N := 8) hx hb hts in_X4 hown hK (xO_W hW 3 (by decide)) 0 rfl rfl 4 (by decide) (va_Nw.use rfl (F.2.1.2.1 _ q243 rfl)) (fun _ h9 => h9) rfl dX2_perhaps_12 ?_
    refine lv_iload_n hx hb dX2_perhaps_15 rfl (lv_at hl 2 rfl) ?_
    by_cases hi2 : xin a2 5
    · rw [if_pos hi2] at h
      refine x_aald (g := fun j => xa E (xwc 3 (6 + j))) (j := (a2.toNatClampNeg)) F 4 4 5 (xR_5 hW 3 (by decide)) rfl rfl hi2 rfl dX2_perhaps_16 ?_
      refine lv_aload_n hx hb dX2_perhaps_17 rfl (lv_at hl 0 rfl) ?_
      refine va_get (D := xD E) (ci := 2) (v := .ref (xa E (xwc 3 0))) (C := RX2) (T := TX2) (N := 8) hx hb hts in_X2 hown hK (xO_R hW) 0 rfl rfl 2 (by decide) (hts _ q273) (fun _ h9 => h9) rfl dX2_perhaps_18 ?_
      refine va_getN (D := xD E) (ci := 4) (v := .int (σ 3 2)) (C := RX4) (T := TX4) (N := 8) hx hb hts in_X4 hown hK (xO_W hW 3 (by decide)) 0 rfl rfl 3 (by decide) (va_Nw.use rfl (F.2.1.2.1 _ q240 rfl)) (fun _ h9 => h9) rfl dX2_perhaps_21 ?_
      refine lv_iconst (v := 1) hx hb dX2_perhaps_24 (by decide) ?_
      refine lv_isub hx hb dX2_perhaps_25 ?_
      refine lv_aload_n hx hb dX2_perhaps_26 rfl (lv_at hl 0 rfl) ?_
      refine lv_iload_n hx hb dX2_perhaps_27 rfl (lv_at hl 3 rfl) ?_
      refine lv_iload hx hb dX2_perhaps_28 (lv_at hl 4 rfl) ?_
      rcases g3 : fX2_behind σ a3 a4 with _ | ⟨_ | r4, σ5⟩
      · rw [g3] at h; cases h
      · rw [g3, xbt_t] at h
        obtain ⟨h1, h2⟩ := Prod.mk.inj (Option.some.inj h); subst h1; subst h2
        exact x_backTl (x_runVT (C := RX2) (b := (xa E 2)) (As := [.int a3, .int a4]) (rest := [.int ((σ 3 2) - 1), .ref (xa E (xwc 3 (6 + a2.toNatClampNeg)))]) F.1 (mX2_behind l E σ a3 a4 none σ5 g3) (cwV 2 hts (lw_V q1071 q1073 qs41 q104 q1074) rfl rfl rfl (by decide +kernel) ⟨Nat.le_of_ble_eq_true rfl, Nat.le_of_ble_eq_true rfl⟩) ⟨xPc.blind, va_recv hK (xO_R hW) (ci := 2) (q0 := 0) rfl rfl, F.pre hW hS (.ref (xa E 2) :: [.int a3, .int a4])⟩ rfl rfl hl.1 rfl (lv_room (Nat.le_of_ble_eq_true rfl)) dX2_perhaps_30 ⟨Nat.le_refl _, Nat.le_refl _⟩) hS hlk (hno _)
      · rw [g3, xbt_r] at h
        refine x_backTi (x_runVT (C := RX2) (b := (xa E 2)) (As := [.int a3, .int a4]) (rest := [.int ((σ 3 2) - 1), .ref (xa E (xwc 3 (6 + a2.toNatClampNeg)))]) F.1 (mX2_behind l E σ a3 a4 (some r4) σ5 g3) (cwV 2 hts (lw_V q1071 q1073 qs41 q104 q1074) rfl rfl rfl (by decide +kernel) ⟨Nat.le_of_ble_eq_true rfl, Nat.le_of_ble_eq_true rfl⟩) ⟨xPc.blind, va_recv hK (xO_R hW) (ci := 2) (q0 := 0) rfl rfl, F.pre hW hS (.ref (xa E 2) :: [.int a3, .int a4])⟩ rfl rfl hl.1 rfl (lv_room (Nat.le_of_ble_eq_true rfl)) dX2_perhaps_30 ⟨Nat.le_refl _, Nat.le_refl _⟩) hS (fun H locs hW hS => ?_)
        by_cases hi6 : xin ((σ 3 2) - 1) 8
        · rw [if_pos hi6] at h
          refine x_iast F hW hS (xwc 3 (6 + a2.toNatClampNeg)) 8 3 (fun j => 146 + 5 * j + a2.toNatClampNeg) (xw_lt 3 (by decide) _ (Nat.lt_of_lt_of_le (Nat.add_lt_add_left (x_lt hi2) 6 : 6 + a2.toNatClampNeg < 6 + 5) (by decide))) (xw_6 3 (by decide) a2.toNatClampNeg (x_lt hi2)).1 (xw_6 3 (by decide) a2.toNatClampNeg (x_lt hi2)).2 (by decide) hi6 dX2_perhaps_33 (fun H locs hW hS => ?_)
          obtain ⟨h1, h2⟩ := Prod.mk.inj (Option.some.inj h); subst h1; subst h2
          exact x_mono xMQ.of (x_vret F hr hlk hW hS dX2_perhaps_34)
        · rw [if_neg hi6] at h; cases h
    · rw [if_neg hi2] at h; cases h
/-! WildBells$Reader.bell(I)V -/
def fX2_bell (σ : xM) (a1 : Int32) : Option (Option Unit × xM) :=
  if 8 ≤ (σ 3 2) then (xbt (fX2_need σ 0) (fun r3 σ4 => xbt (fX2_next σ4) (fun r6 σ7 => (fX4_add σ7 3 a1 0).bind (fun r9 => xbt (fX2_perhaps r9 11 1 0 63) (fun r11 σ12 => xbt (fX2_perhaps σ12 12 2 0 11) (fun r14 σ15 => xbt (fX2_perhaps σ15 13 3 1 99) (fun r17 σ18 => some (some (), σ18)))))))) else (xbt (fX2_need σ 1) (fun r20 σ21 => xbt (fX2_next σ21) (fun r23 σ24 => (fX4_add σ24 3 a1 0).bind (fun r26 => xbt (fX2_perhaps r26 11 1 0 63) (fun r28 σ29 => xbt (fX2_perhaps σ29 12 2 0 11) (fun r31 σ32 => xbt (fX2_perhaps σ32 13 3 1 99) (fun r34 σ35 => some (some (), σ35))))))))
set_option maxHeartbeats 4000000 in
theorem mX2_bell (l : Launch) (E : xE) (σ : xM) (a1 : Int32) (o : Option Unit) (σ' : xM) (h : fX2_bell σ a1 = some (o, σ')) : xMT l yX2_bell (ws_ yX2_bell cX2_bell 2 none) ({ frames := 10, cells := 0, slots := 0, locals := 220 } : Room) (xPc E σ [.ref (xa E 2), .int a1]) (xQc E (xoV (xa E 3) o) σ') (xA E) := by
  refine x_ofT (C := RX2) (n := "bell") (d := "(I)V") (r := none) (by decide) (by first | decide | exact Nat.le_of_ble_eq_true rfl) ?_
  intro p e s m below meth c ls F hr hlk hno hW hS hl
  have hl : lv_has ls 2 [(0, .ref (xa E 2)), (1, .int a1)] := hl
  obtain ⟨hx, hb, hml, hown, hts⟩ := id F.1
  have hK := F.2.1.1
  unfold fX2_bell at h
  refine lv_aload_n hx hb dX2_bell_0 rfl (lv_at hl 0 rfl) ?_
  refine lv_aload_n hx hb dX2_bell_1 rfl (lv_at hl 0 rfl) ?_
  refine va_get (D := xD E) (ci := 2) (v := .ref (xa E (xwc 3 0))) (C := RX2) (T := TX2) (N := 8) hx hb hts in_X2 hown hK (xO_R hW) 0 rfl rfl 2 (by decide) (hts _ q273) (fun _ h9 => h9) rfl dX2_bell_2 ?_
  refine va_getN (D := xD E) (ci := 4) (v := .int (σ 3 2)) (C := RX4) (T := TX4) (N := 8) hx hb hts in_X4 hown hK (xO_W hW 3 (by decide)) 0 rfl rfl 3 (by decide) (va_Nw.use rfl (F.2.1.2.1 _ q240 rfl)) (fun _ h9 => h9) rfl dX2_bell_5 ?_
  refine lv_bipush (v := 8) hx hb dX2_bell_8 (by decide) ?_
  refine lv_icmp_ge (tgt := 17) hx hb dX2_bell_10 (by decide) (fun c1 => ?_) (fun c1 => ?_)
  · rw [if_pos c1] at h
    refine lv_iconst (v := 0) hx hb dX2_bell_17 (by decide) ?_
    rcases g2 : fX2_need σ 0 with _ | ⟨_ | r3, σ4⟩
    · rw [g2] at h; cases h
    · rw [g2, xbt_t] at h
      obtain ⟨h1, h2⟩ := Prod.mk.inj (Option.some.inj h); subst h1; subst h2
      exact x_backTl (x_runVT (C := RX2) (b := (xa E 2)) (As := [.int 0]) (rest := []) F.1 (mX2_need l E σ 0 none σ4 g2) (cwV 1 hts (lw_V q1056 q1058 qs38 q104 q1059) rfl rfl rfl (by decide +kernel) ⟨Nat.le_of_ble_eq_true rfl, Nat.le_of_ble_eq_true rfl⟩) ⟨xPc.blind, va_recv hK (xO_R hW) (ci := 2) (q0 := 0) rfl rfl, F.pre hW hS (.ref (xa E 2) :: [.int 0])⟩ rfl rfl hl.1 rfl (lv_room (Nat.le_of_ble_eq_true rfl)) dX2_bell_18 ⟨Nat.le_refl _, Nat.le_refl _⟩) hS hlk (hno _)
    · rw [g2, xbt_r] at h
      refine x_backTv (x_runVT (C := RX2) (b := (xa E 2)) (As := [.int 0]) (rest := []) F.1 (mX2_need l E σ 0 (some r3) σ4 g2) (cwV 1 hts (lw_V q1056 q1058 qs38 q104 q1059) rfl rfl rfl (by decide +kernel) ⟨Nat.le_of_ble_eq_true rfl, Nat.le_of_ble_eq_true rfl⟩) ⟨xPc.blind, va_recv hK (xO_R hW) (ci := 2) (q0 := 0) rfl rfl, F.pre hW hS (.ref (xa E 2) :: [.int 0])⟩ rfl rfl hl.1 rfl (lv_room (Nat.le_of_ble_eq_true rfl)) dX2_bell_18 ⟨Nat.le_refl _, Nat.le_refl _⟩) hS (fun H locs hW hS => ?_)
      refine lv_aload_n hx hb dX2_bell_21 rfl (lv_at hl 0 rfl) ?_
      rcases g5 : fX2_next σ4 with _ | ⟨_ | r6, σ7⟩
      · rw [g5] at h; cases h
      · rw [g5, xbt_t] at h
        obtain ⟨h1, h2⟩ := Prod.mk.inj (Option.some.inj h); subst h1; subst h2
        exact x_backTl (x_runVT (C := RX2) (b := (xa E 2)) (As := []) (rest := []) F.1 (mX2_next l E σ4 none σ7 g5) (cwV 0 hts (lw_V q995 q997 qs34 q104 q998) rfl rfl rfl (by decide +kernel) ⟨Nat.le_of_ble_eq_true rfl, Nat.le_of_ble_eq_true rfl⟩) ⟨xPc.blind, va_recv hK (xO_R hW) (ci := 2) (q0 := 0) rfl rfl, F.pre hW hS (.ref (xa E 2) :: [])⟩ rfl rfl hl.1 rfl (lv_room (Nat.le_of_ble_eq_true rfl)) dX2_bell_22 ⟨Nat.le_refl _, Nat.le_refl _⟩) hS hlk (hno _)
      · rw [g5, xbt_r] at h
        refine x_backTv (x_runVT (C := RX2) (b := (xa E 2)) (As := []) (rest := []) F.1 (mX2_next l E σ4 (some r6) σ7 g5) (cwV 0 hts (lw_V q995 q997 qs34 q104 q998) rfl rfl rfl (by decide +kernel) ⟨Nat.le_of_ble_eq_true rfl, Nat.le_of_ble_eq_true rfl⟩) ⟨xPc.blind, va_recv hK (xO_R hW) (ci := 2) (q0 := 0) rfl rfl, F.pre hW hS (.ref (xa E 2) :: [])⟩ rfl rfl hl.1 rfl (lv_room (Nat.le_of_ble_eq_true rfl)) dX2_bell_22 ⟨Nat.le_refl _, Nat.le_refl _⟩) hS (fun H locs hW hS => ?_)
        refine lv_aload_n hx hb dX2_bell_25 rfl (lv_at hl 0 rfl) ?_
        refine va_get (D := xD E) (ci := 2) (v := .ref (xa E (xwc 3 0))) (C := RX2) (T := TX2) (N := 8) hx hb hts in_X2 hown hK (xO_R hW) 0 rfl rfl 2 (by decide) (hts _ q273) (fun _ h9 => h9) rfl dX2_bell_26 ?_
        refine lv_iload_n hx hb dX2_bell_29 rfl (lv_at hl 1 rfl) ?_
        refine lv_iconst (v := 0) hx hb dX2_bell_30 (by decide) ?_
        cases g8 : fX4_add σ7 3 a1 0 with
        | none => rw [g8] at h; cases h
        | some r9 =>
          rw [g8, Option.bind_some] at h
          refine x_backv (va_runV (C := RX4) (b := (xa E (xwc 3 0))) (As := [.int a1, .int 0]) (rest := []) F.1 (mX4_add l E σ7 3 (by decide) a1 0 r9 g8) (cwV 2 hts (lw_V q1095 q530 q531 q106 q532) rfl rfl rfl (by decide +kernel) ⟨Nat.le_of_ble_eq_true rfl, Nat.le_of_ble_eq_true rfl⟩) ⟨xPc.blind, va_recv hK (xO_W hW 3 (by decide)) (ci := 4) (q0 := 0) rfl rfl, F.pre hW hS (.ref (xa E (xwc 3 0)) :: [.int a1, .int 0])⟩ rfl rfl hl.1 rfl (lv_room (Nat.le_of_ble_eq_true rfl)) dX2_bell_31 ⟨Nat.le_refl _, Nat.le_refl _⟩) hS (fun H locs hW hS => ?_)
          refine lv_aload_n hx hb dX2_bell_34 rfl (lv_at hl 0 rfl) ?_
          refine lv_bipush (v := 11) hx hb dX2_bell_35 (by decide) ?_
          refine lv_iconst (v := 1) hx hb dX2_bell_37 (by decide) ?_
          refine lv_iconst (v := 0) hx hb dX2_bell_38 (by decide) ?_
          refine lv_bipush (v := 63) hx hb dX2_bell_39 (by decide) ?_
          rcases g10 : fX2_perhaps r9 11 1 0 63 with _ | ⟨_ | r11, σ12⟩
          · rw [g10] at h; cases h
          · rw [g10, xbt_t] at h
            obtain ⟨h1, h2⟩ := Prod.mk.inj (Option.some.inj h); subst h1; subst h2
            exact x_backTl (x_runVT (C := RX2) (b := (xa E 2)) (As := [.int 11, .int 1, .int 0, .int 63]) (rest := []) F.1 (mX2_perhaps l E r9 11 1 0 63 none σ12 g10) (cwV 4 hts (lw_V q1096 q1098 qs47 q104 q1099) rfl rfl rfl (by decide +kernel) ⟨Nat.le_of_ble_eq_true rfl, Nat.le_of_ble_eq_true rfl⟩) ⟨xPc.blind, va_recv hK (xO_R hW) (ci := 2) (q0 := 0) rfl rfl, F.pre hW hS (.ref (xa E 2) :: [.int 11, .int 1, .int 0, .int 63])⟩ rfl rfl hl.1 rfl (lv_room (Nat.le_of_ble_eq_true rfl)) dX2_bell_41 ⟨Nat.le_refl _, Nat.le_refl _⟩) hS hlk (hno _)
          · rw [g10, xbt_r] at h
            refine x_backTv (x_runVT (C := RX2) (b := (xa E 2)) (As := [.int 11, .int 1, .int 0, .int 63]) (rest := []) F.1 (mX2_perhaps l E r9 11 1 0 63 (some r11) σ12 g10) (cwV 4 hts (lw_V q1096 q1098 qs47 q104 q1099) rfl rfl rfl (by decide +kernel) ⟨Nat.le_of_ble_eq_true rfl, Nat.le_of_ble_eq_true rfl⟩) ⟨xPc.blind, va_recv hK (xO_R hW) (ci := 2) (q0 := 0) rfl rfl, F.pre hW hS (.ref (xa E 2) :: [.int 11, .int 1, .int 0, .int 63])⟩ rfl rfl hl.1 rfl (lv_room (Nat.le_of_ble_eq_true rfl)) dX2_bell_41 ⟨Nat.le_refl _, Nat.le_refl _⟩) hS (fun H locs hW hS => ?_)
            refine lv_aload_n hx hb dX2_bell_44 rfl (lv_at hl 0 rfl) ?_
            refine lv_bipush (v := 12) hx hb dX2_bell_45 (by decide) ?_
            refine lv_iconst (v := 2) hx hb dX2_bell_47 (by decide) ?_
            refine lv_iconst (v := 0) hx hb dX2_bell_48 (by decide) ?_
            refine lv_bipush (v := 11) hx hb dX2_bell_49 (by decide) ?_
            rcases g13 : fX2_perhaps σ12 12 2 0 11 with _ | ⟨_ | r14, σ15⟩
            · rw [g13] at h; cases h
            · rw [g13, xbt_t] at h
              obtain ⟨h1, h2⟩ := Prod.mk.inj (Option.some.inj h); subst h1; subst h2
              exact x_backTl (x_runVT (C := RX2) (b := (xa E 2)) (As := [.int 12, .int 2, .int 0, .int 11]) (rest := []) F.1 (mX2_perhaps l E σ12 12 2 0 11 none σ15 g13) (cwV 4 hts (lw_V q1096 q1098 qs47 q104 q1099) rfl rfl rfl (by decide +kernel) ⟨Nat.le_of_ble_eq_true rfl, Nat.le_of_ble_eq_true rfl⟩) ⟨xPc.blind, va_recv hK (xO_R hW) (ci := 2) (q0 := 0) rfl rfl, F.pre hW hS (.ref (xa E 2) :: [.int 12, .int 2, .int 0, .int 11])⟩ rfl rfl hl.1 rfl (lv_room (Nat.le_of_ble_eq_true rfl)) dX2_bell_51 ⟨Nat.le_refl _, Nat.le_refl _⟩) hS hlk (hno _)
            · rw [g13, xbt_r] at h
              refine x_backTv (x_runVT (C := RX2) (b := (xa E 2)) (As := [.int 12, .int 2, .int 0, .int 11]) (rest := []) F.1 (mX2_perhaps l E σ12 12 2 0 11 (some r14) σ15 g13) (cwV 4 hts (lw_V q1096 q1098 qs47 q104 q1099) rfl rfl rfl (by decide +kernel) ⟨Nat.le_of_ble_eq_true rfl, Nat.le_of_ble_eq_true rfl⟩) ⟨xPc.blind, va_recv hK (xO_R hW) (ci := 2) (q0 := 0) rfl rfl, F.pre hW hS (.ref (xa E 2) :: [.int 12, .int 2, .int 0, .int 11])⟩ rfl rfl hl.1 rfl (lv_room (Nat.le_of_ble_eq_true rfl)) dX2_bell_51 ⟨Nat.le_refl _, Nat.le_refl _⟩) hS (fun H locs hW hS => ?_)
              refine lv_aload_n hx hb dX2_bell_54 rfl (lv_at hl 0 rfl) ?_
              refine lv_bipush (v := 13) hx hb dX2_bell_55 (by decide) ?_
              refine lv_iconst (v := 3) hx hb dX2_bell_57 (by decide) ?_
              refine lv_iconst (v := 1) hx hb dX2_bell_58 (by decide) ?_
              refine lv_bipush (v := 99) hx hb dX2_bell_59 (by decide) ?_
              rcases g16 : fX2_perhaps σ15 13 3 1 99 with _ | ⟨_ | r17, σ18⟩
              · rw [g16] at h; cases h
              · rw [g16, xbt_t] at h
                obtain ⟨h1, h2⟩ := Prod.mk.inj (Option.some.inj h); subst h1; subst h2
                exact x_backTl (x_runVT (C := RX2) (b := (xa E 2)) (As := [.int 13, .int 3, .int 1, .int 99]) (rest := []) F.1 (mX2_perhaps l E σ15 13 3 1 99 none σ18 g16) (cwV 4 hts (lw_V q1096 q1098 qs47 q104 q1099) rfl rfl rfl (by decide +kernel) ⟨Nat.le_of_ble_eq_true rfl, Nat.le_of_ble_eq_true rfl⟩) ⟨xPc.blind, va_recv hK (xO_R hW) (ci := 2) (q0 := 0) rfl rfl, F.pre hW hS (.ref (xa E 2) :: [.int 13, .int 3, .int 1, .int 99])⟩ rfl rfl hl.1 rfl (lv_room (Nat.le_of_ble_eq_true rfl)) dX2_bell_61 ⟨Nat.le_refl _, Nat.le_refl _⟩) hS hlk (hno _)
              · rw [g16, xbt_r] at h
                refine x_backTv (x_runVT (C := RX2) (b := (xa E 2)) (As := [.int 13, .int 3, .int 1, .int 99]) (rest := []) F.1 (mX2_perhaps l E σ15 13 3 1 99 (some r17) σ18 g16) (cwV 4 hts (lw_V q1096 q1098 qs47 q104 q1099) rfl rfl rfl (by decide +kernel) ⟨Nat.le_of_ble_eq_true rfl, Nat.le_of_ble_eq_true rfl⟩) ⟨xPc.blind, va_recv hK (xO_R hW) (ci := 2) (q0 := 0) rfl rfl, F.pre hW hS (.ref (xa E 2) :: [.int 13, .int 3, .int 1, .int 99])⟩ rfl rfl hl.1 rfl (lv_room (Nat.le_of_ble_eq_true rfl)) dX2_bell_61 ⟨Nat.le_refl _, Nat.le_refl _⟩) hS (fun H locs hW hS => ?_)
                obtain ⟨h1, h2⟩ := Prod.mk.inj (Option.some.inj h); subst h1; subst h2
                exact x_mono xMQ.of (x_vret F hr hlk hW hS dX2_bell_64)
  · rw [if_neg c1] at h
    refine lv_iconst (v := 1) hx hb dX2_bell_13 (by decide) ?_
    refine lv_goto (tgt := 18) hx hb dX2_bell_14 (by decide) ?_
    rcases g19 : fX2_need σ 1 with _ | ⟨_ | r20, σ21⟩
    · rw [g19] at h; cases h
    · rw [g19, xbt_t] at h
      obtain ⟨h1, h2⟩ := Prod.mk.inj (Option.some.inj h); subst h1; subst h2
      exact x_backTl (x_runVT (C := RX2) (b := (xa E 2)) (As := [.int 1]) (rest := []) F.1 (mX2_need l E σ 1 none σ21 g19) (cwV 1 hts (lw_V q1056 q1058 qs38 q104 q1059) rfl rfl rfl (by decide +kernel) ⟨Nat.le_of_ble_eq_true rfl, Nat.le_of_ble_eq_true rfl⟩) ⟨xPc.blind, va_recv hK (xO_R hW) (ci := 2) (q0 := 0) rfl rfl, F.pre hW hS (.ref (xa E 2) :: [.int 1])⟩ rfl rfl hl.1 rfl (lv_room (Nat.le_of_ble_eq_true rfl)) dX2_bell_18 ⟨Nat.le_refl _, Nat.le_refl _⟩) hS hlk (hno _)
    · rw [g19, xbt_r] at h
      refine x_backTv (x_runVT (C := RX2) (b := (xa E 2)) (As := [.int 1]) (rest := []) F.1 (mX2_need l E σ 1 (some r20) σ21 g19) (cwV 1 hts (lw_V q1056 q1058 qs38 q104 q1059) rfl rfl rfl (by decide +kernel) ⟨Nat.le_of_ble_eq_true rfl, Nat.le_of_ble_eq_true rfl⟩) ⟨xPc.blind, va_recv hK (xO_R hW) (ci := 2) (q0 := 0) rfl rfl, F.pre hW hS (.ref (xa E 2) :: [.int 1])⟩ rfl rfl hl.1 rfl (lv_room (Nat.le_of_ble_eq_true rfl)) dX2_bell_18 ⟨Nat.le_refl _, Nat.le_refl _⟩) hS (fun H locs hW hS => ?_)
      refine lv_aload_n hx hb dX2_bell_21 rfl (lv_at hl 0 rfl) ?_
      rcases g22 : fX2_next σ21 with _ | ⟨_ | r23, σ24⟩
      · rw [g22] at h; cases h
      · rw [g22, xbt_t] at h
        obtain ⟨h1, h2⟩ := Prod.mk.inj (Option.some.inj h); subst h1; subst h2
        exact x_backTl (x_runVT (C := RX2) (b := (xa E 2)) (As := []) (rest := []) F.1 (mX2_next l E σ21 none σ24 g22) (cwV 0 hts (lw_V q995 q997 qs34 q104 q998) rfl rfl rfl (by decide +kernel) ⟨Nat.le_of_ble_eq_true rfl, Nat.le_of_ble_eq_true rfl⟩) ⟨xPc.blind, va_recv hK (xO_R hW) (ci := 2) (q0 := 0) rfl rfl, F.pre hW hS (.ref (xa E 2) :: [])⟩ rfl rfl hl.1 rfl (lv_room (Nat.le_of_ble_eq_true rfl)) dX2_bell_22 ⟨Nat.le_refl _, Nat.le_refl _⟩) hS hlk (hno _)
      · rw [g22, xbt_r] at h
        refine x_backTv (x_runVT (C := RX2) (b := (xa E 2)) (As := []) (rest := []) F.1 (mX2_next l E σ21 (some r23) σ24 g22) (cwV 0 hts (lw_V q995 q997 qs34 q104 q998) rfl rfl rfl (by decide +kernel) ⟨Nat.le_of_ble_eq_true rfl, Nat.le_of_ble_eq_true rfl⟩) ⟨xPc.blind, va_recv hK (xO_R hW) (ci := 2) (q0 := 0) rfl rfl, F.pre hW hS (.ref (xa E 2) :: [])⟩ rfl rfl hl.1 rfl (lv_room (Nat.le_of_ble_eq_true rfl)) dX2_bell_22 ⟨Nat.le_refl _, Nat.le_refl _⟩) hS (fun H locs hW hS => ?_)
        refine lv_aload_n hx hb dX2_bell_25 rfl (lv_at hl 0 rfl) ?_
        refine va_get (D := xD E) (ci := 2) (v := .ref (xa E (xwc 3 0))) (C := RX2) (T := TX2) (N := 8) hx hb hts in_X2 hown hK (xO_R hW) 0 rfl rfl 2 (by decide) (hts _ q273) (fun _ h9 => h9) rfl dX2_bell_26 ?_
        refine lv_iload_n hx hb dX2_bell_29 rfl (lv_at hl 1 rfl) ?_
        refine lv_iconst (v := 0) hx hb dX2_bell_30 (by decide) ?_
        cases g25 : fX4_add σ24 3 a1 0 with
        | none => rw [g25] at h; cases h
        | some r26 =>
          rw [g25, Option.bind_some] at h
          refine x_backv (va_runV (C := RX4) (b := (xa E (xwc 3 0))) (As := [.int a1, .int 0]) (rest := []) F.1 (mX4_add l E σ24 3 (by decide) a1 0 r26 g25) (cwV 2 hts (lw_V q1095 q530 q531 q106 q532) rfl rfl rfl (by decide +kernel) ⟨Nat.le_of_ble_eq_true rfl, Nat.le_of_ble_eq_true rfl⟩) ⟨xPc.blind, va_recv hK (xO_W hW 3 (by decide)) (ci := 4) (q0 := 0) rfl rfl, F.pre hW hS (.ref (xa E (xwc 3 0)) :: [.int a1, .int 0])⟩ rfl rfl hl.1 rfl (lv_room (Nat.le_of_ble_eq_true rfl)) dX2_bell_31 ⟨Nat.le_refl _, Nat.le_refl _⟩) hS (fun H locs hW hS => ?_)
          refine lv_aload_n hx hb dX2_bell_34 rfl (lv_at hl 0 rfl) ?_
          refine lv_bipush (v := 11) hx hb dX2_bell_35 (by decide) ?_
          refine lv_iconst (v := 1) hx hb dX2_bell_37 (by decide) ?_
          refine lv_iconst (v := 0) hx hb dX2_bell_38 (by decide) ?_
          refine lv_bipush (v := 63) hx hb dX2_bell_39 (by decide) ?_
          rcases g27 : fX2_perhaps r26 11 1 0 63 with _ | ⟨_ | r28, σ29⟩
          · rw [g27] at h; cases h
          · rw [g27, xbt_t] at h
            obtain ⟨h1, h2⟩ := Prod.mk.inj (Option.some.inj h); subst h1; subst h2
            exact x_backTl (x_runVT (C := RX2) (b := (xa E 2)) (As := [.int 11, .int 1, .int 0, .int 63]) (rest := []) F.1 (mX2_perhaps l E r26 11 1 0 63 none σ29 g27) (cwV 4 hts (lw_V q1096 q1098 qs47 q104 q1099) rfl rfl rfl (by decide +kernel) ⟨Nat.le_of_ble_eq_true rfl, Nat.le_of_ble_eq_true rfl⟩) ⟨xPc.blind, va_recv hK (xO_R hW) (ci := 2) (q0 := 0) rfl rfl, F.pre hW hS (.ref (xa E 2) :: [.int 11, .int 1, .int 0, .int 63])⟩ rfl rfl hl.1 rfl (lv_room (Nat.le_of_ble_eq_true rfl)) dX2_bell_41 ⟨Nat.le_refl _, Nat.le_refl _⟩) hS hlk (hno _)
          · rw [g27, xbt_r] at h
            refine x_backTv (x_runVT (C := RX2) (b := (xa E 2)) (As := [.int 11, .int 1, .int 0, .int 63]) (rest := []) F.1 (mX2_perhaps l E r26 11 1 0 63 (some r28) σ29 g27) (cwV 4 hts (lw_V q1096 q1098 qs47 q104 q1099) rfl rfl rfl (by decide +kernel) ⟨Nat.le_of_ble_eq_true rfl, Nat.le_of_ble_eq_true rfl⟩) ⟨xPc.blind, va_recv hK (xO_R hW) (ci := 2) (q0 := 0) rfl rfl, F.pre hW hS (.ref (xa E 2) :: [.int 11, .int 1, .int 0, .int 63])⟩ rfl rfl hl.1 rfl (lv_room (Nat.le_of_ble_eq_true rfl)) dX2_bell_41 ⟨Nat.le_refl _, Nat.le_refl _⟩) hS (fun H locs hW hS => ?_)
            refine lv_aload_n hx hb dX2_bell_44 rfl (lv_at hl 0 rfl) ?_
            refine lv_bipush (v := 12) hx hb dX2_bell_45 (by decide) ?_
            refine lv_iconst (v := 2) hx hb dX2_bell_47 (by decide) ?_
            refine lv_iconst (v := 0) hx hb dX2_bell_48 (by decide) ?_
            refine lv_bipush (v := 11) hx hb dX2_bell_49 (by decide) ?_
            rcases g30 : fX2_perhaps σ29 12 2 0 11 with _ | ⟨_ | r31, σ32⟩
            · rw [g30] at h; cases h
            · rw [g30, xbt_t] at h
              obtain ⟨h1, h2⟩ := Prod.mk.inj (Option.some.inj h); subst h1; subst h2
              exact x_backTl (x_runVT (C := RX2) (b := (xa E 2)) (As := [.int 12, .int 2, .int 0, .int 11]) (rest := []) F.1 (mX2_perhaps l E σ29 12 2 0 11 none σ32 g30) (cwV 4 hts (lw_V q1096 q1098 qs47 q104 q1099) rfl rfl rfl (by decide +kernel) ⟨Nat.le_of_ble_eq_true rfl, Nat.le_of_ble_eq_true rfl⟩) ⟨xPc.blind, va_recv hK (xO_R hW) (ci := 2) (q0 := 0) rfl rfl, F.pre hW hS (.ref (xa E 2) :: [.int 12, .int 2, .int 0, .int 11])⟩ rfl rfl hl.1 rfl (lv_room (Nat.le_of_ble_eq_true rfl)) dX2_bell_51 ⟨Nat.le_refl _, Nat.le_refl _⟩) hS hlk (hno _)
            · rw [g30, xbt_r] at h
              refine x_backTv (x_runVT (C := RX2) (b := (xa E 2)) (As := [.int 12, .int 2, .int 0, .int 11]) (rest := []) F.1 (mX2_perhaps l E σ29 12 2 0 11 (some r31) σ32 g30) (cwV 4 hts (lw_V q1096 q1098 qs47 q104 q1099) rfl rfl rfl (by decide +kernel) ⟨Nat.le_of_ble_eq_true rfl, Nat.le_of_ble_eq_true rfl⟩) ⟨xPc.blind, va_recv hK (xO_R hW) (ci := 2) (q0 := 0) rfl rfl, F.pre hW hS (.ref (xa E 2) :: [.int 12, .int 2, .int 0, .int 11])⟩ rfl rfl hl.1 rfl (lv_room (Nat.le_of_ble_eq_true rfl)) dX2_bell_51 ⟨Nat.le_refl _, Nat.le_refl _⟩) hS (fun H locs hW hS => ?_)
              refine lv_aload_n hx hb dX2_bell_54 rfl (lv_at hl 0 rfl) ?_
              refine lv_bipush (v := 13) hx hb dX2_bell_55 (by decide) ?_
              refine lv_iconst (v := 3) hx hb dX2_bell_57 (by decide) ?_
              refine lv_iconst (v := 1) hx hb dX2_bell_58 (by decide) ?_
              refine lv_bipush (v := 99) hx hb dX2_bell_59 (by decide) ?_
              rcases g33 : fX2_perhaps σ32 13 3 1 99 with _ | ⟨_ | r34, σ35⟩
              · rw [g33] at h; cases h
              · rw [g33, xbt_t] at h
                obtain ⟨h1, h2⟩ := Prod.mk.inj (Option.some.inj h); subst h1; subst h2
                exact x_backTl (x_runVT (C := RX2) (b := (xa E 2)) (As := [.int 13, .int 3, .int 1, .int 99]) (rest := []) F.1 (mX2_perhaps l E σ32 13 3 1 99 none σ35 g33) (cwV 4 hts (lw_V q1096 q1098 qs47 q104 q1099) rfl rfl rfl (by decide +kernel) ⟨Nat.le_of_ble_eq_true rfl, Nat.le_of_ble_eq_true rfl⟩) ⟨xPc.blind, va_recv hK (xO_R hW) (ci := 2) (q0 := 0) rfl rfl, F.pre hW hS (.ref (xa E 2) :: [.int 13, .int 3, .int 1, .int 99])⟩ rfl rfl hl.1 rfl (lv_room (Nat.le_of_ble_eq_true rfl)) dX2_bell_61 ⟨Nat.le_refl _, Nat.le_refl _⟩) hS hlk (hno _)
              · rw [g33, xbt_r] at h
                refine x_backTv (x_runVT (C := RX2) (b := (xa E 2)) (As := [.int 13, .int 3, .int 1, .int 99]) (rest := []) F.1 (mX2_perhaps l E σ32 13 3 1 99 (some r34) σ35 g33) (cwV 4 hts (lw_V q1096 q1098 qs47 q104 q1099) rfl rfl rfl (by decide +kernel) ⟨Nat.le_of_ble_eq_true rfl, Nat.le_of_ble_eq_true rfl⟩) ⟨xPc.blind, va_recv hK (xO_R hW) (ci := 2) (q0 := 0) rfl rfl, F.pre hW hS (.ref (xa E 2) :: [.int 13, .int 3, .int 1, .int 99])⟩ rfl rfl hl.1 rfl (lv_room (Nat.le_of_ble_eq_true rfl)) dX2_bell_61 ⟨Nat.le_refl _, Nat.le_refl _⟩) hS (fun H locs hW hS => ?_)
                obtain ⟨h1, h2⟩ := Prod.mk.inj (Option.some.inj h); subst h1; subst h2
                exact x_mono xMQ.of (x_vret F hr hlk hW hS dX2_bell_64)
/-! WildBells$Reader.thick()V -/
def fX2_thick (σ : xM) : Option (Option Unit × xM) :=
  xbt (fX2_behind σ 0 63) (fun r2 σ3 => xbt (fX2_number σ3 0 9) (fun r5 σ6 => if xin r2 64 then (some (some (), (xup σ6 3 (18 + 64 * 1 + r2.toNatClampNeg) r5))) else none))
set_option maxHeartbeats 4000000 in
theorem mX2_thick (l : Launch) (E : xE) (σ : xM) (o : Option Unit) (σ' : xM) (h : fX2_thick σ = some (o, σ')) : xMT l yX2_thick (ws_ yX2_thick cX2_thick 2 none) ({ frames := 9, cells := 0, slots := 0, locals := 196 } : Room) (xPc E σ [.ref (xa E 2)]) (xQc E (xoV (xa E 3) o) σ') (xA E) := by
  refine x_ofT (C := RX2) (n := "thick") (d := "()V") (r := none) (by decide) (by first | decide | exact Nat.le_of_ble_eq_true rfl) ?_
  intro p e s m below meth c ls F hr hlk hno hW hS hl
  have hl : lv_has ls 2 [(0, .ref (xa E 2))] := hl
  obtain ⟨hx, hb, hml, hown, hts⟩ := id F.1
  have hK := F.2.1.1
  unfold fX2_thick at h
  refine lv_aload_n hx hb dX2_thick_0 rfl (lv_at hl 0 rfl) ?_
  refine lv_iconst (v := 0) hx hb dX2_thick_1 (by decide) ?_
  refine lv_bipush (v := 63) hx hb dX2_thick_2 (by decide) ?_
  rcases g1 : fX2_behind σ 0 63 with _ | ⟨_ | r2, σ3⟩
  · rw [g1] at h; cases h
  · rw [g1, xbt_t] at h
    obtain ⟨h1, h2⟩ := Prod.mk.inj (Option.some.inj h); subst h1; subst h2
    exact x_backTl (x_runVT (C := RX2) (b := (xa E 2)) (As := [.int 0, .int 63]) (rest := []) F.1 (mX2_behind l E σ 0 63 none σ3 g1) (cwV 2 hts (lw_V q1071 q1073 qs41 q104 q1074) rfl rfl rfl (by decide +kernel) ⟨Nat.le_of_ble_eq_true rfl, Nat.le_of_ble_eq_true rfl⟩) ⟨xPc.blind, va_recv hK (xO_R hW) (ci := 2) (q0 := 0) rfl rfl, F.pre hW hS (.ref (xa E 2) :: [.int 0, .int 63])⟩ rfl rfl hl.1 rfl (lv_room (Nat.le_of_ble_eq_true rfl)) dX2_thick_4 ⟨Nat.le_refl _, Nat.le_refl _⟩) hS hlk (hno _)
  · rw [g1, xbt_r] at h
    refine x_backTi (x_runVT (C := RX2) (b := (xa E 2)) (As := [.int 0, .int 63]) (rest := []) F.1 (mX2_behind l E σ 0 63 (some r2) σ3 g1) (cwV 2 hts (lw_V q1071 q1073 qs41 q104 q1074) rfl rfl rfl (by decide +kernel) ⟨Nat.le_of_ble_eq_true rfl, Nat.le_of_ble_eq_true rfl⟩) ⟨xPc.blind, va_recv hK (xO_R hW) (ci := 2) (q0 := 0) rfl rfl, F.pre hW hS (.ref (xa E 2) :: [.int 0, .int 63])⟩ rfl rfl hl.1 rfl (lv_room (Nat.le_of_ble_eq_true rfl)) dX2_thick_4 ⟨Nat.le_refl _, Nat.le_refl _⟩) hS (fun H locs hW hS => ?_)
    refine lv_istore_n (lv' := [(1, .int r2), (0, .ref (xa E 2))]) hx hb dX2_thick_7 rfl hl (by decide) rfl (fun ls hl => ?_)
    refine lv_aload_n hx hb dX2_thick_8 rfl (lv_at hl 1 rfl) ?_
    refine va_get (D := xD E) (ci := 2) (v := .ref (xa E (xwc 3 0))) (C := RX2) (T := TX2) (N := 8) hx hb hts in_X2 hown hK (xO_R hW) 0 rfl rfl 2 (by decide) (hts _ q273) (fun _ h9 => h9) rfl dX2_thick_9 ?_
    refine va_getN (D := xD E) (ci := 4) (v := .ref (xa E (xwc 3 1))) (C := RX4) (T := TX4) (N := 8) hx hb hts in_X4 hown hK (xO_W hW 3 (by decide)) 0 rfl rfl 0 (by decide) (va_Nw.use rfl (F.2.1.2.1 _ q231 rfl)) (fun _ h9 => h9) rfl dX2_thick_12 ?_
    refine lv_iconst (v := 1) hx hb dX2_thick_15 (by decide) ?_
    refine x_aald (g := fun j => xa E (xwc 3 (2 + j))) (j := 1) F 4 4 2 (xR_1 hW 3 (by decide)) rfl rfl (x_lit (by decide)) (by decide) dX2_thick_16 ?_
    refine lv_iload_n hx hb dX2_thick_17 rfl (lv_at hl 0 rfl) ?_
    refine lv_aload_n hx hb dX2_thick_18 rfl (lv_at hl 1 rfl) ?_
    refine lv_iconst (v := 0) hx hb dX2_thick_19 (by decide) ?_
    refine lv_bipush (v := 9) hx hb dX2_thick_20 (by decide) ?_
    rcases g4 : fX2_number σ3 0 9 with _ | ⟨_ | r5, σ6⟩
    · rw [g4] at h; cases h
    · rw [g4, xbt_t] at h
      obtain ⟨h1, h2⟩ := Prod.mk.inj (Option.some.inj h); subst h1; subst h2
      exact x_backTl (x_runVT (C := RX2) (b := (xa E 2)) (As := [.int 0, .int 9]) (rest := [.int r2, .ref (xa E (xwc 3 (2 + 1)))]) F.1 (mX2_number l E σ3 0 9 none σ6 g4) (cwV 2 hts (lw_V q1075 q1077 qs42 q104 q1078) rfl rfl rfl (by decide +kernel) ⟨Nat.le_of_ble_eq_true rfl, Nat.le_of_ble_eq_true rfl⟩) ⟨xPc.blind, va_recv hK (xO_R hW) (ci := 2) (q0 := 0) rfl rfl, F.pre hW hS (.ref (xa E 2) :: [.int 0, .int 9])⟩ rfl rfl hl.1 rfl (lv_room (Nat.le_of_ble_eq_true rfl)) dX2_thick_22 ⟨Nat.le_refl _, Nat.le_refl _⟩) hS hlk (hno _)
    · rw [g4, xbt_r] at h
      refine x_backTi (x_runVT (C := RX2) (b := (xa E 2)) (As := [.int 0, .int 9]) (rest := [.int r2, .ref (xa E (xwc 3 (2 + 1)))]) F.1 (mX2_number l E σ3 0 9 (some r5) σ6 g4) (cwV 2 hts (lw_V q1075 q1077 qs42 q104 q1078) rfl rfl rfl (by decide +kernel) ⟨Nat.le_of_ble_eq_true rfl, Nat.le_of_ble_eq_true rfl⟩) ⟨xPc.blind, va_recv hK (xO_R hW) (ci := 2) (q0 := 0) rfl rfl, F.pre hW hS (.ref (xa E 2) :: [.int 0, .int 9])⟩ rfl rfl hl.1 rfl (lv_room (Nat.le_of_ble_eq_true rfl)) dX2_thick_22 ⟨Nat.le_refl _, Nat.le_refl _⟩) hS (fun H locs hW hS => ?_)
      by_cases hi7 : xin r2 64
      · rw [if_pos hi7] at h
        refine x_iast F hW hS (xwc 3 (2 + 1)) 64 3 (fun j => 18 + 64 * 1 + j) (xw_lt 3 (by decide) _ (Nat.lt_of_lt_of_le (Nat.add_lt_add_left (by decide) 2 : 2 + 1 < 2 + 2) (by decide))) (xw_2 3 (by decide) 1 (by decide)).1 (xw_2 3 (by decide) 1 (by decide)).2 (by decide) hi7 dX2_thick_25 (fun H locs hW hS => ?_)
        obtain ⟨h1, h2⟩ := Prod.mk.inj (Option.some.inj h); subst h1; subst h2
        exact x_mono xMQ.of (x_vret F hr hlk hW hS dX2_thick_26)
      · rw [if_neg hi7] at h; cases h
/-! WildBells$Reader.hunter()V -/
def fX2_hunter (σ : xM) : Option (Option Unit × xM) :=
  xbt (fX2_behind σ 0 3) (fun r2 σ3 => if (fX2_isWord σ3 11) = 0 then (if xin r2 4 then (some (some (), (xup σ3 3 (14 + r2.toNatClampNeg) (-1)))) else none) else (xbt (fX2_behind σ3 0 63) (fun r7 σ8 => if xin r2 4 then (some (some (), (xup σ8 3 (14 + r2.toNatClampNeg) r7))) else none)))
set_option maxHeartbeats 4000000 in
theorem mX2_hunter (l : Launch) (E : xE) (σ : xM) (o : Option Unit) (σ' : xM) (h : fX2_hunter σ = some (o, σ')) : xMT l yX2_hunter (ws_ yX2_hunter cX2_hunter 2 none) ({ frames := 9, cells := 0, slots := 0, locals := 196 } : Room) (xPc E σ [.ref (xa E 2)]) (xQc E (xoV (xa E 3) o) σ') (xA E) := by
  refine x_ofT (C := RX2) (n := "hunter") (d := "()V") (r := none) (by decide) (by first | decide | exact Nat.le_of_ble_eq_true rfl) ?_
  intro p e s m below meth c ls F hr hlk hno hW hS hl
  have hl : lv_has ls 2 [(0, .ref (xa E 2))] := hl
  obtain ⟨hx, hb, hml, hown, hts⟩ := id F.1
  have hK := F.2.1.1
  unfold fX2_hunter at h
  refine lv_aload_n hx hb dX2_hunter_0 rfl (lv_at hl 0 rfl) ?_
  refine lv_iconst (v := 0) hx hb dX2_hunter_1 (by decide) ?_
  refine lv_iconst (v := 3) hx hb dX2_hunter_2 (by decide) ?_
  rcases g1 : fX2_behind σ 0 3 with _ | ⟨_ | r2, σ3⟩
  · rw [g1] at h; cases h
  · rw [g1, xbt_t] at h
    obtain ⟨h1, h2⟩ := Prod.mk.inj (Option.some.inj h); subst h1; subst h2
    exact x_backTl (x_runVT (C := RX2) (b := (xa E 2)) (As := [.int 0, .int 3]) (rest := []) F.1 (mX2_behind l E σ 0 3 none σ3 g1) (cwV 2 hts (lw_V q1071 q1073 qs41 q104 q1074) rfl rfl rfl (by decide +kernel) ⟨Nat.le_of_ble_eq_true rfl, Nat.le_of_ble_eq_true rfl⟩) ⟨xPc.blind, va_recv hK (xO_R hW) (ci := 2) (q0 := 0) rfl rfl, F.pre hW hS (.ref (xa E 2) :: [.int 0, .int 3])⟩ rfl rfl hl.1 rfl (lv_room (Nat.le_of_ble_eq_true rfl)) dX2_hunter_3 ⟨Nat.le_refl _, Nat.le_refl _⟩) hS hlk (hno _)
  · rw [g1, xbt_r] at h
    refine x_backTi (x_runVT (C := RX2) (b := (xa E 2)) (As := [.int 0, .int 3]) (rest := []) F.1 (mX2_behind l E σ 0 3 (some r2) σ3 g1) (cwV 2 hts (lw_V q1071 q1073 qs41 q104 q1074) rfl rfl rfl (by decide +kernel) ⟨Nat.le_of_ble_eq_true rfl, Nat.le_of_ble_eq_true rfl⟩) ⟨xPc.blind, va_recv hK (xO_R hW) (ci := 2) (q0 := 0) rfl rfl, F.pre hW hS (.ref (xa E 2) :: [.int 0, .int 3])⟩ rfl rfl hl.1 rfl (lv_room (Nat.le_of_ble_eq_true rfl)) dX2_hunter_3 ⟨Nat.le_refl _, Nat.le_refl _⟩) hS (fun H locs hW hS => ?_)
    refine lv_istore_n (lv' := [(1, .int r2), (0, .ref (xa E 2))]) hx hb dX2_hunter_6 rfl hl (by decide) rfl (fun ls hl => ?_)
    refine lv_aload_n hx hb dX2_hunter_7 rfl (lv_at hl 1 rfl) ?_
    refine va_get (D := xD E) (ci := 2) (v := .ref (xa E (xwc 3 0))) (C := RX2) (T := TX2) (N := 8) hx hb hts in_X2 hown hK (xO_R hW) 0 rfl rfl 2 (by decide) (hts _ q273) (fun _ h9 => h9) rfl dX2_hunter_8 ?_
    refine va_getN (D := xD E) (ci := 4) (v := .ref (xa E (xwc 3 4))) (C := RX4) (T := TX4) (N := 8) hx hb hts in_X4 hown hK (xO_W hW 3 (by decide)) 0 rfl rfl 1 (by decide) (va_Nw.use rfl (F.2.1.2.1 _ q234 rfl)) (fun _ h9 => h9) rfl dX2_hunter_11 ?_
    refine lv_iload_n hx hb dX2_hunter_14 rfl (lv_at hl 0 rfl) ?_
    refine lv_aload_n hx hb dX2_hunter_15 rfl (lv_at hl 1 rfl) ?_
    refine lv_bipush (v := 11) hx hb dX2_hunter_16 (by decide) ?_
    refine x_backi (va_runV (C := RX2) (b := (xa E 2)) (As := [.int 11]) (rest := [.int r2, .ref (xa E (xwc 3 4))]) F.1 (mX2_isWord l E σ3 11) (cwV 1 hts (lw_V q1087 q1089 qs45 q104 q1090) rfl rfl rfl (by decide +kernel) ⟨Nat.le_of_ble_eq_true rfl, Nat.le_of_ble_eq_true rfl⟩) ⟨xPc.blind, va_recv hK (xO_R hW) (ci := 2) (q0 := 0) rfl rfl, F.pre hW hS (.ref (xa E 2) :: [.int 11])⟩ rfl rfl hl.1 rfl (lv_room (Nat.le_of_ble_eq_true rfl)) dX2_hunter_18 ⟨Nat.le_refl _, Nat.le_refl _⟩) hS (fun H locs hW hS => ?_)
    refine lv_if_eq (tgt := 34) hx hb dX2_hunter_21 (by decide) (fun c4 => ?_) (fun c4 => ?_)
    · rw [if_pos c4] at h
      refine lv_iconst (v := (-1)) hx hb dX2_hunter_34 (by decide) ?_
      by_cases hi5 : xin r2 4
      · rw [if_pos hi5] at h
        refine x_iast F hW hS (xwc 3 4) 4 3 (fun j => 14 + j) (xw_lt 3 (by decide) 4 (by decide)) (xw_4 3 (by decide)).1 (xw_4 3 (by decide)).2 (by decide) hi5 dX2_hunter_35 (fun H locs hW hS => ?_)
        obtain ⟨h1, h2⟩ := Prod.mk.inj (Option.some.inj h); subst h1; subst h2
        exact x_mono xMQ.of (x_vret F hr hlk hW hS dX2_hunter_36)
      · rw [if_neg hi5] at h; cases h
    · rw [if_neg c4] at h
      refine lv_aload_n hx hb dX2_hunter_24 rfl (lv_at hl 1 rfl) ?_
      refine lv_iconst (v := 0) hx hb dX2_hunter_25 (by decide) ?_
      refine lv_bipush (v := 63) hx hb dX2_hunter_26 (by decide) ?_
      rcases g6 : fX2_behind σ3 0 63 with _ | ⟨_ | r7, σ8⟩
      · rw [g6] at h; cases h
      · rw [g6, xbt_t] at h
        obtain ⟨h1, h2⟩ := Prod.mk.inj (Option.some.inj h); subst h1; subst h2
        exact x_backTl (x_runVT (C := RX2) (b := (xa E 2)) (As := [.int 0, .int 63]) (rest := [.int r2, .ref (xa E (xwc 3 4))]) F.1 (mX2_behind l E σ3 0 63 none σ8 g6) (cwV 2 hts (lw_V q1071 q1073 qs41 q104 q1074) rfl rfl rfl (by decide +kernel) ⟨Nat.le_of_ble_eq_true rfl, Nat.le_of_ble_eq_true rfl⟩) ⟨xPc.blind, va_recv hK (xO_R hW) (ci := 2) (q0 := 0) rfl rfl, F.pre hW hS (.ref (xa E 2) :: [.int 0, .int 63])⟩ rfl rfl hl.1 rfl (lv_room (Nat.le_of_ble_eq_true rfl)) dX2_hunter_28 ⟨Nat.le_refl _, Nat.le_refl _⟩) hS hlk (hno _)
      · rw [g6, xbt_r] at h
        refine x_backTi (x_runVT (C := RX2) (b := (xa E 2)) (As := [.int 0, .int 63]) (rest := [.int r2, .ref (xa E (xwc 3 4))]) F.1 (mX2_behind l E σ3 0 63 (some r7) σ8 g6) (cwV 2 hts (lw_V q1071 q1073 qs41 q104 q1074) rfl rfl rfl (by decide +kernel) ⟨Nat.le_of_ble_eq_true rfl, Nat.le_of_ble_eq_true rfl⟩) ⟨xPc.blind, va_recv hK (xO_R hW) (ci := 2) (q0 := 0) rfl rfl, F.pre hW hS (.ref (xa E 2) :: [.int 0, .int 63])⟩ rfl rfl hl.1 rfl (lv_room (Nat.le_of_ble_eq_true rfl)) dX2_hunter_28 ⟨Nat.le_refl _, Nat.le_refl _⟩) hS (fun H locs hW hS => ?_)
        refine lv_goto (tgt := 35) hx hb dX2_hunter_31 (by decide) ?_
        by_cases hi9 : xin r2 4
        · rw [if_pos hi9] at h
          refine x_iast F hW hS (xwc 3 4) 4 3 (fun j => 14 + j) (xw_lt 3 (by decide) 4 (by decide)) (xw_4 3 (by decide)).1 (xw_4 3 (by decide)).2 (by decide) hi9 dX2_hunter_35 (fun H locs hW hS => ?_)
          obtain ⟨h1, h2⟩ := Prod.mk.inj (Option.some.inj h); subst h1; subst h2
          exact x_mono xMQ.of (x_vret F hr hlk hW hS dX2_hunter_36)
        · rw [if_neg hi9] at h; cases h
/-! WildBells$Reader.item()V -/
def fX2_item (σ : xM) : Option (Option Unit × xM) :=
  if (σ 4 3) = 2 then (if 10 < (σ 4 4) then (xbt (fX2_need σ 0) (fun r27 σ28 => (if (σ28 4 4) = 7 then (xbt (fX2_behind σ28 0 63) (fun r31 σ32 => if xin r31 64 then (some (some (), (xup σ32 3 (18 + 64 * 0 + r31.toNatClampNeg) 1))) else none)) else (if (σ28 4 4) = 8 then (xbt (fX2_thick σ28) (fun r36 σ37 => some (some (), σ37))) else (if (σ28 4 4) = 9 then (xbt (fX2_hunter σ28) (fun r40 σ41 => some (some (), σ41))) else (if (σ28 4 4) = 10 then (xbt (fX2_behind σ28 0 9) (fun r44 σ45 => some (some (), (xup σ45 3 1 r44)))) else (xbt (fX2_bell σ28 (σ28 4 4)) (fun r47 σ48 => some (some (), σ48))))))))) else (xbt (fX2_need σ 1) (fun r50 σ51 => (if (σ51 4 4) = 7 then (xbt (fX2_behind σ51 0 63) (fun r54 σ55 => if xin r54 64 then (some (some (), (xup σ55 3 (18 + 64 * 0 + r54.toNatClampNeg) 1))) else none)) else (if (σ51 4 4) = 8 then (xbt (fX2_thick σ51) (fun r59 σ60 => some (some (), σ60))) else (if (σ51 4 4) = 9 then (xbt (fX2_hunter σ51) (fun r63 σ64 => some (some (), σ64))) else (if (σ51 4 4) = 10 then (xbt (fX2_behind σ51 0 9) (fun r67 σ68 => some (some (), (xup σ68 3 1 r67)))) else (xbt (fX2_bell σ51 (σ51 4 4)) (fun r70 σ71 => some (some (), σ71)))))))))) else (xbt (fX2_need σ 0) (fun r3 σ4 => (if (σ4 4 4) = 7 then (xbt (fX2_behind σ4 0 63) (fun r7 σ8 => if xin r7 64 then (some (some (), (xup σ8 3 (18 + 64 * 0 + r7.toNatClampNeg) 1))) else none)) else (if (σ4 4 4) = 8 then (xbt (fX2_thick σ4) (fun r12 σ13 => some (some (), σ13))) else (if (σ4 4 4) = 9 then (xbt (fX2_hunter σ4) (fun r16 σ17 => some (some (), σ17))) else (if (σ4 4 4) = 10 then (xbt (fX2_behind σ4 0 9) (fun r20 σ21 => some (some (), (xup σ21 3 1 r20)))) else (xbt (fX2_bell σ4 (σ4 4 4)) (fun r23 σ24 => some (some (), σ24)))))))))
set_option maxHeartbeats 4000000 in
theorem mX2_item (l : Launch) (E : xE) (σ : xM) (o : Option Unit) (σ' : xM) (h : fX2_item σ = some (o, σ')) : xMT l yX2_item (ws_ yX2_item cX2_item 1 none) ({ frames := 11, cells := 0, slots := 0, locals := 241 } : Room) (xPc E σ [.ref (xa E 2)]) (xQc E (xoV (xa E 3) o) σ') (xA E) := by
  refine x_ofT (C := RX2) (n := "item") (d := "()V") (r := none) (by decide) (by first | decide | exact Nat.le_of_ble_eq_true rfl) ?_
  intro p e s m below meth c ls F hr hlk hno hW hS hl
  have hl : lv_has ls 1 [(0, .ref (xa E 2))] := hl
  obtain ⟨hx, hb, hml, hown, hts⟩ := id F.1
  have hK := F.2.1.1
  unfold fX2_item at h
  refine lv_aload_n hx hb dX2_item_0 rfl (lv_at hl 0 rfl) ?_
  refine lv_aload_n hx hb dX2_item_1 rfl (lv_at hl 0 rfl) ?_
  refine va_get (D := xD E) (ci := 2) (v := .int (σ 4 3)) (C := RX2) (T := TX2) (N := 8) hx hb hts in_X2 hown hK (xO_R hW) 0 rfl rfl 6 (by decide) (hts _ q280) (fun _ h9 => h9) rfl dX2_item_2 ?_
  refine lv_iconst (v := 2) hx hb dX2_item_5 (by decide) ?_
  refine lv_icmp_ne (tgt := 22) hx hb dX2_item_6 (by decide) (fun c1 => ?_) (fun c1 => ?_)
  · rw [if_neg c1] at h
    refine lv_iconst (v := 0) hx hb dX2_item_22 (by decide) ?_
    rcases g2 : fX2_need σ 0 with _ | ⟨_ | r3, σ4⟩
    · rw [g2] at h; cases h
    · rw [g2, xbt_t] at h
      obtain ⟨h1, h2⟩ := Prod.mk.inj (Option.some.inj h); subst h1; subst h2
      exact x_backTl (x_runVT (C := RX2) (b := (xa E 2)) (As := [.int 0]) (rest := []) F.1 (mX2_need l E σ 0 none σ4 g2) (cwV 1 hts (lw_V q1056 q1058 qs38 q104 q1059) rfl rfl rfl (by decide +kernel) ⟨Nat.le_of_ble_eq_true rfl, Nat.le_of_ble_eq_true rfl⟩) ⟨xPc.blind, va_recv hK (xO_R hW) (ci := 2) (q0 := 0) rfl rfl, F.pre hW hS (.ref (xa E 2) :: [.int 0])⟩ rfl rfl hl.1 rfl (lv_room (Nat.le_of_ble_eq_true rfl)) dX2_item_23 ⟨Nat.le_refl _, Nat.le_refl _⟩) hS hlk (hno _)
    · rw [g2, xbt_r] at h
      refine x_backTv (x_runVT (C := RX2) (b := (xa E 2)) (As := [.int 0]) (rest := []) F.1 (mX2_need l E σ 0 (some r3) σ4 g2) (cwV 1 hts (lw_V q1056 q1058 qs38 q104 q1059) rfl rfl rfl (by decide +kernel) ⟨Nat.le_of_ble_eq_true rfl, Nat.le_of_ble_eq_true rfl⟩) ⟨xPc.blind, va_recv hK (xO_R hW) (ci := 2) (q0 := 0) rfl rfl, F.pre hW hS (.ref (xa E 2) :: [.int 0])⟩ rfl rfl hl.1 rfl (lv_room (Nat.le_of_ble_eq_true rfl)) dX2_item_23 ⟨Nat.le_refl _, Nat.le_refl _⟩) hS (fun H locs hW hS => ?_)
      refine lv_aload_n hx hb dX2_item_26 rfl (lv_at hl 0 rfl) ?_
      refine va_get (D := xD E) (ci := 2) (v := .int (σ4 4 4)) (C := RX2) (T := TX2) (N := 8) hx hb hts in_X2 hown hK (xO_R hW) 0 rfl rfl 7 (by decide) (hts _ q281) (fun _ h9 => h9) rfl dX2_item_27 ?_
      by_cases c5 : (σ4 4 4) = 7
      · rw [if_pos c5] at h
        refine lv_tableIn (tgt := 60) hx hb dX2_item_30 (by rw [c5]; decide) (by rw [c5]; decide) (by rw [c5]; rfl) (by decide) ?_
        refine lv_aload_n hx hb dX2_item_60 rfl (lv_at hl 0 rfl) ?_
        refine va_get (D := xD E) (ci := 2) (v := .ref (xa E (xwc 3 0))) (C := RX2) (T := TX2) (N := 8) hx hb hts in_X2 hown hK (xO_R hW) 0 rfl rfl 2 (by decide) (hts _ q273) (fun _ h9 => h9) rfl dX2_item_61 ?_
        refine va_getN (D := xD E) (ci := 4) (v := .ref (xa E (xwc 3 1))) (C := RX4) (T := TX4) (N := 8) hx hb hts in_X4 hown hK (xO_W hW 3 (by decide)) 0 rfl rfl 0 (by decide) (va_Nw.use rfl (F.2.1.2.1 _ q231 rfl)) (fun _ h9 => h9) rfl dX2_item_64 ?_
        refine lv_iconst (v := 0) hx hb dX2_item_67 (by decide) ?_
        refine x_aald (g := fun j => xa E (xwc 3 (2 + j))) (j := 0) F 4 4 2 (xR_1 hW 3 (by decide)) rfl rfl (x_lit (by decide)) (by decide) dX2_item_68 ?_
        refine lv_aload_n hx hb dX2_item_69 rfl (lv_at hl 0 rfl) ?_
        refine lv_iconst (v := 0) hx hb dX2_item_70 (by decide) ?_
        refine lv_bipush (v := 63) hx hb dX2_item_71 (by decide) ?_
        rcases g6 : fX2_behind σ4 0 63 with _ | ⟨_ | r7, σ8⟩
        · rw [g6] at h; cases h
        · rw [g6, xbt_t] at h
          obtain ⟨h1, h2⟩ := Prod.mk.inj (Option.some.inj h); subst h1; subst h2
          exact x_backTl (x_runVT (C := RX2) (b := (xa E 2)) (As := [.int 0, .int 63]) (rest := [.ref (xa E (xwc 3 (2 + 0)))]) F.1 (mX2_behind l E σ4 0 63 none σ8 g6) (cwV 2 hts (lw_V q1071 q1073 qs41 q104 q1074) rfl rfl rfl (by decide +kernel) ⟨Nat.le_of_ble_eq_true rfl, Nat.le_of_ble_eq_true rfl⟩) ⟨xPc.blind, va_recv hK (xO_R hW) (ci := 2) (q0 := 0) rfl rfl, F.pre hW hS (.ref (xa E 2) :: [.int 0, .int 63])⟩ rfl rfl hl.1 rfl (lv_room (Nat.le_of_ble_eq_true rfl)) dX2_item_73 ⟨Nat.le_refl _, Nat.le_refl _⟩) hS hlk (hno _)
        · rw [g6, xbt_r] at h
          refine x_backTi (x_runVT (C := RX2) (b := (xa E 2)) (As := [.int 0, .int 63]) (rest := [.ref (xa E (xwc 3 (2 + 0)))]) F.1 (mX2_behind l E σ4 0 63 (some r7) σ8 g6) (cwV 2 hts (lw_V q1071 q1073 qs41 q104 q1074) rfl rfl rfl (by decide +kernel) ⟨Nat.le_of_ble_eq_true rfl, Nat.le_of_ble_eq_true rfl⟩) ⟨xPc.blind, va_recv hK (xO_R hW) (ci := 2) (q0 := 0) rfl rfl, F.pre hW hS (.ref (xa E 2) :: [.int 0, .int 63])⟩ rfl rfl hl.1 rfl (lv_room (Nat.le_of_ble_eq_true rfl)) dX2_item_73 ⟨Nat.le_refl _, Nat.le_refl _⟩) hS (fun H locs hW hS => ?_)
          refine lv_iconst (v := 1) hx hb dX2_item_76 (by decide) ?_
          by_cases hi9 : xin r7 64
          · rw [if_pos hi9] at h
            refine x_iast F hW hS (xwc 3 (2 + 0)) 64 3 (fun j => 18 + 64 * 0 + j) (xw_lt 3 (by decide) _ (Nat.lt_of_lt_of_le (Nat.add_lt_add_left (by decide) 2 : 2 + 0 < 2 + 2) (by decide))) (xw_2 3 (by decide) 0 (by decide)).1 (xw_2 3 (by decide) 0 (by decide)).2 (by decide) hi9 dX2_item_77 (fun H locs hW hS => ?_)
            refine lv_goto (tgt := 120) hx hb dX2_item_78 (by decide) ?_
            obtain ⟨h1, h2⟩ := Prod.mk.inj (Option.some.inj h); subst h1; subst h2
            exact x_mono xMQ.of (x_vret F hr hlk hW hS dX2_item_120)
          · rw [if_neg hi9] at h; cases h
      · rw [if_neg c5] at h
        by_cases c10 : (σ4 4 4) = 8
        · rw [if_pos c10] at h
          refine lv_tableIn (tgt := 81) hx hb dX2_item_30 (by rw [c10]; decide) (by rw [c10]; decide) (by rw [c10]; rfl) (by decide) ?_
          refine lv_aload_n hx hb dX2_item_81 rfl (lv_at hl 0 rfl) ?_
          rcases g11 : fX2_thick σ4 with _ | ⟨_ | r12, σ13⟩
          · rw [g11] at h; cases h
          · rw [g11, xbt_t] at h
            obtain ⟨h1, h2⟩ := Prod.mk.inj (Option.some.inj h); subst h1; subst h2
            exact x_backTl (x_runVT (C := RX2) (b := (xa E 2)) (As := []) (rest := []) F.1 (mX2_thick l E σ4 none σ13 g11) (cwV 0 hts (lw_V q1079 q1081 qs43 q104 q1082) rfl rfl rfl (by decide +kernel) ⟨Nat.le_of_ble_eq_true rfl, Nat.le_of_ble_eq_true rfl⟩) ⟨xPc.blind, va_recv hK (xO_R hW) (ci := 2) (q0 := 0) rfl rfl, F.pre hW hS (.ref (xa E 2) :: [])⟩ rfl rfl hl.1 rfl (lv_room (Nat.le_of_ble_eq_true rfl)) dX2_item_82 ⟨Nat.le_refl _, Nat.le_refl _⟩) hS hlk (hno _)
          · rw [g11, xbt_r] at h
            refine x_backTv (x_runVT (C := RX2) (b := (xa E 2)) (As := []) (rest := []) F.1 (mX2_thick l E σ4 (some r12) σ13 g11) (cwV 0 hts (lw_V q1079 q1081 qs43 q104 q1082) rfl rfl rfl (by decide +kernel) ⟨Nat.le_of_ble_eq_true rfl, Nat.le_of_ble_eq_true rfl⟩) ⟨xPc.blind, va_recv hK (xO_R hW) (ci := 2) (q0 := 0) rfl rfl, F.pre hW hS (.ref (xa E 2) :: [])⟩ rfl rfl hl.1 rfl (lv_room (Nat.le_of_ble_eq_true rfl)) dX2_item_82 ⟨Nat.le_refl _, Nat.le_refl _⟩) hS (fun H locs hW hS => ?_)
            refine lv_goto (tgt := 120) hx hb dX2_item_85 (by decide) ?_
            obtain ⟨h1, h2⟩ := Prod.mk.inj (Option.some.inj h); subst h1; subst h2
            exact x_mono xMQ.of (x_vret F hr hlk hW hS dX2_item_120)
        · rw [if_neg c10] at h
          by_cases c14 : (σ4 4 4) = 9
          · rw [if_pos c14] at h
            refine lv_tableIn (tgt := 88) hx hb dX2_item_30 (by rw [c14]; decide) (by rw [c14]; decide) (by rw [c14]; rfl) (by decide) ?_
            refine lv_aload_n hx hb dX2_item_88 rfl (lv_at hl 0 rfl) ?_
            rcases g15 : fX2_hunter σ4 with _ | ⟨_ | r16, σ17⟩
            · rw [g15] at h; cases h
            · rw [g15, xbt_t] at h
              obtain ⟨h1, h2⟩ := Prod.mk.inj (Option.some.inj h); subst h1; subst h2
              exact x_backTl (x_runVT (C := RX2) (b := (xa E 2)) (As := []) (rest := []) F.1 (mX2_hunter l E σ4 none σ17 g15) (cwV 0 hts (lw_V q1083 q1085 qs44 q104 q1086) rfl rfl rfl (by decide +kernel) ⟨Nat.le_of_ble_eq_true rfl, Nat.le_of_ble_eq_true rfl⟩) ⟨xPc.blind, va_recv hK (xO_R hW) (ci := 2) (q0 := 0) rfl rfl, F.pre hW hS (.ref (xa E 2) :: [])⟩ rfl rfl hl.1 rfl (lv_room (Nat.le_of_ble_eq_true rfl)) dX2_item_89 ⟨Nat.le_refl _, Nat.le_refl _⟩) hS hlk (hno _)
            · rw [g15, xbt_r] at h
              refine x_backTv (x_runVT (C := RX2) (b := (xa E 2)) (As := []) (rest := []) F.1 (mX2_hunter l E σ4 (some r16) σ17 g15) (cwV 0 hts (lw_V q1083 q1085 qs44 q104 q1086) rfl rfl rfl (by decide +kernel) ⟨Nat.le_of_ble_eq_true rfl, Nat.le_of_ble_eq_true rfl⟩) ⟨xPc.blind, va_recv hK (xO_R hW) (ci := 2) (q0 := 0) rfl rfl, F.pre hW hS (.ref (xa E 2) :: [])⟩ rfl rfl hl.1 rfl (lv_room (Nat.le_of_ble_eq_true rfl)) dX2_item_89 ⟨Nat.le_refl _, Nat.le_refl _⟩) hS (fun H locs hW hS => ?_)
              refine lv_goto (tgt := 120) hx hb dX2_item_92 (by decide) ?_
              obtain ⟨h1, h2⟩ := Prod.mk.inj (Option.some.inj h); subst h1; subst h2
              exact x_mono xMQ.of (x_vret F hr hlk hW hS dX2_item_120)
          · rw [if_neg c14] at h
            by_cases c18 : (σ4 4 4) = 10
            · rw [if_pos c18] at h
              refine lv_tableIn (tgt := 95) hx hb dX2_item_30 (by rw [c18]; decide) (by rw [c18]; decide) (by rw [c18]; rfl) (by decide) ?_
              refine lv_aload_n hx hb dX2_item_95 rfl (lv_at hl 0 rfl) ?_
              refine va_get (D := xD E) (ci := 2) (v := .ref (xa E (xwc 3 0))) (C := RX2) (T := TX2) (N := 8) hx hb hts in_X2 hown hK (xO_R hW) 0 rfl rfl 2 (by decide) (hts _ q273) (fun _ h9 => h9) rfl dX2_item_96 ?_
              refine lv_aload_n hx hb dX2_item_99 rfl (lv_at hl 0 rfl) ?_
              refine lv_iconst (v := 0) hx hb dX2_item_100 (by decide) ?_
              refine lv_bipush (v := 9) hx hb dX2_item_101 (by decide) ?_
              rcases g19 : fX2_behind σ4 0 9 with _ | ⟨_ | r20, σ21⟩
              · rw [g19] at h; cases h
              · rw [g19, xbt_t] at h
                obtain ⟨h1, h2⟩ := Prod.mk.inj (Option.some.inj h); subst h1; subst h2
                exact x_backTl (x_runVT (C := RX2) (b := (xa E 2)) (As := [.int 0, .int 9]) (rest := [.ref (xa E (xwc 3 0))]) F.1 (mX2_behind l E σ4 0 9 none σ21 g19) (cwV 2 hts (lw_V q1071 q1073 qs41 q104 q1074) rfl rfl rfl (by decide +kernel) ⟨Nat.le_of_ble_eq_true rfl, Nat.le_of_ble_eq_true rfl⟩) ⟨xPc.blind, va_recv hK (xO_R hW) (ci := 2) (q0 := 0) rfl rfl, F.pre hW hS (.ref (xa E 2) :: [.int 0, .int 9])⟩ rfl rfl hl.1 rfl (lv_room (Nat.le_of_ble_eq_true rfl)) dX2_item_103 ⟨Nat.le_refl _, Nat.le_refl _⟩) hS hlk (hno _)
              · rw [g19, xbt_r] at h
                refine x_backTi (x_runVT (C := RX2) (b := (xa E 2)) (As := [.int 0, .int 9]) (rest := [.ref (xa E (xwc 3 0))]) F.1 (mX2_behind l E σ4 0 9 (some r20) σ21 g19) (cwV 2 hts (lw_V q1071 q1073 qs41 q104 q1074) rfl rfl rfl (by decide +kernel) ⟨Nat.le_of_ble_eq_true rfl, Nat.le_of_ble_eq_true rfl⟩) ⟨xPc.blind, va_recv hK (xO_R hW) (ci := 2) (q0 := 0) rfl rfl, F.pre hW hS (.ref (xa E 2) :: [.int 0, .int 9])⟩ rfl rfl hl.1 rfl (lv_room (Nat.le_of_ble_eq_true rfl)) dX2_item_103 ⟨Nat.le_refl _, Nat.le_refl _⟩) hS (fun H locs hW hS => ?_)
                refine x_putN (C := RX4) (T := TX4) (N := 8) (ci := 4) (ty := .int) F hW hS in_X4 tyX4 tyX4_ok nmX4 rfl (xwc 3 0) 2 3 1 (xw_lt 3 (by decide) 0 (by decide)) (xw_0 3 (by decide)).1 (by decide) (xw_0 3 (by decide)).2.2.2.1 (by decide) (va_Nw.use rfl (F.2.1.2.1 _ q237 rfl)) (fun _ h9 => h9) rfl (by decide +kernel) rfl rfl dX2_item_106 (fun H locs hW hS => ?_)
                refine lv_goto (tgt := 120) hx hb dX2_item_109 (by decide) ?_
                obtain ⟨h1, h2⟩ := Prod.mk.inj (Option.some.inj h); subst h1; subst h2
                exact x_mono xMQ.of (x_vret F hr hlk hW hS dX2_item_120)
            · rw [if_neg c18] at h
              refine lv_tableOut (tgt := 112) hx hb dX2_item_30 (by have := lv_neT (a := 7) c5 rfl; have := lv_neT (a := 8) c10 rfl; have := lv_neT (a := 9) c14 rfl; have := lv_neT (a := 10) c18 rfl; omega) (by decide) ?_
              refine lv_aload_n hx hb dX2_item_112 rfl (lv_at hl 0 rfl) ?_
              refine lv_aload_n hx hb dX2_item_113 rfl (lv_at hl 0 rfl) ?_
              refine va_get (D := xD E) (ci := 2) (v := .int (σ4 4 4)) (C := RX2) (T := TX2) (N := 8) hx hb hts in_X2 hown hK (xO_R hW) 0 rfl rfl 7 (by decide) (hts _ q281) (fun _ h9 => h9) rfl dX2_item_114 ?_
              rcases g22 : fX2_bell σ4 (σ4 4 4) with _ | ⟨_ | r23, σ24⟩
              · rw [g22] at h; cases h
              · rw [g22, xbt_t] at h
                obtain ⟨h1, h2⟩ := Prod.mk.inj (Option.some.inj h); subst h1; subst h2
                exact x_backTl (x_runVT (C := RX2) (b := (xa E 2)) (As := [.int (σ4 4 4)]) (rest := []) F.1 (mX2_bell l E σ4 (σ4 4 4) none σ24 g22) (cwV 1 hts (lw_V q1091 q1093 qs46 q104 q1094) rfl rfl rfl (by decide +kernel) ⟨Nat.le_of_ble_eq_true rfl, Nat.le_of_ble_eq_true rfl⟩) ⟨xPc.blind, va_recv hK (xO_R hW) (ci := 2) (q0 := 0) rfl rfl, F.pre hW hS (.ref (xa E 2) :: [.int (σ4 4 4)])⟩ rfl rfl hl.1 rfl (lv_room (Nat.le_of_ble_eq_true rfl)) dX2_item_117 ⟨Nat.le_refl _, Nat.le_refl _⟩) hS hlk (hno _)
              · rw [g22, xbt_r] at h
                refine x_backTv (x_runVT (C := RX2) (b := (xa E 2)) (As := [.int (σ4 4 4)]) (rest := []) F.1 (mX2_bell l E σ4 (σ4 4 4) (some r23) σ24 g22) (cwV 1 hts (lw_V q1091 q1093 qs46 q104 q1094) rfl rfl rfl (by decide +kernel) ⟨Nat.le_of_ble_eq_true rfl, Nat.le_of_ble_eq_true rfl⟩) ⟨xPc.blind, va_recv hK (xO_R hW) (ci := 2) (q0 := 0) rfl rfl, F.pre hW hS (.ref (xa E 2) :: [.int (σ4 4 4)])⟩ rfl rfl hl.1 rfl (lv_room (Nat.le_of_ble_eq_true rfl)) dX2_item_117 ⟨Nat.le_refl _, Nat.le_refl _⟩) hS (fun H locs hW hS => ?_)
                obtain ⟨h1, h2⟩ := Prod.mk.inj (Option.some.inj h); subst h1; subst h2
                exact x_mono xMQ.of (x_vret F hr hlk hW hS dX2_item_120)
  · rw [if_pos c1] at h
    refine lv_aload_n hx hb dX2_item_9 rfl (lv_at hl 0 rfl) ?_
    refine va_get (D := xD E) (ci := 2) (v := .int (σ 4 4)) (C := RX2) (T := TX2) (N := 8) hx hb hts in_X2 hown hK (xO_R hW) 0 rfl rfl 7 (by decide) (hts _ q281) (fun _ h9 => h9) rfl dX2_item_10 ?_
    refine lv_bipush (v := 10) hx hb dX2_item_13 (by decide) ?_
    refine lv_icmp_gt (tgt := 22) hx hb dX2_item_15 (by decide) (fun c25 => ?_) (fun c25 => ?_)
    · rw [if_pos c25] at h
      refine lv_iconst (v := 0) hx hb dX2_item_22 (by decide) ?_
      rcases g26 : fX2_need σ 0 with _ | ⟨_ | r27, σ28⟩
      · rw [g26] at h; cases h
      · rw [g26, xbt_t] at h
        obtain ⟨h1, h2⟩ := Prod.mk.inj (Option.some.inj h); subst h1; subst h2
        exact x_backTl (x_runVT (C := RX2) (b := (xa E 2)) (As := [.int 0]) (rest := []) F.1 (mX2_need l E σ 0 none σ28 g26) (cwV 1 hts (lw_V q1056 q1058 qs38 q104 q1059) rfl rfl rfl (by decide +kernel) ⟨Nat.le_of_ble_eq_true rfl, Nat.le_of_ble_eq_true rfl⟩) ⟨xPc.blind, va_recv hK (xO_R hW) (ci := 2) (q0 := 0) rfl rfl, F.pre hW hS (.ref (xa E 2) :: [.int 0])⟩ rfl rfl hl.1 rfl (lv_room (Nat.le_of_ble_eq_true rfl)) dX2_item_23 ⟨Nat.le_refl _, Nat.le_refl _⟩) hS hlk (hno _)
      · rw [g26, xbt_r] at h
        refine x_backTv (x_runVT (C := RX2) (b := (xa E 2)) (As := [.int 0]) (rest := []) F.1 (mX2_need l E σ 0 (some r27) σ28 g26) (cwV 1 hts (lw_V q1056 q1058 qs38 q104 q1059) rfl rfl rfl (by decide +kernel) ⟨Nat.le_of_ble_eq_true rfl, Nat.le_of_ble_eq_true rfl⟩) ⟨xPc.blind, va_recv hK (xO_R hW) (ci := 2) (q0 := 0) rfl rfl, F.pre hW hS (.ref (xa E 2) :: [.int 0])⟩ rfl rfl hl.1 rfl (lv_room (Nat.le_of_ble_eq_true rfl)) dX2_item_23 ⟨Nat.le_refl _, Nat.le_refl _⟩) hS (fun H locs hW hS => ?_)
        refine lv_aload_n hx hb dX2_item_26 rfl (lv_at hl 0 rfl) ?_
        refine va_get (D := xD E) (ci := 2) (v := .int (σ28 4 4)) (C := RX2) (T := TX2) (N := 8) hx hb hts in_X2 hown hK (xO_R hW) 0 rfl rfl 7 (by decide) (hts _ q281) (fun _ h9 => h9) rfl dX2_item_27 ?_
        by_cases c29 : (σ28 4 4) = 7
        · rw [if_pos c29] at h
          refine lv_tableIn (tgt := 60) hx hb dX2_item_30 (by rw [c29]; decide) (by rw [c29]; decide) (by rw [c29]; rfl) (by decide) ?_
          refine lv_aload_n hx hb dX2_item_60 rfl (lv_at hl 0 rfl) ?_
          refine va_get (D := xD E) (ci := 2) (v := .ref (xa E (xwc 3 0))) (C := RX2) (T := TX2) (N := 8) hx hb hts in_X2 hown hK (xO_R hW) 0 rfl rfl 2 (by decide) (hts _ q273) (fun _ h9 => h9) rfl dX2_item_61 ?_
          refine va_getN (D := xD E) (ci := 4) (v := .ref (xa E (xwc 3 1))) (C := RX4) (T := TX4) (N := 8) hx hb hts in_X4 hown hK (xO_W hW 3 (by decide)) 0 rfl rfl 0 (by decide) (va_Nw.use rfl (F.2.1.2.1 _ q231 rfl)) (fun _ h9 => h9) rfl dX2_item_64 ?_
          refine lv_iconst (v := 0) hx hb dX2_item_67 (by decide) ?_
          refine x_aald (g := fun j => xa E (xwc 3 (2 + j))) (j := 0) F 4 4 2 (xR_1 hW 3 (by decide)) rfl rfl (x_lit (by decide)) (by decide) dX2_item_68 ?_
          refine lv_aload_n hx hb dX2_item_69 rfl (lv_at hl 0 rfl) ?_
          refine lv_iconst (v := 0) hx hb dX2_item_70 (by decide) ?_
          refine lv_bipush (v := 63) hx hb dX2_item_71 (by decide) ?_
          rcases g30 : fX2_behind σ28 0 63 with _ | ⟨_ | r31, σ32⟩
          · rw [g30] at h; cases h
          · rw [g30, xbt_t] at h
            obtain ⟨h1, h2⟩ := Prod.mk.inj (Option.some.inj h); subst h1; subst h2
            exact x_backTl (x_runVT (C := RX2) (b := (xa E 2)) (As := [.int 0, .int 63]) (rest := [.ref (xa E (xwc 3 (2 + 0)))]) F.1 (mX2_behind l E σ28 0 63 none σ32 g30) (cwV 2 hts (lw_V q1071 q1073 qs41 q104 q1074) rfl rfl rfl (by decide +kernel) ⟨Nat.le_of_ble_eq_true rfl, Nat.le_of_ble_eq_true rfl⟩) ⟨xPc.blind, va_recv hK (xO_R hW) (ci := 2) (q0 := 0) rfl rfl, F.pre hW hS (.ref (xa E 2) :: [.int 0, .int 63])⟩ rfl rfl hl.1 rfl (lv_room (Nat.le_of_ble_eq_true rfl)) dX2_item_73 ⟨Nat.le_refl _, Nat.le_refl _⟩) hS hlk (hno _)
          · rw [g30, xbt_r] at h
            refine x_backTi (x_runVT (C := RX2) (b := (xa E 2)) (As := [.int 0, .int 63]) (rest := [.ref (xa E (xwc 3 (2 + 0)))]) F.1 (mX2_behind l E σ28 0 63 (some r31) σ32 g30) (cwV 2 hts (lw_V q1071 q1073 qs41 q104 q1074) rfl rfl rfl (by decide +kernel) ⟨Nat.le_of_ble_eq_true rfl, Nat.le_of_ble_eq_true rfl⟩) ⟨xPc.blind, va_recv hK (xO_R hW) (ci := 2) (q0 := 0) rfl rfl, F.pre hW hS (.ref (xa E 2) :: [.int 0, .int 63])⟩ rfl rfl hl.1 rfl (lv_room (Nat.le_of_ble_eq_true rfl)) dX2_item_73 ⟨Nat.le_refl _, Nat.le_refl _⟩) hS (fun H locs hW hS => ?_)
            refine lv_iconst (v := 1) hx hb dX2_item_76 (by decide) ?_
            by_cases hi33 : xin r31 64
            · rw [if_pos hi33] at h
              refine x_iast F hW hS (xwc 3 (2 + 0)) 64 3 (fun j => 18 + 64 * 0 + j) (xw_lt 3 (by decide) _ (Nat.lt_of_lt_of_le (Nat.add_lt_add_left (by decide) 2 : 2 + 0 < 2 + 2) (by decide))) (xw_2 3 (by decide) 0 (by decide)).1 (xw_2 3 (by decide) 0 (by decide)).2 (by decide) hi33 dX2_item_77 (fun H locs hW hS => ?_)
              refine lv_goto (tgt := 120) hx hb dX2_item_78 (by decide) ?_
              obtain ⟨h1, h2⟩ := Prod.mk.inj (Option.some.inj h); subst h1; subst h2
              exact x_mono xMQ.of (x_vret F hr hlk hW hS dX2_item_120)
            · rw [if_neg hi33] at h; cases h
        · rw [if_neg c29] at h
          by_cases c34 : (σ28 4 4) = 8
          · rw [if_pos c34] at h
            refine lv_tableIn (tgt := 81) hx hb dX2_item_30 (by rw [c34]; decide) (by rw [c34]; decide) (by rw [c34]; rfl) (by decide) ?_
            refine lv_aload_n hx hb dX2_item_81 rfl (lv_at hl 0 rfl) ?_
            rcases g35 : fX2_thick σ28 with _ | ⟨_ | r36, σ37⟩
            · rw [g35] at h; cases h
            · rw [g35, xbt_t] at h
              obtain ⟨h1, h2⟩ := Prod.mk.inj (Option.some.inj h); subst h1; subst h2
              exact x_backTl (x_runVT (C := RX2) (b := (xa E 2)) (As := []) (rest := []) F.1 (mX2_thick l E σ28 none σ37 g35) (cwV 0 hts (lw_V q1079 q1081 qs43 q104 q1082) rfl rfl rfl (by decide +kernel) ⟨Nat.le_of_ble_eq_true rfl, Nat.le_of_ble_eq_true rfl⟩) ⟨xPc.blind, va_recv hK (xO_R hW) (ci := 2) (q0 := 0) rfl rfl, F.pre hW hS (.ref (xa E 2) :: [])⟩ rfl rfl hl.1 rfl (lv_room (Nat.le_of_ble_eq_true rfl)) dX2_item_82 ⟨Nat.le_refl _, Nat.le_refl _⟩) hS hlk (hno _)
            · rw [g35, xbt_r] at h
              refine x_backTv (x_runVT (C := RX2) (b := (xa E 2)) (As := []) (rest := []) F.1 (mX2_thick l E σ28 (some r36) σ37 g35) (cwV 0 hts (lw_V q1079 q1081 qs43 q104 q1082) rfl rfl rfl (by decide +kernel) ⟨Nat.le_of_ble_eq_true rfl, Nat.le_of_ble_eq_true rfl⟩) ⟨xPc.blind, va_recv hK (xO_R hW) (ci := 2) (q0 := 0) rfl rfl, F.pre hW hS (.ref (xa E 2) :: [])⟩ rfl rfl hl.1 rfl (lv_room (Nat.le_of_ble_eq_true rfl)) dX2_item_82 ⟨Nat.le_refl _, Nat.le_refl _⟩) hS (fun H locs hW hS => ?_)
              refine lv_goto (tgt := 120) hx hb dX2_item_85 (by decide) ?_
              obtain ⟨h1, h2⟩ := Prod.mk.inj (Option.some.inj h); subst h1; subst h2
              exact x_mono xMQ.of (x_vret F hr hlk hW hS dX2_item_120)
          · rw [if_neg c34] at h
            by_cases c38 : (σ28 4 4) = 9
            · rw [if_pos c38] at h
              refine lv_tableIn (tgt := 88) hx hb dX2_item_30 (by rw [c38]; decide) (by rw [c38]; decide) (by rw [c38]; rfl) (by decide) ?_
              refine lv_aload_n hx hb dX2_item_88 rfl (lv_at hl 0 rfl) ?_
              rcases g39 : fX2_hunter σ28 with _ | ⟨_ | r40, σ41⟩
              · rw [g39] at h; cases h
              · rw [g39, xbt_t] at h
                obtain ⟨h1, h2⟩ := Prod.mk.inj (Option.some.inj h); subst h1; subst h2
                exact x_backTl (x_runVT (C := RX2) (b := (xa E 2)) (As := []) (rest := []) F.1 (mX2_hunter l E σ28 none σ41 g39) (cwV 0 hts (lw_V q1083 q1085 qs44 q104 q1086) rfl rfl rfl (by decide +kernel) ⟨Nat.le_of_ble_eq_true rfl, Nat.le_of_ble_eq_true rfl⟩) ⟨xPc.blind, va_recv hK (xO_R hW) (ci := 2) (q0 := 0) rfl rfl, F.pre hW hS (.ref (xa E 2) :: [])⟩ rfl rfl hl.1 rfl (lv_room (Nat.le_of_ble_eq_true rfl)) dX2_item_89 ⟨Nat.le_refl _, Nat.le_refl _⟩) hS hlk (hno _)
              · rw [g39, xbt_r] at h
                refine x_backTv (x_runVT (C := RX2) (b := (xa E 2)) (As := []) (rest := []) F.1 (mX2_hunter l E σ28 (some r40) σ41 g39) (cwV 0 hts (lw_V q1083 q1085 qs44 q104 q1086) rfl rfl rfl (by decide +kernel) ⟨Nat.le_of_ble_eq_true rfl, Nat.le_of_ble_eq_true rfl⟩) ⟨xPc.blind, va_recv hK (xO_R hW) (ci := 2) (q0 := 0) rfl rfl, F.pre hW hS (.ref (xa E 2) :: [])⟩ rfl rfl hl.1 rfl (lv_room (Nat.le_of_ble_eq_true rfl)) dX2_item_89 ⟨Nat.le_refl _, Nat.le_refl _⟩) hS (fun H locs hW hS => ?_)
                refine lv_goto (tgt := 120) hx hb dX2_item_92 (by decide) ?_
                obtain ⟨h1, h2⟩ := Prod.mk.inj (Option.some.inj h); subst h1; subst h2
                exact x_mono xMQ.of (x_vret F hr hlk hW hS dX2_item_120)
            · rw [if_neg c38] at h
              by_cases c42 : (σ28 4 4) = 10
              · rw [if_pos c42] at h
                refine lv_tableIn (tgt := 95) hx hb dX2_item_30 (by rw [c42]; decide) (by rw [c42]; decide) (by rw [c42]; rfl) (by decide) ?_
                refine lv_aload_n hx hb dX2_item_95 rfl (lv_at hl 0 rfl) ?_
                refine va_get (D := xD E) (ci := 2) (v := .ref (xa E (xwc 3 0))) (C := RX2) (T := TX2) (N := 8) hx hb hts in_X2 hown hK (xO_R hW) 0 rfl rfl 2 (by decide) (hts _ q273) (fun _ h9 => h9) rfl dX2_item_96 ?_
                refine lv_aload_n hx hb dX2_item_99 rfl (lv_at hl 0 rfl) ?_
                refine lv_iconst (v := 0) hx hb dX2_item_100 (by decide) ?_
                refine lv_bipush (v := 9) hx hb dX2_item_101 (by decide) ?_
                rcases g43 : fX2_behind σ28 0 9 with _ | ⟨_ | r44, σ45⟩
                · rw [g43] at h; cases h
                · rw [g43, xbt_t] at h
                  obtain ⟨h1, h2⟩ := Prod.mk.inj (Option.some.inj h); subst h1; subst h2
                  exact x_backTl (x_runVT (C := RX2) (b := (xa E 2)) (As := [.int 0, .int 9]) (rest := [.ref (xa E (xwc 3 0))]) F.1 (mX2_behind l E σ28 0 9 none σ45 g43) (cwV 2 hts (lw_V q1071 q1073 qs41 q104 q1074) rfl rfl rfl (by decide +kernel) ⟨Nat.le_of_ble_eq_true rfl, Nat.le_of_ble_eq_true rfl⟩) ⟨xPc.blind, va_recv hK (xO_R hW) (ci := 2) (q0 := 0) rfl rfl, F.pre hW hS (.ref (xa E 2) :: [.int 0, .int 9])⟩ rfl rfl hl.1 rfl (lv_room (Nat.le_of_ble_eq_true rfl)) dX2_item_103 ⟨Nat.le_refl _, Nat.le_refl _⟩) hS hlk (hno _)
                · rw [g43, xbt_r] at h
                  refine x_backTi (x_runVT (C := RX2) (b := (xa E 2)) (As := [.int 0, .int 9]) (rest := [.ref (xa E (xwc 3 0))]) F.1 (mX2_behind l E σ28 0 9 (some r44) σ45 g43) (cwV 2 hts (lw_V q1071 q1073 qs41 q104 q1074) rfl rfl rfl (by decide +kernel) ⟨Nat.le_of_ble_eq_true rfl, Nat.le_of_ble_eq_true rfl⟩) ⟨xPc.blind, va_recv hK (xO_R hW) (ci := 2) (q0 := 0) rfl rfl, F.pre hW hS (.ref (xa E 2) :: [.int 0, .int 9])⟩ rfl rfl hl.1 rfl (lv_room (Nat.le_of_ble_eq_true rfl)) dX2_item_103 ⟨Nat.le_refl _, Nat.le_refl _⟩) hS (fun H locs hW hS => ?_)
                  refine x_putN (C := RX4) (T := TX4) (N := 8) (ci := 4) (ty := .int) F hW hS in_X4 tyX4 tyX4_ok nmX4 rfl (xwc 3 0) 2 3 1 (xw_lt 3 (by decide) 0 (by decide)) (xw_0 3 (by decide)).1 (by decide) (xw_0 3 (by decide)).2.2.2.1 (by decide) (va_Nw.use rfl (F.2.1.2.1 _ q237 rfl)) (fun _ h9 => h9) rfl (by decide +kernel) rfl rfl dX2_item_106 (fun H locs hW hS => ?_)
                  refine lv_goto (tgt := 120) hx hb dX2_item_109 (by decide) ?_
                  obtain ⟨h1, h2⟩ := Prod.mk.inj (Option.some.inj h); subst h1; subst h2
                  exact x_mono xMQ.of (x_vret F hr hlk hW hS dX2_item_120)
              · rw [if_neg c42] at h
                refine lv_tableOut (tgt := 112) hx hb dX2_item_30 (by have := lv_neT (a := 7) c29 rfl; have := lv_neT (a := 8) c34 rfl; have := lv_neT (a := 9) c38 rfl; have := lv_neT (a := 10) c42 rfl; omega) (by decide) ?_
                refine lv_aload_n hx hb dX2_item_112 rfl (lv_at hl 0 rfl) ?_
                refine lv_aload_n hx hb dX2_item_113 rfl (lv_at hl 0 rfl) ?_
                refine va_get (D := xD E) (ci := 2) (v := .int (σ28 4 4)) (C := RX2) (T := TX2) (N := 8) hx hb hts in_X2 hown hK (xO_R hW) 0 rfl rfl 7 (by decide) (hts _ q281) (fun _ h9 => h9) rfl dX2_item_114 ?_
                rcases g46 : fX2_bell σ28 (σ28 4 4) with _ | ⟨_ | r47, σ48⟩
                · rw [g46] at h; cases h
                · rw [g46, xbt_t] at h
                  obtain ⟨h1, h2⟩ := Prod.mk.inj (Option.some.inj h); subst h1; subst h2
                  exact x_backTl (x_runVT (C := RX2) (b := (xa E 2)) (As := [.int (σ28 4 4)]) (rest := []) F.1 (mX2_bell l E σ28 (σ28 4 4) none σ48 g46) (cwV 1 hts (lw_V q1091 q1093 qs46 q104 q1094) rfl rfl rfl (by decide +kernel) ⟨Nat.le_of_ble_eq_true rfl, Nat.le_of_ble_eq_true rfl⟩) ⟨xPc.blind, va_recv hK (xO_R hW) (ci := 2) (q0 := 0) rfl rfl, F.pre hW hS (.ref (xa E 2) :: [.int (σ28 4 4)])⟩ rfl rfl hl.1 rfl (lv_room (Nat.le_of_ble_eq_true rfl)) dX2_item_117 ⟨Nat.le_refl _, Nat.le_refl _⟩) hS hlk (hno _)
                · rw [g46, xbt_r] at h
                  refine x_backTv (x_runVT (C := RX2) (b := (xa E 2)) (As := [.int (σ28 4 4)]) (rest := []) F.1 (mX2_bell l E σ28 (σ28 4 4) (some r47) σ48 g46) (cwV 1 hts (lw_V q1091 q1093 qs46 q104 q1094) rfl rfl rfl (by decide +kernel) ⟨Nat.le_of_ble_eq_true rfl, Nat.le_of_ble_eq_true rfl⟩) ⟨xPc.blind, va_recv hK (xO_R hW) (ci := 2) (q0 := 0) rfl rfl, F.pre hW hS (.ref (xa E 2) :: [.int (σ28 4 4)])⟩ rfl rfl hl.1 rfl (lv_room (Nat.le_of_ble_eq_true rfl)) dX2_item_117 ⟨Nat.le_refl _, Nat.le_refl _⟩) hS (fun H locs hW hS => ?_)
                  obtain ⟨h1, h2⟩ := Prod.mk.inj (Option.some.inj h); subst h1; subst h2
                  exact x_mono xMQ.of (x_vret F hr hlk hW hS dX2_item_120)
    · rw [if_neg c25] at h
      refine lv_iconst (v := 1) hx hb dX2_item_18 (by decide) ?_
      refine lv_goto (tgt := 23) hx hb dX2_item_19 (by decide) ?_
      rcases g49 : fX2_need σ 1 with _ | ⟨_ | r50, σ51⟩
      · rw [g49] at h; cases h
      · rw [g49, xbt_t] at h
        obtain ⟨h1, h2⟩ := Prod.mk.inj (Option.some.inj h); subst h1; subst h2
        exact x_backTl (x_runVT (C := RX2) (b := (xa E 2)) (As := [.int 1]) (rest := []) F.1 (mX2_need l E σ 1 none σ51 g49) (cwV 1 hts (lw_V q1056 q1058 qs38 q104 q1059) rfl rfl rfl (by decide +kernel) ⟨Nat.le_of_ble_eq_true rfl, Nat.le_of_ble_eq_true rfl⟩) ⟨xPc.blind, va_recv hK (xO_R hW) (ci := 2) (q0 := 0) rfl rfl, F.pre hW hS (.ref (xa E 2) :: [.int 1])⟩ rfl rfl hl.1 rfl (lv_room (Nat.le_of_ble_eq_true rfl)) dX2_item_23 ⟨Nat.le_refl _, Nat.le_refl _⟩) hS hlk (hno _)
      · rw [g49, xbt_r] at h
        refine x_backTv (x_runVT (C := RX2) (b := (xa E 2)) (As := [.int 1]) (rest := []) F.1 (mX2_need l E σ 1 (some r50) σ51 g49) (cwV 1 hts (lw_V q1056 q1058 qs38 q104 q1059) rfl rfl rfl (by decide +kernel) ⟨Nat.le_of_ble_eq_true rfl, Nat.le_of_ble_eq_true rfl⟩) ⟨xPc.blind, va_recv hK (xO_R hW) (ci := 2) (q0 := 0) rfl rfl, F.pre hW hS (.ref (xa E 2) :: [.int 1])⟩ rfl rfl hl.1 rfl (lv_room (Nat.le_of_ble_eq_true rfl)) dX2_item_23 ⟨Nat.le_refl _, Nat.le_refl _⟩) hS (fun H locs hW hS => ?_)
        refine lv_aload_n hx hb dX2_item_26 rfl (lv_at hl 0 rfl) ?_
        refine va_get (D := xD E) (ci := 2) (v := .int (σ51 4 4)) (C := RX2) (T := TX2) (N := 8) hx hb hts in_X2 hown hK (xO_R hW) 0 rfl rfl 7 (by decide) (hts _ q281) (fun _ h9 => h9) rfl dX2_item_27 ?_
        by_cases c52 : (σ51 4 4) = 7
        · rw [if_pos c52] at h
          refine lv_tableIn (tgt := 60) hx hb dX2_item_30 (by rw [c52]; decide) (by rw [c52]; decide) (by rw [c52]; rfl) (by decide) ?_
          refine lv_aload_n hx hb dX2_item_60 rfl (lv_at hl 0 rfl) ?_
          refine va_get (D := xD E) (ci := 2) (v := .ref (xa E (xwc 3 0))) (C := RX2) (T := TX2) (N := 8) hx hb hts in_X2 hown hK (xO_R hW) 0 rfl rfl 2 (by decide) (hts _ q273) (fun _ h9 => h9) rfl dX2_item_61 ?_
          refine va_getN (D := xD E) (ci := 4) (v := .ref (xa E (xwc 3 1))) (C := RX4) (T := TX4) (N := 8) hx hb hts in_X4 hown hK (xO_W hW 3 (by decide)) 0 rfl rfl 0 (by decide) (va_Nw.use rfl (F.2.1.2.1 _ q231 rfl)) (fun _ h9 => h9) rfl dX2_item_64 ?_
          refine lv_iconst (v := 0) hx hb dX2_item_67 (by decide) ?_
          refine x_aald (g := fun j => xa E (xwc 3 (2 + j))) (j := 0) F 4 4 2 (xR_1 hW 3 (by decide)) rfl rfl (x_lit (by decide)) (by decide) dX2_item_68 ?_
          refine lv_aload_n hx hb dX2_item_69 rfl (lv_at hl 0 rfl) ?_
          refine lv_iconst (v := 0) hx hb dX2_item_70 (by decide) ?_
          refine lv_bipush (v := 63) hx hb dX2_item_71 (by decide) ?_
          rcases g53 : fX2_behind σ51 0 63 with _ | ⟨_ | r54, σ55⟩
          · rw [g53] at h; cases h
          · rw [g53, xbt_t] at h
            obtain ⟨h1, h2⟩ := Prod.mk.inj (Option.some.inj h); subst h1; subst h2
            exact x_backTl (x_runVT (C := RX2) (b := (xa E 2)) (As := [.int 0, .int 63]) (rest := [.ref (xa E (xwc 3 (2 + 0)))]) F.1 (mX2_behind l E σ51 0 63 none σ55 g53) (cwV 2 hts (lw_V q1071 q1073 qs41 q104 q1074) rfl rfl rfl (by decide +kernel) ⟨Nat.le_of_ble_eq_true rfl, Nat.le_of_ble_eq_true rfl⟩) ⟨xPc.blind, va_recv hK (xO_R hW) (ci := 2) (q0 := 0) rfl rfl, F.pre hW hS (.ref (xa E 2) :: [.int 0, .int 63])⟩ rfl rfl hl.1 rfl (lv_room (Nat.le_of_ble_eq_true rfl)) dX2_item_73 ⟨Nat.le_refl _, Nat.le_refl _⟩) hS hlk (hno _)
          · rw [g53, xbt_r] at h
            refine x_backTi (x_runVT (C := RX2) (b := (xa E 2)) (As := [.int 0, .int 63]) (rest := [.ref (xa E (xwc 3 (2 + 0)))]) F.1 (mX2_behind l E σ51 0 63 (some r54) σ55 g53) (cwV 2 hts (lw_V q1071 q1073 qs41 q104 q1074) rfl rfl rfl (by decide +kernel) ⟨Nat.le_of_ble_eq_true rfl, Nat.le_of_ble_eq_true rfl⟩) ⟨xPc.blind, va_recv hK (xO_R hW) (ci := 2) (q0 := 0) rfl rfl, F.pre hW hS (.ref (xa E 2) :: [.int 0, .int 63])⟩ rfl rfl hl.1 rfl (lv_room (Nat.le_of_ble_eq_true rfl)) dX2_item_73 ⟨Nat.le_refl _, Nat.le_refl _⟩) hS (fun H locs hW hS => ?_)
            refine lv_iconst (v := 1) hx hb dX2_item_76 (by decide) ?_
            by_cases hi56 : xin r54 64
            · rw [if_pos hi56] at h
              refine x_iast F hW hS (xwc 3 (2 + 0)) 64 3 (fun j => 18 + 64 * 0 + j) (xw_lt 3 (by decide) _ (Nat.lt_of_lt_of_le (Nat.add_lt_add_left (by decide) 2 : 2 + 0 < 2 + 2) (by decide))) (xw_2 3 (by decide) 0 (by decide)).1 (xw_2 3 (by decide) 0 (by decide)).2 (by decide) hi56 dX2_item_77 (fun H locs hW hS => ?_)
              refine lv_goto (tgt := 120) hx hb dX2_item_78 (by decide) ?_
              obtain ⟨h1, h2⟩ := Prod.mk.inj (Option.some.inj h); subst h1; subst h2
              exact x_mono xMQ.of (x_vret F hr hlk hW hS dX2_item_120)
            · rw [if_neg hi56] at h; cases h
        · rw [if_neg c52] at h
          by_cases c57 : (σ51 4 4) = 8
          · rw [if_pos c57] at h
            refine lv_tableIn (tgt := 81) hx hb dX2_item_30 (by rw [c57]; decide) (by rw [c57]; decide) (by rw [c57]; rfl) (by decide) ?_
            refine lv_aload_n hx hb dX2_item_81 rfl (lv_at hl 0 rfl) ?_
            rcases g58 : fX2_thick σ51 with _ | ⟨_ | r59, σ60⟩
            · rw [g58] at h; cases h
            · rw [g58, xbt_t] at h
              obtain ⟨h1, h2⟩ := Prod.mk.inj (Option.some.inj h); subst h1; subst h2
              exact x_backTl (x_runVT (C := RX2) (b := (xa E 2)) (As := []) (rest := []) F.1 (mX2_thick l E σ51 none σ60 g58) (cwV 0 hts (lw_V q1079 q1081 qs43 q104 q1082) rfl rfl rfl (by decide +kernel) ⟨Nat.le_of_ble_eq_true rfl, Nat.le_of_ble_eq_true rfl⟩) ⟨xPc.blind, va_recv hK (xO_R hW) (ci := 2) (q0 := 0) rfl rfl, F.pre hW hS (.ref (xa E 2) :: [])⟩ rfl rfl hl.1 rfl (lv_room (Nat.le_of_ble_eq_true rfl)) dX2_item_82 ⟨Nat.le_refl _, Nat.le_refl _⟩) hS hlk (hno _)
            · rw [g58, xbt_r] at h
              refine x_backTv (x_runVT (C := RX2) (b := (xa E 2)) (As := []) (rest := []) F.1 (mX2_thick l E σ51 (some r59) σ60 g58) (cwV 0 hts (lw_V q1079 q1081 qs43 q104 q1082) rfl rfl rfl (by decide +kernel) ⟨Nat.le_of_ble_eq_true rfl, Nat.le_of_ble_eq_true rfl⟩) ⟨xPc.blind, va_recv hK (xO_R hW) (ci := 2) (q0 := 0) rfl rfl, F.pre hW hS (.ref (xa E 2) :: [])⟩ rfl rfl hl.1 rfl (lv_room (Nat.le_of_ble_eq_true rfl)) dX2_item_82 ⟨Nat.le_refl _, Nat.le_refl _⟩) hS (fun H locs hW hS => ?_)
              refine lv_goto (tgt := 120) hx hb dX2_item_85 (by decide) ?_
              obtain ⟨h1, h2⟩ := Prod.mk.inj (Option.some.inj h); subst h1; subst h2
              exact x_mono xMQ.of (x_vret F hr hlk hW hS dX2_item_120)
          · rw [if_neg c57] at h
            by_cases c61 : (σ51 4 4) = 9
            · rw [if_pos c61] at h
              refine lv_tableIn (tgt := 88) hx hb dX2_item_30 (by rw [c61]; decide) (by rw [c61]; decide) (by rw [c61]; rfl) (by decide) ?_
              refine lv_aload_n hx hb dX2_item_88 rfl (lv_at hl 0 rfl) ?_
              rcases g62 : fX2_hunter σ51 with _ | ⟨_ | r63, σ64⟩
              · rw [g62] at h; cases h
              · rw [g62, xbt_t] at h
                obtain ⟨h1, h2⟩ := Prod.mk.inj (Option.some.inj h); subst h1; subst h2
                exact x_backTl (x_runVT (C := RX2) (b := (xa E 2)) (As := []) (rest := []) F.1 (mX2_hunter l E σ51 none σ64 g62) (cwV 0 hts (lw_V q1083 q1085 qs44 q104 q1086) rfl rfl rfl (by decide +kernel) ⟨Nat.le_of_ble_eq_true rfl, Nat.le_of_ble_eq_true rfl⟩) ⟨xPc.blind, va_recv hK (xO_R hW) (ci := 2) (q0 := 0) rfl rfl, F.pre hW hS (.ref (xa E 2) :: [])⟩ rfl rfl hl.1 rfl (lv_room (Nat.le_of_ble_eq_true rfl)) dX2_item_89 ⟨Nat.le_refl _, Nat.le_refl _⟩) hS hlk (hno _)
              · rw [g62, xbt_r] at h
                refine x_backTv (x_runVT (C := RX2) (b := (xa E 2)) (As := []) (rest := []) F.1 (mX2_hunter l E σ51 (some r63) σ64 g62) (cwV 0 hts (lw_V q1083 q1085 qs44 q104 q1086) rfl rfl rfl (by decide +kernel) ⟨Nat.le_of_ble_eq_true rfl, Nat.le_of_ble_eq_true rfl⟩) ⟨xPc.blind, va_recv hK (xO_R hW) (ci := 2) (q0 := 0) rfl rfl, F.pre hW hS (.ref (xa E 2) :: [])⟩ rfl rfl hl.1 rfl (lv_room (Nat.le_of_ble_eq_true rfl)) dX2_item_89 ⟨Nat.le_refl _, Nat.le_refl _⟩) hS (fun H locs hW hS => ?_)
                refine lv_goto (tgt := 120) hx hb dX2_item_92 (by decide) ?_
                obtain ⟨h1, h2⟩ := Prod.mk.inj (Option.some.inj h); subst h1; subst h2
                exact x_mono xMQ.of (x_vret F hr hlk hW hS dX2_item_120)
            · rw [if_neg c61] at h
              by_cases c65 : (σ51 4 4) = 10
              · rw [if_pos c65] at h
                refine lv_tableIn (tgt := 95) hx hb dX2_item_30 (by rw [c65]; decide) (by rw [c65]; decide) (by rw [c65]; rfl) (by decide) ?_
                refine lv_aload_n hx hb dX2_item_95 rfl (lv_at hl 0 rfl) ?_
                refine va_get (D := xD E) (ci := 2) (v := .ref (xa E (xwc 3 0))) (C := RX2) (T := TX2) (N := 8) hx hb hts in_X2 hown hK (xO_R hW) 0 rfl rfl 2 (by decide) (hts _ q273) (fun _ h9 => h9) rfl dX2_item_96 ?_
                refine lv_aload_n hx hb dX2_item_99 rfl (lv_at hl 0 rfl) ?_
                refine lv_iconst (v := 0) hx hb dX2_item_100 (by decide) ?_
                refine lv_bipush (v := 9) hx hb dX2_item_101 (by decide) ?_
                rcases g66 : fX2_behind σ51 0 9 with _ | ⟨_ | r67, σ68⟩
                · rw [g66] at h; cases h
                · rw [g66, xbt_t] at h
                  obtain ⟨h1, h2⟩ := Prod.mk.inj (Option.some.inj h); subst h1; subst h2
                  exact x_backTl (x_runVT (C := RX2) (b := (xa E 2)) (As := [.int 0, .int 9]) (rest := [.ref (xa E (xwc 3 0))]) F.1 (mX2_behind l E σ51 0 9 none σ68 g66) (cwV 2 hts (lw_V q1071 q1073 qs41 q104 q1074) rfl rfl rfl (by decide +kernel) ⟨Nat.le_of_ble_eq_true rfl, Nat.le_of_ble_eq_true rfl⟩) ⟨xPc.blind, va_recv hK (xO_R hW) (ci := 2) (q0 := 0) rfl rfl, F.pre hW hS (.ref (xa E 2) :: [.int 0, .int 9])⟩ rfl rfl hl.1 rfl (lv_room (Nat.le_of_ble_eq_true rfl)) dX2_item_103 ⟨Nat.le_refl _, Nat.le_refl _⟩) hS hlk (hno _)
                · rw [g66, xbt_r] at h
                  refine x_backTi (x_runVT (C := RX2) (b := (xa E 2)) (As := [.int 0, .int 9]) (rest := [.ref (xa E (xwc 3 0))]) F.1 (mX2_behind l E σ51 0 9 (some r67) σ68 g66) (cwV 2 hts (lw_V q1071 q1073 qs41 q104 q1074) rfl rfl rfl (by decide +kernel) ⟨Nat.le_of_ble_eq_true rfl, Nat.le_of_ble_eq_true rfl⟩) ⟨xPc.blind, va_recv hK (xO_R hW) (ci := 2) (q0 := 0) rfl rfl, F.pre hW hS (.ref (xa E 2) :: [.int 0, .int 9])⟩ rfl rfl hl.1 rfl (lv_room (Nat.le_of_ble_eq_true rfl)) dX2_item_103 ⟨Nat.le_refl _, Nat.le_refl _⟩) hS (fun H locs hW hS => ?_)
                  refine x_putN (C := RX4) (T := TX4) (N := 8) (ci := 4) (ty := .int) F hW hS in_X4 tyX4 tyX4_ok nmX4 rfl (xwc 3 0) 2 3 1 (xw_lt 3 (by decide) 0 (by decide)) (xw_0 3 (by decide)).1 (by decide) (xw_0 3 (by decide)).2.2.2.1 (by decide) (va_Nw.use rfl (F.2.1.2.1 _ q237 rfl)) (fun _ h9 => h9) rfl (by decide +kernel) rfl rfl dX2_item_106 (fun H locs hW hS => ?_)
                  refine lv_goto (tgt := 120) hx hb dX2_item_109 (by decide) ?_
                  obtain ⟨h1, h2⟩ := Prod.mk.inj (Option.some.inj h); subst h1; subst h2
                  exact x_mono xMQ.of (x_vret F hr hlk hW hS dX2_item_120)
              · rw [if_neg c65] at h
                refine lv_tableOut (tgt := 112) hx hb dX2_item_30 (by have := lv_neT (a := 7) c52 rfl; have := lv_neT (a := 8) c57 rfl; have := lv_neT (a := 9) c61 rfl; have := lv_neT (a := 10) c65 rfl; omega) (by decide) ?_
                refine lv_aload_n hx hb dX2_item_112 rfl (lv_at hl 0 rfl) ?_
                refine lv_aload_n hx hb dX2_item_113 rfl (lv_at hl 0 rfl) ?_
                refine va_get (D := xD E) (ci := 2) (v := .int (σ51 4 4)) (C := RX2) (T := TX2) (N := 8) hx hb hts in_X2 hown hK (xO_R hW) 0 rfl rfl 7 (by decide) (hts _ q281) (fun _ h9 => h9) rfl dX2_item_114 ?_
                rcases g69 : fX2_bell σ51 (σ51 4 4) with _ | ⟨_ | r70, σ71⟩
                · rw [g69] at h; cases h
                · rw [g69, xbt_t] at h
                  obtain ⟨h1, h2⟩ := Prod.mk.inj (Option.some.inj h); subst h1; subst h2
                  exact x_backTl (x_runVT (C := RX2) (b := (xa E 2)) (As := [.int (σ51 4 4)]) (rest := []) F.1 (mX2_bell l E σ51 (σ51 4 4) none σ71 g69) (cwV 1 hts (lw_V q1091 q1093 qs46 q104 q1094) rfl rfl rfl (by decide +kernel) ⟨Nat.le_of_ble_eq_true rfl, Nat.le_of_ble_eq_true rfl⟩) ⟨xPc.blind, va_recv hK (xO_R hW) (ci := 2) (q0 := 0) rfl rfl, F.pre hW hS (.ref (xa E 2) :: [.int (σ51 4 4)])⟩ rfl rfl hl.1 rfl (lv_room (Nat.le_of_ble_eq_true rfl)) dX2_item_117 ⟨Nat.le_refl _, Nat.le_refl _⟩) hS hlk (hno _)
                · rw [g69, xbt_r] at h
                  refine x_backTv (x_runVT (C := RX2) (b := (xa E 2)) (As := [.int (σ51 4 4)]) (rest := []) F.1 (mX2_bell l E σ51 (σ51 4 4) (some r70) σ71 g69) (cwV 1 hts (lw_V q1091 q1093 qs46 q104 q1094) rfl rfl rfl (by decide +kernel) ⟨Nat.le_of_ble_eq_true rfl, Nat.le_of_ble_eq_true rfl⟩) ⟨xPc.blind, va_recv hK (xO_R hW) (ci := 2) (q0 := 0) rfl rfl, F.pre hW hS (.ref (xa E 2) :: [.int (σ51 4 4)])⟩ rfl rfl hl.1 rfl (lv_room (Nat.le_of_ble_eq_true rfl)) dX2_item_117 ⟨Nat.le_refl _, Nat.le_refl _⟩) hS (fun H locs hW hS => ?_)
                  obtain ⟨h1, h2⟩ := Prod.mk.inj (Option.some.inj h); subst h1; subst h2
                  exact x_mono xMQ.of (x_vret F hr hlk hW hS dX2_item_120)
/-! WildBells$Reader.whole()I -/
def gX2_whole_15  : Nat → Int32 → xM → Option (Option Int32 × xM)
  | 0, _, _ => none
  | n + 1, x1, σ => if (σ 4 3) = 3 then (xbt (fX2_next σ) (fun r9 σ10 => xbt (fX2_item σ10) (fun r12 σ13 => gX2_whole_15 n (x1 + 1) σ13))) else (some (some x1, σ))
def fX2_whole (σ : xM) : Option (Option Int32 × xM) :=
  xbt (fX2_next (xup σ 4 1 0)) (fun r2 σ3 => xbt (fX2_item σ3) (fun r5 σ6 => xbt (gX2_whole_15 xfu 1 σ6) (fun q15 σ16 => if (σ16 4 3) = 0 then (xbt (fX2_need σ16 1) (fun r22 σ23 => some (some q15, σ23))) else (xbt (fX2_need σ16 0) (fun r19 σ20 => some (some q15, σ20))))))
set_option maxHeartbeats 4000000 in
theorem lX2_whole_15 {p : Program} {l : Launch} {e : Env} {s : State} {m : MethodId} {av : Array Value} {below : List Frame} {meth : Method} {c : Code} {E : xE} {Qc : Array Value → State → Outcome → State → Prop} (F : xFx p m c cX2_whole 2 s av RX2 E) (hlk : meth.locks = false) (hno : ∀ pc, ∀ x ∈ c.exceptionTable.toList, covers x pc = false) : ∀ (n : Nat) (x1 : Int32) (σ : xM) (o : Option Int32) (σ' : xM), gX2_whole_15 n x1 σ = some (o, σ') → ∀ (H : Heap) (locs : List Loc) (ls : Array Slot), xW E σ H → va_S (xA E) s.heap H locs → lv_has ls 2 [(1, .int x1), (0, .ref (xa E 2))] → (o = none → Qc = xQc E (.threw (xa E 3)) σ') → (∀ q, o = some q → ∀ (H : Heap) (locs : List Loc) (ls : Array Slot), xW E σ' H → va_S (xA E) s.heap H locs → lv_has ls 2 [(1, .int q), (0, .ref (xa E 2))] → W p l e ({ frames := 12, cells := 0, slots := 0, locals := 261 } : Room) s m av below meth c H locs 0 0 (xMQ below Qc av s (xA E)) (F0 m 37 ls [])) → W p l e ({ frames := 12, cells := 0, slots := 0, locals := 261 } : Room) s m av below meth c H locs 0 0 (xMQ below Qc av s (xA E)) (F0 m 15 ls []) := by
  obtain ⟨hx, hb, hml, hown, hts⟩ := id F.1
  have hK := F.2.1.1
  intro n
  induction n with
  | zero =>
    intro x1 σ o σ' h
    cases h
  | succ n ih =>
    intro x1 σ o σ' h H locs ls hW hS hl ht kk
    rw [gX2_whole_15] at h
    refine lv_aload_n hx hb dX2_whole_15 rfl (lv_at hl 1 rfl) ?_
    refine va_get (D := xD E) (ci := 2) (v := .int (σ 4 3)) (C := RX2) (T := TX2) (N := 8) hx hb hts in_X2 hown hK (xO_R hW) 0 rfl rfl 6 (by decide) (hts _ q280) (fun _ h9 => h9) rfl dX2_whole_16 ?_
    refine lv_iconst (v := 3) hx hb dX2_whole_19 (by decide) ?_
    refine lv_icmp_ne (tgt := 37) hx hb dX2_whole_20 (by decide) (fun c7 => ?_) (fun c7 => ?_)
    · rw [if_neg c7] at h
      obtain ⟨h1, h2⟩ := Prod.mk.inj (Option.some.inj h); subst h1; subst h2
      exact kk _ rfl _ _ _ hW hS (lv_sub hl [0, 1] rfl)
    · rw [if_pos c7] at h
      refine lv_aload_n hx hb dX2_whole_23 rfl (lv_at hl 1 rfl) ?_
      rcases g8 : fX2_next σ with _ | ⟨_ | r9, σ10⟩
      · rw [g8] at h; cases h
      · rw [g8, xbt_t] at h
        obtain ⟨h1, h2⟩ := Prod.mk.inj (Option.some.inj h); subst h1; subst h2
        rw [ht rfl]
        exact x_backTl (x_runVT (C := RX2) (b := (xa E 2)) (As := []) (rest := []) F.1 (mX2_next l E σ none σ10 g8) (cwV 0 hts (lw_V q995 q997 qs34 q104 q998) rfl rfl rfl (by decide +kernel) ⟨Nat.le_of_ble_eq_true rfl, Nat.le_of_ble_eq_true rfl⟩) ⟨xPc.blind, va_recv hK (xO_R hW) (ci := 2) (q0 := 0) rfl rfl, F.pre hW hS (.ref (xa E 2) :: [])⟩ rfl rfl hl.1 rfl (lv_room (Nat.le_of_ble_eq_true rfl)) dX2_whole_24 ⟨Nat.le_refl _, Nat.le_refl _⟩) hS hlk (hno _)
      · rw [g8, xbt_r] at h
        refine x_backTv (x_runVT (C := RX2) (b := (xa E 2)) (As := []) (rest := []) F.1 (mX2_next l E σ (some r9) σ10 g8) (cwV 0 hts (lw_V q995 q997 qs34 q104 q998) rfl rfl rfl (by decide +kernel) ⟨Nat.le_of_ble_eq_true rfl, Nat.le_of_ble_eq_true rfl⟩) ⟨xPc.blind, va_recv hK (xO_R hW) (ci := 2) (q0 := 0) rfl rfl, F.pre hW hS (.ref (xa E 2) :: [])⟩ rfl rfl hl.1 rfl (lv_room (Nat.le_of_ble_eq_true rfl)) dX2_whole_24 ⟨Nat.le_refl _, Nat.le_refl _⟩) hS (fun H locs hW hS => ?_)
        refine lv_aload_n hx hb dX2_whole_27 rfl (lv_at hl 1 rfl) ?_
        rcases g11 : fX2_item σ10 with _ | ⟨_ | r12, σ13⟩
        · rw [g11] at h; cases h
        · rw [g11, xbt_t] at h
          obtain ⟨h1, h2⟩ := Prod.mk.inj (Option.some.inj h); subst h1; subst h2
          rw [ht rfl]
          exact x_backTl (x_runVT (C := RX2) (b := (xa E 2)) (As := []) (rest := []) F.1 (mX2_item l E σ10 none σ13 g11) (cwV 0 hts (lw_V q1067 q1069 qs40 q104 q1070) rfl rfl rfl (by decide +kernel) ⟨Nat.le_of_ble_eq_true rfl, Nat.le_of_ble_eq_true rfl⟩) ⟨xPc.blind, va_recv hK (xO_R hW) (ci := 2) (q0 := 0) rfl rfl, F.pre hW hS (.ref (xa E 2) :: [])⟩ rfl rfl hl.1 rfl (lv_room (Nat.le_of_ble_eq_true rfl)) dX2_whole_28 ⟨Nat.le_refl _, Nat.le_refl _⟩) hS hlk (hno _)
        · rw [g11, xbt_r] at h
          refine x_backTv (x_runVT (C := RX2) (b := (xa E 2)) (As := []) (rest := []) F.1 (mX2_item l E σ10 (some r12) σ13 g11) (cwV 0 hts (lw_V q1067 q1069 qs40 q104 q1070) rfl rfl rfl (by decide +kernel) ⟨Nat.le_of_ble_eq_true rfl, Nat.le_of_ble_eq_true rfl⟩) ⟨xPc.blind, va_recv hK (xO_R hW) (ci := 2) (q0 := 0) rfl rfl, F.pre hW hS (.ref (xa E 2) :: [])⟩ rfl rfl hl.1 rfl (lv_room (Nat.le_of_ble_eq_true rfl)) dX2_whole_28 ⟨Nat.le_refl _, Nat.le_refl _⟩) hS (fun H locs hW hS => ?_)
          refine lv_iinc (k := 0) (v := (x1 + 1)) (lv' := [(1, .int (x1 + 1)), (0, .ref (xa E 2))]) hx hb dX2_whole_31 hl rfl rfl (by decide) rfl (fun ls hl => ?_)
          refine lv_goto (tgt := 15) hx hb dX2_whole_34 (by decide) ?_
          exact ih (x1 + 1) σ13 _ _ h _ _ _ hW hS (lv_sub hl [0, 1] rfl) ht kk
set_option maxHeartbeats 4000000 in
theorem mX2_whole (l : Launch) (E : xE) (σ : xM) (o : Option Int32) (σ' : xM) (h : fX2_whole σ = some (o, σ')) : xMT l yX2_whole (ws_ yX2_whole cX2_whole 2 (some .int)) ({ frames := 12, cells := 0, slots := 0, locals := 261 } : Room) (xPc E σ [.ref (xa E 2)]) (xQc E (xoI (xa E 3) o) σ') (xA E) := by
  refine x_ofT (C := RX2) (n := "whole") (d := "()I") (r := (some .int)) (by decide) (by first | decide | exact Nat.le_of_ble_eq_true rfl) ?_
  intro p e s m below meth c ls F hr hlk hno hW hS hl
  have hl : lv_has ls 2 [(0, .ref (xa E 2))] := hl
  obtain ⟨hx, hb, hml, hown, hts⟩ := id F.1
  have hK := F.2.1.1
  unfold fX2_whole at h
  refine lv_aload_n hx hb dX2_whole_0 rfl (lv_at hl 0 rfl) ?_
  refine lv_iconst (v := 0) hx hb dX2_whole_1 (by decide) ?_
  refine x_put (C := RX2) (T := TX2) (N := 8) (ci := 2) (ty := .int) F hW hS in_X2 tyX2 tyX2_ok nmX2 rfl 2 4 4 1 (by decide) rfl (by decide) rfl (by decide) (hts _ q277) (fun _ h9 => h9) rfl (by decide +kernel) rfl rfl dX2_whole_2 (fun H locs hW hS => ?_)
  refine lv_aload_n hx hb dX2_whole_5 rfl (lv_at hl 0 rfl) ?_
  rcases g1 : fX2_next (xup σ 4 1 0) with _ | ⟨_ | r2, σ3⟩
  · rw [g1] at h; cases h
  · rw [g1, xbt_t] at h
    obtain ⟨h1, h2⟩ := Prod.mk.inj (Option.some.inj h); subst h1; subst h2
    exact x_backTl (x_runVT (C := RX2) (b := (xa E 2)) (As := []) (rest := []) F.1 (mX2_next l E (xup σ 4 1 0) none σ3 g1) (cwV 0 hts (lw_V q995 q997 qs34 q104 q998) rfl rfl rfl (by decide +kernel) ⟨Nat.le_of_ble_eq_true rfl, Nat.le_of_ble_eq_true rfl⟩) ⟨xPc.blind, va_recv hK (xO_R hW) (ci := 2) (q0 := 0) rfl rfl, F.pre hW hS (.ref (xa E 2) :: [])⟩ rfl rfl hl.1 rfl (lv_room (Nat.le_of_ble_eq_true rfl)) dX2_whole_6 ⟨Nat.le_refl _, Nat.le_refl _⟩) hS hlk (hno _)
  · rw [g1, xbt_r] at h
    refine x_backTv (x_runVT (C := RX2) (b := (xa E 2)) (As := []) (rest := []) F.1 (mX2_next l E (xup σ 4 1 0) (some r2) σ3 g1) (cwV 0 hts (lw_V q995 q997 qs34 q104 q998) rfl rfl rfl (by decide +kernel) ⟨Nat.le_of_ble_eq_true rfl, Nat.le_of_ble_eq_true rfl⟩) ⟨xPc.blind, va_recv hK (xO_R hW) (ci := 2) (q0 := 0) rfl rfl, F.pre hW hS (.ref (xa E 2) :: [])⟩ rfl rfl hl.1 rfl (lv_room (Nat.le_of_ble_eq_true rfl)) dX2_whole_6 ⟨Nat.le_refl _, Nat.le_refl _⟩) hS (fun H locs hW hS => ?_)
    refine lv_aload_n hx hb dX2_whole_9 rfl (lv_at hl 0 rfl) ?_
    rcases g4 : fX2_item σ3 with _ | ⟨_ | r5, σ6⟩
    · rw [g4] at h; cases h
    · rw [g4, xbt_t] at h
      obtain ⟨h1, h2⟩ := Prod.mk.inj (Option.some.inj h); subst h1; subst h2
      exact x_backTl (x_runVT (C := RX2) (b := (xa E 2)) (As := []) (rest := []) F.1 (mX2_item l E σ3 none σ6 g4) (cwV 0 hts (lw_V q1067 q1069 qs40 q104 q1070) rfl rfl rfl (by decide +kernel) ⟨Nat.le_of_ble_eq_true rfl, Nat.le_of_ble_eq_true rfl⟩) ⟨xPc.blind, va_recv hK (xO_R hW) (ci := 2) (q0 := 0) rfl rfl, F.pre hW hS (.ref (xa E 2) :: [])⟩ rfl rfl hl.1 rfl (lv_room (Nat.le_of_ble_eq_true rfl)) dX2_whole_10 ⟨Nat.le_refl _, Nat.le_refl _⟩) hS hlk (hno _)
    · rw [g4, xbt_r] at h
      refine x_backTv (x_runVT (C := RX2) (b := (xa E 2)) (As := []) (rest := []) F.1 (mX2_item l E σ3 (some r5) σ6 g4) (cwV 0 hts (lw_V q1067 q1069 qs40 q104 q1070) rfl rfl rfl (by decide +kernel) ⟨Nat.le_of_ble_eq_true rfl, Nat.le_of_ble_eq_true rfl⟩) ⟨xPc.blind, va_recv hK (xO_R hW) (ci := 2) (q0 := 0) rfl rfl, F.pre hW hS (.ref (xa E 2) :: [])⟩ rfl rfl hl.1 rfl (lv_room (Nat.le_of_ble_eq_true rfl)) dX2_whole_10 ⟨Nat.le_refl _, Nat.le_refl _⟩) hS (fun H locs hW hS => ?_)
      refine lv_iconst (v := 1) hx hb dX2_whole_13 (by decide) ?_
      refine lv_istore_n (lv' := [(1, .int 1), (0, .ref (xa E 2))]) hx hb dX2_whole_14 rfl hl (by decide) rfl (fun ls hl => ?_)
      rcases g14 : gX2_whole_15 xfu 1 σ6 with _ | ⟨_ | q15, σ16⟩
      · rw [g14] at h; cases h
      · rw [g14, xbt_t] at h
        obtain ⟨h1, h2⟩ := Prod.mk.inj (Option.some.inj h); subst h1; subst h2
        exact lX2_whole_15 F hlk hno xfu 1 σ6 none σ16 g14 _ _ _ hW hS (lv_sub hl [0, 1] rfl) (fun _ => rfl) (fun q hq => by cases hq)
      · rw [g14, xbt_r] at h
        refine lX2_whole_15 F hlk hno xfu 1 σ6 (some q15) σ16 g14 _ _ _ hW hS (lv_sub hl [0, 1] rfl) (fun hq => by cases hq) (fun q hq H locs ls hW hS hl => ?_)
        cases hq
        refine lv_aload_n hx hb dX2_whole_37 rfl (lv_at hl 1 rfl) ?_
        refine lv_aload_n hx hb dX2_whole_38 rfl (lv_at hl 1 rfl) ?_
        refine va_get (D := xD E) (ci := 2) (v := .int (σ16 4 3)) (C := RX2) (T := TX2) (N := 8) hx hb hts in_X2 hown hK (xO_R hW) 0 rfl rfl 6 (by decide) (hts _ q280) (fun _ h9 => h9) rfl dX2_whole_39 ?_
        refine lv_if_ne (tgt := 49) hx hb dX2_whole_42 (by decide) (fun c17 => ?_) (fun c17 => ?_)
        · rw [if_neg c17] at h
          refine lv_iconst (v := 0) hx hb dX2_whole_49 (by decide) ?_
          rcases g18 : fX2_need σ16 0 with _ | ⟨_ | r19, σ20⟩
          · rw [g18] at h; cases h
          · rw [g18, xbt_t] at h
            obtain ⟨h1, h2⟩ := Prod.mk.inj (Option.some.inj h); subst h1; subst h2
            exact x_backTl (x_runVT (C := RX2) (b := (xa E 2)) (As := [.int 0]) (rest := []) F.1 (mX2_need l E σ16 0 none σ20 g18) (cwV 1 hts (lw_V q1056 q1058 qs38 q104 q1059) rfl rfl rfl (by decide +kernel) ⟨Nat.le_of_ble_eq_true rfl, Nat.le_of_ble_eq_true rfl⟩) ⟨xPc.blind, va_recv hK (xO_R hW) (ci := 2) (q0 := 0) rfl rfl, F.pre hW hS (.ref (xa E 2) :: [.int 0])⟩ rfl rfl hl.1 rfl (lv_room (Nat.le_of_ble_eq_true rfl)) dX2_whole_50 ⟨Nat.le_refl _, Nat.le_refl _⟩) hS hlk (hno _)
          · rw [g18, xbt_r] at h
            refine x_backTv (x_runVT (C := RX2) (b := (xa E 2)) (As := [.int 0]) (rest := []) F.1 (mX2_need l E σ16 0 (some r19) σ20 g18) (cwV 1 hts (lw_V q1056 q1058 qs38 q104 q1059) rfl rfl rfl (by decide +kernel) ⟨Nat.le_of_ble_eq_true rfl, Nat.le_of_ble_eq_true rfl⟩) ⟨xPc.blind, va_recv hK (xO_R hW) (ci := 2) (q0 := 0) rfl rfl, F.pre hW hS (.ref (xa E 2) :: [.int 0])⟩ rfl rfl hl.1 rfl (lv_room (Nat.le_of_ble_eq_true rfl)) dX2_whole_50 ⟨Nat.le_refl _, Nat.le_refl _⟩) hS (fun H locs hW hS => ?_)
            refine lv_iload_n hx hb dX2_whole_53 rfl (lv_at hl 0 rfl) ?_
            obtain ⟨h1, h2⟩ := Prod.mk.inj (Option.some.inj h); subst h1; subst h2
            exact x_mono xMQ.of (x_iret F hr hlk hW hS dX2_whole_54)
        · rw [if_pos c17] at h
          refine lv_iconst (v := 1) hx hb dX2_whole_45 (by decide) ?_
          refine lv_goto (tgt := 50) hx hb dX2_whole_46 (by decide) ?_
          rcases g21 : fX2_need σ16 1 with _ | ⟨_ | r22, σ23⟩
          · rw [g21] at h; cases h
          · rw [g21, xbt_t] at h
            obtain ⟨h1, h2⟩ := Prod.mk.inj (Option.some.inj h); subst h1; subst h2
            exact x_backTl (x_runVT (C := RX2) (b := (xa E 2)) (As := [.int 1]) (rest := []) F.1 (mX2_need l E σ16 1 none σ23 g21) (cwV 1 hts (lw_V q1056 q1058 qs38 q104 q1059) rfl rfl rfl (by decide +kernel) ⟨Nat.le_of_ble_eq_true rfl, Nat.le_of_ble_eq_true rfl⟩) ⟨xPc.blind, va_recv hK (xO_R hW) (ci := 2) (q0 := 0) rfl rfl, F.pre hW hS (.ref (xa E 2) :: [.int 1])⟩ rfl rfl hl.1 rfl (lv_room (Nat.le_of_ble_eq_true rfl)) dX2_whole_50 ⟨Nat.le_refl _, Nat.le_refl _⟩) hS hlk (hno _)
          · rw [g21, xbt_r] at h
            refine x_backTv (x_runVT (C := RX2) (b := (xa E 2)) (As := [.int 1]) (rest := []) F.1 (mX2_need l E σ16 1 (some r22) σ23 g21) (cwV 1 hts (lw_V q1056 q1058 qs38 q104 q1059) rfl rfl rfl (by decide +kernel) ⟨Nat.le_of_ble_eq_true rfl, Nat.le_of_ble_eq_true rfl⟩) ⟨xPc.blind, va_recv hK (xO_R hW) (ci := 2) (q0 := 0) rfl rfl, F.pre hW hS (.ref (xa E 2) :: [.int 1])⟩ rfl rfl hl.1 rfl (lv_room (Nat.le_of_ble_eq_true rfl)) dX2_whole_50 ⟨Nat.le_refl _, Nat.le_refl _⟩) hS (fun H locs hW hS => ?_)
            refine lv_iload_n hx hb dX2_whole_53 rfl (lv_at hl 0 rfl) ?_
            obtain ⟨h1, h2⟩ := Prod.mk.inj (Option.some.inj h); subst h1; subst h2
            exact x_mono xMQ.of (x_iret F hr hlk hW hS dX2_whole_54)
