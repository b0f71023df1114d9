set_option maxRecDepth 100000
/-! WildBellsModel.finding(I)I -/
def fX13_finding (σ : xM) (a1 : Int32) : Option (Int32 × xM) :=
  if xin (((-1000001) - a1) + 1) 8 then (if xin (((-1000001) - a1) + 1) 8 then (some (a1, (xup (xup σ 23 ((((-1000001) - a1) + 1).toNatClampNeg) ((σ 23 ((((-1000001) - a1) + 1).toNatClampNeg)) + 1)) 23 ((0 : Int32).toNatClampNeg) (((xup σ 23 ((((-1000001) - a1) + 1).toNatClampNeg) ((σ 23 ((((-1000001) - a1) + 1).toNatClampNeg)) + 1)) 23 ((0 : Int32).toNatClampNeg)) + 1)))) else none) else none
set_option maxHeartbeats 4000000 in
theorem mX13_finding (l : Launch) (E : xE) (σ : xM) (a1 : Int32) (r : Int32) (σ' : xM) (h : fX13_finding σ a1 = some (r, σ')) : Met l yX13_finding (ws_ yX13_finding cX13_finding 2 (some .int)) ({ frames := 0, cells := 0, slots := 0, locals := 0 } : Room) (xPc E σ [.ref (xa E 186), .int a1]) (xQc E (.returned (some (.int r))) σ') 0 0 (xA E) := by
  refine x_of (C := RX13) (n := "finding") (d := "(I)I") (r := (some .int)) (by decide) rfl (by first | decide | exact Nat.le_of_ble_eq_true rfl) ?_
  intro p e s m below meth c ls F hr hlk hW hS hl
  have hl : lv_has ls 2 [(0, .ref (xa E 186)), (1, .int a1)] := hl
  obtain ⟨hx, hb, hml, hown, hts⟩ := id F.1
  have hK := F.2.1.1
  unfold fX13_finding at h
  refine lv_aload_n hx hb dX13_finding_0 rfl (lv_at hl 0 rfl) ?_
  refine va_get (D := xD E) (ci := 13) (v := .ref (xa E 190)) (C := RX13) (T := TX13) (N := 24) hx hb hts in_X13 hown hK (xO_M hW) 0 rfl rfl 4 (by decide) (hts _ q1200) (fun _ h9 => h9) rfl dX13_finding_1 ?_
  refine lv_ldc (v := (-1000001)) hx hb hown (hts _ q1279) dX13_finding_4 ?_
  refine lv_iload_n hx hb dX13_finding_6 rfl (lv_at hl 1 rfl) ?_
  refine lv_isub hx hb dX13_finding_7 ?_
  refine lv_iconst (v := 1) hx hb dX13_finding_8 (by decide) ?_
  refine lv_iadd hx hb dX13_finding_9 ?_
  refine lv_dup2_11 hx hb dX13_finding_10 rfl rfl ?_
  by_cases hi1 : xin (((-1000001) - a1) + 1) 8
  · rw [if_pos hi1] at h
    refine va_iald hx hb hK (xV_p hW xp_190) 0 0 rfl rfl hi1 dX13_finding_11 ?_
    refine lv_iconst (v := 1) hx hb dX13_finding_12 (by decide) ?_
    refine lv_iadd hx hb dX13_finding_13 ?_
    by_cases hi2 : xin (((-1000001) - a1) + 1) 8
    · rw [if_pos hi2] at h
      refine x_iast F hW hS 190 8 23 (fun j => j) xp_190.1 xp_190.2.1 xp_190.2.2.1 xp_190.2.2.2 hi2 dX13_finding_14 (fun H locs hW hS => ?_)
      refine lv_aload_n hx hb dX13_finding_15 rfl (lv_at hl 0 rfl) ?_
      refine va_get (D := xD E) (ci := 13) (v := .ref (xa E 190)) (C := RX13) (T := TX13) (N := 24) hx hb hts in_X13 hown hK (xO_M hW) 0 rfl rfl 4 (by decide) (hts _ q1200) (fun _ h9 => h9) rfl dX13_finding_16 ?_
      refine lv_iconst (v := 0) hx hb dX13_finding_19 (by decide) ?_
      refine lv_dup2_11 hx hb dX13_finding_20 rfl rfl ?_
      refine va_iald hx hb hK (xV_p hW xp_190) 0 0 rfl rfl (x_lit (by decide)) dX13_finding_21 ?_
      refine lv_iconst (v := 1) hx hb dX13_finding_22 (by decide) ?_
      refine lv_iadd hx hb dX13_finding_23 ?_
      refine x_iast F hW hS 190 8 23 (fun j => j) xp_190.1 xp_190.2.1 xp_190.2.2.1 xp_190.2.2.2 (x_lit (by decide)) dX13_finding_24 (fun H locs hW hS => ?_)
      refine lv_iload_n hx hb dX13_finding_25 rfl (lv_at hl 1 rfl) ?_
      obtain ⟨h1, h2⟩ := Prod.mk.inj (Option.some.inj h); subst h1; subst h2
      exact x_iret F hr hlk hW hS dX13_finding_26
    · rw [if_neg hi2] at h; cases h
  · rw [if_neg hi1] at h; cases h
/-! WildBellsModel.within(III)Z -/
def fX13_within (a0 : Int32) (a1 : Int32) (a2 : Int32) : Int32 :=
  if a0 < a1 then 0 else (if a2 < a0 then 0 else 1)
theorem bX13_within (a0 a1 a2 : Int32) : narrow .boolean (.int (fX13_within a0 a1 a2)) = .int (fX13_within a0 a1 a2) := by
  unfold fX13_within
  first
    | (repeat' split) <;> rfl
    | exact bX0_in _ _ _
    | exact bX13_within _ _ _
    | ((repeat' split) <;> first | rfl | exact bX0_in _ _ _ | exact bX0_isKind _ | exact bX0_isCell _ | exact bX0_isWeight _)
    | ((repeat' split) <;> first | rfl | exact bX13_within _ _ _ | exact bX13_isKind _ | exact bX13_isCell _)
set_option maxHeartbeats 4000000 in
theorem mX13_within (l : Launch) (E : xE) (σ : xM) (a0 : Int32) (a1 : Int32) (a2 : Int32) : Met l yX13_within (ws_ yX13_within cX13_within 3 (some .boolean)) ({ frames := 0, cells := 0, slots := 0, locals := 0 } : Room) (xPc E σ [.int a0, .int a1, .int a2]) (xQc E (.returned (some (.int (fX13_within a0 a1 a2)))) σ) 0 0 (xA E) := by
  refine x_of (C := RX13) (n := "within") (d := "(III)Z") (r := (some .boolean)) (by decide) rfl (by first | decide | exact Nat.le_of_ble_eq_true rfl) ?_
  intro p e s m below meth c ls F hr hlk hW hS hl
  have hl : lv_has ls 3 [(0, .int a0), (1, .int a1), (2, .int a2)] := hl
  obtain ⟨hx, hb, hml, hown, hts⟩ := id F.1
  have hK := F.2.1.1
  obtain ⟨r, h⟩ : ∃ r, fX13_within a0 a1 a2 = r := ⟨_, rfl⟩
  rw [h]
  unfold fX13_within at h
  refine lv_iload_n hx hb dX13_within_0 rfl (lv_at hl 0 rfl) ?_
  refine lv_iload_n hx hb dX13_within_1 rfl (lv_at hl 1 rfl) ?_
  refine lv_icmp_lt (tgt := 14) hx hb dX13_within_2 (by decide) (fun c1 => ?_) (fun c1 => ?_)
  · rw [if_pos c1] at h
    refine lv_iconst (v := 0) hx hb dX13_within_14 (by decide) ?_
    subst h
    exact x_zret F hr hlk hW hS rfl dX13_within_15
  · rw [if_neg c1] at h
    refine lv_iload_n hx hb dX13_within_5 rfl (lv_at hl 0 rfl) ?_
    refine lv_iload_n hx hb dX13_within_6 rfl (lv_at hl 2 rfl) ?_
    refine lv_icmp_gt (tgt := 14) hx hb dX13_within_7 (by decide) (fun c2 => ?_) (fun c2 => ?_)
    · rw [if_pos c2] at h
      refine lv_iconst (v := 0) hx hb dX13_within_14 (by decide) ?_
      subst h
      exact x_zret F hr hlk hW hS rfl dX13_within_15
    · rw [if_neg c2] at h
      refine lv_iconst (v := 1) hx hb dX13_within_10 (by decide) ?_
      refine lv_goto (tgt := 15) hx hb dX13_within_11 (by decide) ?_
      subst h
      exact x_zret F hr hlk hW hS rfl dX13_within_15
/-! WildBellsModel.become(II)I -/
def fX13_become (σ : xM) (a1 : Int32) (a2 : Int32) : Option (Int32 × xM) :=
  if xin a1 186 then (if xin a1 186 then (some ((σ 20 (a1.toNatClampNeg)), (xup σ 20 (a1.toNatClampNeg) a2))) else none) else none
set_option maxHeartbeats 4000000 in
theorem mX13_become (l : Launch) (E : xE) (σ : xM) (a1 : Int32) (a2 : Int32) (r : Int32) (σ' : xM) (h : fX13_become σ a1 a2 = some (r, σ')) : Met l yX13_become (ws_ yX13_become cX13_become 4 (some .int)) ({ frames := 0, cells := 0, slots := 0, locals := 0 } : Room) (xPc E σ [.ref (xa E 186), .int a1, .int a2]) (xQc E (.returned (some (.int r))) σ') 0 0 (xA E) := by
  refine x_of (C := RX13) (n := "become") (d := "(II)I") (r := (some .int)) (by decide) rfl (by first | decide | exact Nat.le_of_ble_eq_true rfl) ?_
  intro p e s m below meth c ls F hr hlk hW hS hl
  have hl : lv_has ls 4 [(0, .ref (xa E 186)), (1, .int a1), (2, .int a2)] := hl
  obtain ⟨hx, hb, hml, hown, hts⟩ := id F.1
  have hK := F.2.1.1
  unfold fX13_become at h
  refine lv_aload_n hx hb dX13_become_0 rfl (lv_at hl 0 rfl) ?_
  refine va_get (D := xD E) (ci := 13) (v := .ref (xa E 187)) (C := RX13) (T := TX13) (N := 24) hx hb hts in_X13 hown hK (xO_M hW) 0 rfl rfl 0 (by decide) (hts _ q1196) (fun _ h9 => h9) rfl dX13_become_1 ?_
  refine lv_iload_n hx hb dX13_become_4 rfl (lv_at hl 1 rfl) ?_
  by_cases hi1 : xin a1 186
  · rw [if_pos hi1] at h
    refine va_iald hx hb hK (xV_p hW xp_187) 0 0 rfl rfl hi1 dX13_become_5 ?_
    refine lv_istore_n (lv' := [(3, .int (σ 20 (a1.toNatClampNeg))), (0, .ref (xa E 186)), (1, .int a1), (2, .int a2)]) hx hb dX13_become_6 rfl hl (by decide) rfl (fun ls hl => ?_)
    refine lv_aload_n hx hb dX13_become_7 rfl (lv_at hl 1 rfl) ?_
    refine va_get (D := xD E) (ci := 13) (v := .ref (xa E 187)) (C := RX13) (T := TX13) (N := 24) hx hb hts in_X13 hown hK (xO_M hW) 0 rfl rfl 0 (by decide) (hts _ q1196) (fun _ h9 => h9) rfl dX13_become_8 ?_
    refine lv_iload_n hx hb dX13_become_11 rfl (lv_at hl 2 rfl) ?_
    refine lv_iload_n hx hb dX13_become_12 rfl (lv_at hl 3 rfl) ?_
    by_cases hi2 : xin a1 186
    · rw [if_pos hi2] at h
      refine x_iast F hW hS 187 186 20 (fun j => j) xp_187.1 xp_187.2.1 xp_187.2.2.1 xp_187.2.2.2 hi2 dX13_become_13 (fun H locs hW hS => ?_)
      refine lv_iload_n hx hb dX13_become_14 rfl (lv_at hl 0 rfl) ?_
      obtain ⟨h1, h2⟩ := Prod.mk.inj (Option.some.inj h); subst h1; subst h2
      exact x_iret F hr hlk hW hS dX13_become_15
    · rw [if_neg hi2] at h; cases h
  · rw [if_neg hi1] at h; cases h
/-! WildBellsModel.copyRow([I[I)V -/
def gX13_copyRow_2 (v0 : Nat) (v1 : Nat) : Nat → Int32 → xM → Option (Int32 × xM)
  | 0, _, _ => none
  | n + 1, x2, σ => if 186 ≤ x2 then (some (x2, σ)) else (if xin x2 186 then (if xin x2 186 then (gX13_copyRow_2 v0 v1 n (x2 + 1) (xup σ v1 (x2.toNatClampNeg) (σ v0 (x2.toNatClampNeg)))) else none) else none)
def fX13_copyRow (σ : xM) (v0 : Nat) (v1 : Nat) : Option xM :=
  (gX13_copyRow_2 v0 v1 xfu 0 σ).bind (fun q5 => some q5.2)
set_option maxHeartbeats 4000000 in
theorem lX13_copyRow_2 {p : Program} {l : Launch} {e : Env} {s : State} {m : MethodId} {av : Array Value} {below : List Frame} {meth : Method} {c : Code} {Q : State → Prop} {E : xE} {k0 : Nat} {v0 : Nat} (hp0 : xPl k0 0 186 v0) {k1 : Nat} {v1 : Nat} (hp1 : xPl k1 0 186 v1) (F : xFx p m c cX13_copyRow 3 s av RX13 E) : ∀ (n : Nat) (x2 : Int32) (σ : xM) (q : (Int32 × xM)), gX13_copyRow_2 v0 v1 n x2 σ = some q → ∀ (H : Heap) (locs : List Loc) (ls : Array Slot), xW E σ H → va_S (xA E) s.heap H locs → lv_has ls 3 [(2, .int x2), (0, .ref (xa E k0)), (1, .ref (xa E k1))] → (∀ (H : Heap) (locs : List Loc) (ls : Array Slot), xW E q.2 H → va_S (xA E) s.heap H locs → lv_has ls 3 [(2, .int q.1), (0, .ref (xa E k0)), (1, .ref (xa E k1))] → W p l e ({ frames := 0, cells := 0, slots := 0, locals := 0 } : Room) s m av below meth c H locs 0 0 Q (F0 m 21 ls [])) → W p l e ({ frames := 0, cells := 0, slots := 0, locals := 0 } : Room) s m av below meth c H locs 0 0 Q (F0 m 2 ls []) := by
  obtain ⟨hx, hb, hml, hown, hts⟩ := id F.1
  have hK := F.2.1.1
  intro n
  induction n with
  | zero =>
    intro x2 σ q h
    cases h
  | succ n ih =>
    intro x2 σ q h H locs ls hW hS hl kk
    rw [gX13_copyRow_2] at h
    refine lv_iload_n hx hb dX13_copyRow_2 rfl (lv_at hl 0 rfl) ?_
    refine lv_sipush (v := 186) hx hb dX13_copyRow_3 (by decide) ?_
    refine lv_icmp_ge (tgt := 21) hx hb dX13_copyRow_6 (by decide) (fun c1 => ?_) (fun c1 => ?_)
    · rw [if_pos c1] at h
      have h := Option.some.inj h; subst h
      exact kk _ _ _ hW hS (lv_sub hl [0, 1, 2] rfl)
    · rw [if_neg c1] at h
      refine lv_aload_n hx hb dX13_copyRow_9 rfl (lv_at hl 2 rfl) ?_
      refine lv_iload_n hx hb dX13_copyRow_10 rfl (lv_at hl 0 rfl) ?_
      refine lv_aload_n hx hb dX13_copyRow_11 rfl (lv_at hl 1 rfl) ?_
      refine lv_iload_n hx hb dX13_copyRow_12 rfl (lv_at hl 0 rfl) ?_
      by_cases hi2 : xin x2 186
      · rw [if_pos hi2] at h
        refine va_iald hx hb hK (xV_p hW hp0) 0 0 rfl rfl hi2 dX13_copyRow_13 ?_
        by_cases hi3 : xin x2 186
        · rw [if_pos hi3] at h
          refine x_iast F hW hS k1 186 v1 (fun j => j) hp1.1 hp1.2.1 hp1.2.2.1 hp1.2.2.2 hi3 dX13_copyRow_14 (fun H locs hW hS => ?_)
          refine lv_iinc (k := 0) (v := (x2 + 1)) (lv' := [(2, .int (x2 + 1)), (0, .ref (xa E k0)), (1, .ref (xa E k1))]) hx hb dX13_copyRow_15 hl rfl rfl (by decide) rfl (fun ls hl => ?_)
          refine lv_goto (tgt := 2) hx hb dX13_copyRow_18 (by decide) ?_
          exact ih (x2 + 1) (xup σ v1 (x2.toNatClampNeg) (σ v0 (x2.toNatClampNeg))) _ h _ _ _ hW hS (lv_sub hl [0, 1, 2] rfl) kk
        · rw [if_neg hi3] at h; cases h
      · rw [if_neg hi2] at h; cases h
set_option maxHeartbeats 4000000 in
theorem mX13_copyRow (l : Launch) (E : xE) (σ : xM) (k0 : Nat) (v0 : Nat) (hp0 : xPl k0 0 186 v0) (k1 : Nat) (v1 : Nat) (hp1 : xPl k1 0 186 v1) (σ' : xM) (h : fX13_copyRow σ v0 v1 = some σ') : Met l yX13_copyRow (ws_ yX13_copyRow cX13_copyRow 3 none) ({ frames := 0, cells := 0, slots := 0, locals := 0 } : Room) (xPc E σ [.ref (xa E k0), .ref (xa E k1)]) (xQc E (.returned none) σ') 0 0 (xA E) := by
  refine x_of (C := RX13) (n := "copyRow") (d := "([I[I)V") (r := none) (by decide) rfl (by first | decide | exact Nat.le_of_ble_eq_true rfl) ?_
  intro p e s m below meth c ls F hr hlk hW hS hl
  have hl : lv_has ls 3 [(0, .ref (xa E k0)), (1, .ref (xa E k1))] := hl
  obtain ⟨hx, hb, hml, hown, hts⟩ := id F.1
  have hK := F.2.1.1
  unfold fX13_copyRow at h
  refine lv_iconst (v := 0) hx hb dX13_copyRow_0 (by decide) ?_
  refine lv_istore_n (lv' := [(2, .int 0), (0, .ref (xa E k0)), (1, .ref (xa E k1))]) hx hb dX13_copyRow_1 rfl hl (by decide) rfl (fun ls hl => ?_)
  cases g4 : gX13_copyRow_2 v0 v1 xfu 0 σ with
  | none => rw [g4] at h; cases h
  | some q5 =>
    rw [g4, Option.bind_some] at h
    refine lX13_copyRow_2 hp0 hp1 F xfu 0 σ q5 g4 _ _ _ hW hS (lv_sub hl [0, 1, 2] rfl) (fun H locs ls hW hS hl => ?_)
    have h := Option.some.inj h; subst h
    exact x_vret F hr hlk hW hS dX13_copyRow_21
/-! WildBellsModel.putBack(I)I -/
def fX13_putBack (σ : xM) (a1 : Int32) : Option (Int32 × xM) :=
  (fX13_copyRow σ 22 20).bind (fun r2 => some (a1, r2))
set_option maxHeartbeats 4000000 in
theorem mX13_putBack (l : Launch) (E : xE) (σ : xM) (a1 : Int32) (r : Int32) (σ' : xM) (h : fX13_putBack σ a1 = some (r, σ')) : Met l yX13_putBack (ws_ yX13_putBack cX13_putBack 2 (some .int)) ({ frames := 1, cells := 0, slots := 0, locals := 22 } : Room) (xPc E σ [.ref (xa E 186), .int a1]) (xQc E (.returned (some (.int r))) σ') 0 0 (xA E) := by
  refine x_of (C := RX13) (n := "putBack") (d := "(I)I") (r := (some .int)) (by decide) rfl (by first | decide | exact Nat.le_of_ble_eq_true rfl) ?_
  intro p e s m below meth c ls F hr hlk hW hS hl
  have hl : lv_has ls 2 [(0, .ref (xa E 186)), (1, .int a1)] := hl
  obtain ⟨hx, hb, hml, hown, hts⟩ := id F.1
  have hK := F.2.1.1
  unfold fX13_putBack at h
  refine lv_aload_n hx hb dX13_putBack_0 rfl (lv_at hl 0 rfl) ?_
  refine va_get (D := xD E) (ci := 13) (v := .ref (xa E 189)) (C := RX13) (T := TX13) (N := 24) hx hb hts in_X13 hown hK (xO_M hW) 0 rfl rfl 2 (by decide) (hts _ q1198) (fun _ h9 => h9) rfl dX13_putBack_1 ?_
  refine lv_aload_n hx hb dX13_putBack_4 rfl (lv_at hl 0 rfl) ?_
  refine va_get (D := xD E) (ci := 13) (v := .ref (xa E 187)) (C := RX13) (T := TX13) (N := 24) hx hb hts in_X13 hown hK (xO_M hW) 0 rfl rfl 0 (by decide) (hts _ q1196) (fun _ h9 => h9) rfl dX13_putBack_5 ?_
  cases g1 : fX13_copyRow σ 22 20 with
  | none => rw [g1] at h; cases h
  | some r2 =>
    rw [g1, Option.bind_some] at h
    refine x_backv (va_runS (As := [.ref (xa E 189), .ref (xa E 187)]) (rest := []) F.1 (mX13_copyRow l E σ 189 22 xp_189 187 20 xp_187 r2 g1) (va_cwS 2 hts (lw_S q1442 q1443 q115 q1444) rfl rfl rfl (by decide +kernel) ⟨Nat.le_of_ble_eq_true rfl, Nat.le_of_ble_eq_true rfl⟩) ⟨xPc.blind, F.pre hW hS [.ref (xa E 189), .ref (xa E 187)]⟩ rfl rfl hl.1 rfl (lv_room (Nat.le_of_ble_eq_true rfl)) dX13_putBack_8 ⟨Nat.le_refl _, Nat.le_refl _⟩) hS (fun H locs hW hS => ?_)
    refine lv_iload_n hx hb dX13_putBack_11 rfl (lv_at hl 1 rfl) ?_
    obtain ⟨h1, h2⟩ := Prod.mk.inj (Option.some.inj h); subst h1; subst h2
    exact x_iret F hr hlk hW hS dX13_putBack_12
/-! WildBellsModel.has(II)Z -/
def fX13_has (a0 : Int32) (a1 : Int32) : Int32 :=
  if ((a0 >>> (a1 &&& 31)) &&& 1) = 1 then 1 else 0
theorem bX13_has (a0 a1 : Int32) : narrow .boolean (.int (fX13_has a0 a1)) = .int (fX13_has a0 a1) := by
  unfold fX13_has
  first
    | (repeat' split) <;> rfl
    | exact bX0_in _ _ _
    | exact bX13_within _ _ _
    | ((repeat' split) <;> first | rfl | exact bX0_in _ _ _ | exact bX0_isKind _ | exact bX0_isCell _ | exact bX0_isWeight _)
    | ((repeat' split) <;> first | rfl | exact bX13_within _ _ _ | exact bX13_isKind _ | exact bX13_isCell _)
set_option maxHeartbeats 4000000 in
theorem mX13_has (l : Launch) (E : xE) (σ : xM) (a0 : Int32) (a1 : Int32) : Met l yX13_has (ws_ yX13_has cX13_has 2 (some .boolean)) ({ frames := 0, cells := 0, slots := 0, locals := 0 } : Room) (xPc E σ [.int a0, .int a1]) (xQc E (.returned (some (.int (fX13_has a0 a1)))) σ) 0 0 (xA E) := by
  refine x_of (C := RX13) (n := "has") (d := "(II)Z") (r := (some .boolean)) (by decide) rfl (by first | decide | exact Nat.le_of_ble_eq_true rfl) ?_
  intro p e s m below meth c ls F hr hlk hW hS hl
  have hl : lv_has ls 2 [(0, .int a0), (1, .int a1)] := hl
  obtain ⟨hx, hb, hml, hown, hts⟩ := id F.1
  have hK := F.2.1.1
  obtain ⟨r, h⟩ : ∃ r, fX13_has a0 a1 = r := ⟨_, rfl⟩
  rw [h]
  unfold fX13_has at h
  refine lv_iload_n hx hb dX13_has_0 rfl (lv_at hl 0 rfl) ?_
  refine lv_iload_n hx hb dX13_has_1 rfl (lv_at hl 1 rfl) ?_
  refine lv_ishr hx hb dX13_has_2 ?_
  refine lv_iconst (v := 1) hx hb dX13_has_3 (by decide) ?_
  refine lv_iand hx hb dX13_has_4 ?_
  refine lv_iconst (v := 1) hx hb dX13_has_5 (by decide) ?_
  refine lv_icmp_ne (tgt := 13) hx hb dX13_has_6 (by decide) (fun c1 => ?_) (fun c1 => ?_)
  · rw [if_neg c1] at h
    refine lv_iconst (v := 0) hx hb dX13_has_13 (by decide) ?_
    subst h
    exact x_zret F hr hlk hW hS rfl dX13_has_14
  · rw [if_pos c1] at h
    refine lv_iconst (v := 1) hx hb dX13_has_9 (by decide) ?_
    refine lv_goto (tgt := 14) hx hb dX13_has_10 (by decide) ?_
    subst h
    exact x_zret F hr hlk hW hS rfl dX13_has_14
/-! WildBellsModel.bits(I)I -/
def gX13_bits_4  : Nat → Int32 → Int32 → Option (Int32 × Int32)
  | 0, _, _ => none
  | n + 1, x1, x2 => if x2 = 0 then (some (x1, x2)) else (gX13_bits_4 n (x1 + 1) (x2 &&& (x2 - 1)))
def fX13_bits (a0 : Int32) : Option Int32 :=
  (gX13_bits_4 xfu 0 a0).bind (fun q3 => some q3.1)
set_option maxHeartbeats 4000000 in
theorem lX13_bits_4 {p : Program} {l : Launch} {e : Env} {s : State} {m : MethodId} {av : Array Value} {below : List Frame} {meth : Method} {c : Code} {Q : State → Prop} {E : xE} {σ : xM} {b0 : Int32} (F : xFx p m c cX13_bits 3 s av RX13 E) : ∀ (n : Nat) (x1 : Int32) (x2 : Int32) (q : (Int32 × Int32)), gX13_bits_4 n x1 x2 = some q → ∀ (H : Heap) (locs : List Loc) (ls : Array Slot), xW E σ H → va_S (xA E) s.heap H locs → lv_has ls 3 [(2, .int x2), (1, .int x1), (0, .int b0)] → (∀ (H : Heap) (locs : List Loc) (ls : Array Slot), xW E σ H → va_S (xA E) s.heap H locs → lv_has ls 3 [(2, .int q.2), (1, .int q.1), (0, .int b0)] → W p l e ({ frames := 0, cells := 0, slots := 0, locals := 0 } : Room) s m av below meth c H locs 0 0 Q (F0 m 20 ls [])) → W p l e ({ frames := 0, cells := 0, slots := 0, locals := 0 } : Room) s m av below meth c H locs 0 0 Q (F0 m 4 ls []) := by
  obtain ⟨hx, hb, hml, hown, hts⟩ := id F.1
  have hK := F.2.1.1
  intro n
  induction n with
  | zero =>
    intro x1 x2 q h
    cases h
  | succ n ih =>
    intro x1 x2 q h H locs ls hW hS hl kk
    rw [gX13_bits_4] at h
    refine lv_iload_n hx hb dX13_bits_4 rfl (lv_at hl 0 rfl) ?_
    refine lv_if_eq (tgt := 20) hx hb dX13_bits_5 (by decide) (fun c1 => ?_) (fun c1 => ?_)
    · rw [if_pos c1] at h
      have h := Option.some.inj h; subst h
      exact kk _ _ _ hW hS (lv_sub hl [0, 1, 2] rfl)
    · rw [if_neg c1] at h
      refine lv_iinc (k := 1) (v := (x1 + 1)) (lv' := [(1, .int (x1 + 1)), (2, .int x2), (0, .int b0)]) hx hb dX13_bits_8 hl rfl rfl (by decide) rfl (fun ls hl => ?_)
      refine lv_iload_n hx hb dX13_bits_11 rfl (lv_at hl 1 rfl) ?_
      refine lv_iload_n hx hb dX13_bits_12 rfl (lv_at hl 1 rfl) ?_
      refine lv_iconst (v := 1) hx hb dX13_bits_13 (by decide) ?_
      refine lv_isub hx hb dX13_bits_14 ?_
      refine lv_iand hx hb dX13_bits_15 ?_
      refine lv_istore_n (lv' := [(2, .int (x2 &&& (x2 - 1))), (1, .int (x1 + 1)), (0, .int b0)]) hx hb dX13_bits_16 rfl hl (by decide) rfl (fun ls hl => ?_)
      refine lv_goto (tgt := 4) hx hb dX13_bits_17 (by decide) ?_
      exact ih (x1 + 1) (x2 &&& (x2 - 1)) _ h _ _ _ hW hS (lv_sub hl [0, 1, 2] rfl) kk
set_option maxHeartbeats 4000000 in
theorem mX13_bits (l : Launch) (E : xE) (σ : xM) (a0 : Int32) (r : Int32) (h : fX13_bits a0 = some r) : Met l yX13_bits (ws_ yX13_bits cX13_bits 3 (some .int)) ({ frames := 0, cells := 0, slots := 0, locals := 0 } : Room) (xPc E σ [.int a0]) (xQc E (.returned (some (.int r))) σ) 0 0 (xA E) := by
  refine x_of (C := RX13) (n := "bits") (d := "(I)I") (r := (some .int)) (by decide) rfl (by first | decide | exact Nat.le_of_ble_eq_true rfl) ?_
  intro p e s m below meth c ls F hr hlk hW hS hl
  have hl : lv_has ls 3 [(0, .int a0)] := hl
  obtain ⟨hx, hb, hml, hown, hts⟩ := id F.1
  have hK := F.2.1.1
  unfold fX13_bits at h
  refine lv_iconst (v := 0) hx hb dX13_bits_0 (by decide) ?_
  refine lv_istore_n (lv' := [(1, .int 0), (0, .int a0)]) hx hb dX13_bits_1 rfl hl (by decide) rfl (fun ls hl => ?_)
  refine lv_iload_n hx hb dX13_bits_2 rfl (lv_at hl 1 rfl) ?_
  refine lv_istore_n (lv' := [(2, .int a0), (1, .int 0), (0, .int a0)]) hx hb dX13_bits_3 rfl hl (by decide) rfl (fun ls hl => ?_)
  cases g2 : gX13_bits_4 xfu 0 a0 with
  | none => rw [g2] at h; cases h
  | some q3 =>
    rw [g2, Option.bind_some] at h
    refine lX13_bits_4 F xfu 0 a0 q3 g2 _ _ _ hW hS (lv_sub hl [0, 1, 2] rfl) (fun H locs ls hW hS hl => ?_)
    refine lv_iload_n hx hb dX13_bits_20 rfl (lv_at hl 1 rfl) ?_
    have h := Option.some.inj h; subst h
    exact x_iret F hr hlk hW hS dX13_bits_21
/-! WildBellsModel.isCell(I)Z -/
def fX13_isCell (a0 : Int32) : Int32 :=
  (fX13_within a0 0 63)
theorem bX13_isCell (a0 : Int32) : narrow .boolean (.int (fX13_isCell a0)) = .int (fX13_isCell a0) := by
  unfold fX13_isCell
  first
    | (repeat' split) <;> rfl
    | exact bX0_in _ _ _
    | exact bX13_within _ _ _
    | ((repeat' split) <;> first | rfl | exact bX0_in _ _ _ | exact bX0_isKind _ | exact bX0_isCell _ | exact bX0_isWeight _)
    | ((repeat' split) <;> first | rfl | exact bX13_within _ _ _ | exact bX13_isKind _ | exact bX13_isCell _)
set_option maxHeartbeats 4000000 in
theorem mX13_isCell (l : Launch) (E : xE) (σ : xM) (a0 : Int32) : Met l yX13_isCell (ws_ yX13_isCell cX13_isCell 1 (some .boolean)) ({ frames := 1, cells := 0, slots := 0, locals := 22 } : Room) (xPc E σ [.int a0]) (xQc E (.returned (some (.int (fX13_isCell a0)))) σ) 0 0 (xA E) := by
  refine x_of (C := RX13) (n := "isCell") (d := "(I)Z") (r := (some .boolean)) (by decide) rfl (by first | decide | exact Nat.le_of_ble_eq_true rfl) ?_
  intro p e s m below meth c ls F hr hlk hW hS hl
  have hl : lv_has ls 1 [(0, .int a0)] := hl
  obtain ⟨hx, hb, hml, hown, hts⟩ := id F.1
  have hK := F.2.1.1
  obtain ⟨r, h⟩ : ∃ r, fX13_isCell a0 = r := ⟨_, rfl⟩
  rw [h]
  unfold fX13_isCell at h
  refine lv_iload_n hx hb dX13_isCell_0 rfl (lv_at hl 0 rfl) ?_
  refine lv_iconst (v := 0) hx hb dX13_isCell_1 (by decide) ?_
  refine lv_bipush (v := 63) hx hb dX13_isCell_2 (by decide) ?_
  refine x_backi (va_runS (As := [.int a0, .int 0, .int 63]) (rest := []) F.1 (mX13_within l E σ a0 0 63) (va_cwS 3 hts (lw_S q1276 q1277 q115 q1278) rfl rfl rfl (by decide +kernel) ⟨Nat.le_of_ble_eq_true rfl, Nat.le_of_ble_eq_true rfl⟩) ⟨xPc.blind, F.pre hW hS [.int a0, .int 0, .int 63]⟩ rfl rfl hl.1 rfl (lv_room (Nat.le_of_ble_eq_true rfl)) dX13_isCell_4 ⟨Nat.le_refl _, Nat.le_refl _⟩) hS (fun H locs hW hS => ?_)
  subst h
  exact x_zret F hr hlk hW hS (by first | exact bX13_within _ _ _ | rfl) dX13_isCell_7
/-! WildBellsModel.apart(II)I -/
def fX13_apart (a0 : Int32) (a1 : Int32) : Int32 :=
  ((fJ3_abs ((a0 / 8) - (a1 / 8))) + (fJ3_abs ((a0 - a0 / 8 * 8) - (a1 - a1 / 8 * 8))))
set_option maxHeartbeats 4000000 in
theorem mX13_apart (l : Launch) (E : xE) (σ : xM) (a0 : Int32) (a1 : Int32) : Met l yX13_apart (ws_ yX13_apart cX13_apart 2 (some .int)) ({ frames := 1, cells := 0, slots := 0, locals := 20 } : Room) (xPc E σ [.int a0, .int a1]) (xQc E (.returned (some (.int (fX13_apart a0 a1)))) σ) 0 0 (xA E) := by
  refine x_of (C := RX13) (n := "apart") (d := "(II)I") (r := (some .int)) (by decide) rfl (by first | decide | exact Nat.le_of_ble_eq_true rfl) ?_
  intro p e s m below meth c ls F hr hlk hW hS hl
  have hl : lv_has ls 2 [(0, .int a0), (1, .int a1)] := hl
  obtain ⟨hx, hb, hml, hown, hts⟩ := id F.1
  have hK := F.2.1.1
  obtain ⟨r, h⟩ : ∃ r, fX13_apart a0 a1 = r := ⟨_, rfl⟩
  rw [h]
  unfold fX13_apart at h
  refine lv_iload_n hx hb dX13_apart_0 rfl (lv_at hl 0 rfl) ?_
  refine lv_bipush (v := 8) hx hb dX13_apart_1 (by decide) ?_
  refine lv_idiv hx hb dX13_apart_3 (by decide) ?_
  refine lv_iload_n hx hb dX13_apart_4 rfl (lv_at hl 1 rfl) ?_
  refine lv_bipush (v := 8) hx hb dX13_apart_5 (by decide) ?_
  refine lv_idiv hx hb dX13_apart_7 (by decide) ?_
  refine lv_isub hx hb dX13_apart_8 ?_
  refine x_backi (va_runS (As := [.int ((a0 / 8) - (a1 / 8))]) (rest := []) F.1 (mJ3_abs l E σ ((a0 / 8) - (a1 / 8))) (va_cwS 1 hts (lw_S q1341 q498 q116 q499) rfl rfl rfl (by decide +kernel) ⟨Nat.le_of_ble_eq_true rfl, Nat.le_of_ble_eq_true rfl⟩) ⟨xPc.blind, F.pre hW hS [.int ((a0 / 8) - (a1 / 8))]⟩ rfl rfl hl.1 rfl (lv_room (Nat.le_of_ble_eq_true rfl)) dX13_apart_9 ⟨Nat.le_refl _, Nat.le_refl _⟩) hS (fun H locs hW hS => ?_)
  refine lv_iload_n hx hb dX13_apart_12 rfl (lv_at hl 0 rfl) ?_
  refine lv_bipush (v := 8) hx hb dX13_apart_13 (by decide) ?_
  refine lv_irem hx hb dX13_apart_15 (by decide) ?_
  refine lv_iload_n hx hb dX13_apart_16 rfl (lv_at hl 1 rfl) ?_
  refine lv_bipush (v := 8) hx hb dX13_apart_17 (by decide) ?_
  refine lv_irem hx hb dX13_apart_19 (by decide) ?_
  refine lv_isub hx hb dX13_apart_20 ?_
  refine x_backi (va_runS (As := [.int ((a0 - a0 / 8 * 8) - (a1 - a1 / 8 * 8))]) (rest := [.int (fJ3_abs ((a0 / 8) - (a1 / 8)))]) F.1 (mJ3_abs l E σ ((a0 - a0 / 8 * 8) - (a1 - a1 / 8 * 8))) (va_cwS 1 hts (lw_S q1341 q498 q116 q499) rfl rfl rfl (by decide +kernel) ⟨Nat.le_of_ble_eq_true rfl, Nat.le_of_ble_eq_true rfl⟩) ⟨xPc.blind, F.pre hW hS [.int ((a0 - a0 / 8 * 8) - (a1 - a1 / 8 * 8))]⟩ rfl rfl hl.1 rfl (lv_room (Nat.le_of_ble_eq_true rfl)) dX13_apart_21 ⟨Nat.le_refl _, Nat.le_refl _⟩) hS (fun H locs hW hS => ?_)
  refine lv_iadd hx hb dX13_apart_24 ?_
  subst h
  exact x_iret F hr hlk hW hS dX13_apart_25
/-! WildBellsModel.beside(II)I -/
def fX13_beside (σ : xM) (a1 : Int32) (a2 : Int32) : Option Int32 :=
  if xin a2 4 then (if xin a2 4 then (if (fX13_within ((a1 / 8) + (σ 32 (a2.toNatClampNeg))) 0 7) = 0 then (some (-1)) else (if (fX13_within ((a1 - a1 / 8 * 8) + (σ 33 (a2.toNatClampNeg))) 0 7) = 0 then (some (-1)) else (some ((8 * ((a1 / 8) + (σ 32 (a2.toNatClampNeg)))) + ((a1 - a1 / 8 * 8) + (σ 33 (a2.toNatClampNeg))))))) else none) else none
set_option maxHeartbeats 4000000 in
theorem mX13_beside (l : Launch) (E : xE) (σ : xM) (a1 : Int32) (a2 : Int32) (r : Int32) (h : fX13_beside σ a1 a2 = some r) : Met l yX13_beside (ws_ yX13_beside cX13_beside 5 (some .int)) ({ frames := 1, cells := 0, slots := 0, locals := 22 } : Room) (xPc E σ [.ref (xa E 186), .int a1, .int a2]) (xQc E (.returned (some (.int r))) σ) 0 0 (xA E) := by
  refine x_of (C := RX13) (n := "beside") (d := "(II)I") (r := (some .int)) (by decide) rfl (by first | decide | exact Nat.le_of_ble_eq_true rfl) ?_
  intro p e s m below meth c ls F hr hlk hW hS hl
  have hl : lv_has ls 5 [(0, .ref (xa E 186)), (1, .int a1), (2, .int a2)] := hl
  obtain ⟨hx, hb, hml, hown, hts⟩ := id F.1
  have hK := F.2.1.1
  unfold fX13_beside at h
  refine lv_iload_n hx hb dX13_beside_0 rfl (lv_at hl 1 rfl) ?_
  refine lv_bipush (v := 8) hx hb dX13_beside_1 (by decide) ?_
  refine lv_idiv hx hb dX13_beside_3 (by decide) ?_
  refine lv_aload_n hx hb dX13_beside_4 rfl (lv_at hl 0 rfl) ?_
  refine va_get (D := xD E) (ci := 13) (v := .ref (xa E 191)) (C := RX13) (T := TX13) (N := 24) hx hb hts in_X13 hown hK (xO_M hW) 0 rfl rfl 5 (by decide) (hts _ q1201) (fun _ h9 => h9) rfl dX13_beside_5 ?_
  refine lv_iload_n hx hb dX13_beside_8 rfl (lv_at hl 2 rfl) ?_
  by_cases hi1 : xin a2 4
  · rw [if_pos hi1] at h
    refine va_iald hx hb hK (xV_p hW xp_191) 0 0 rfl rfl hi1 dX13_beside_9 ?_
    refine lv_iadd hx hb dX13_beside_10 ?_
    refine lv_istore_n (lv' := [(3, .int ((a1 / 8) + (σ 32 (a2.toNatClampNeg)))), (0, .ref (xa E 186)), (1, .int a1), (2, .int a2)]) hx hb dX13_beside_11 rfl hl (by decide) rfl (fun ls hl => ?_)
    refine lv_iload_n hx hb dX13_beside_12 rfl (lv_at hl 2 rfl) ?_
    refine lv_bipush (v := 8) hx hb dX13_beside_13 (by decide) ?_
    refine lv_irem hx hb dX13_beside_15 (by decide) ?_
    refine lv_aload_n hx hb dX13_beside_16 rfl (lv_at hl 1 rfl) ?_
    refine va_get (D := xD E) (ci := 13) (v := .ref (xa E 192)) (C := RX13) (T := TX13) (N := 24) hx hb hts in_X13 hown hK (xO_M hW) 0 rfl rfl 6 (by decide) (hts _ q1202) (fun _ h9 => h9) rfl dX13_beside_17 ?_
    refine lv_iload_n hx hb dX13_beside_20 rfl (lv_at hl 3 rfl) ?_
    by_cases hi2 : xin a2 4
    · rw [if_pos hi2] at h
      refine va_iald hx hb hK (xV_p hW xp_192) 0 0 rfl rfl hi2 dX13_beside_21 ?_
      refine lv_iadd hx hb dX13_beside_22 ?_
      refine lv_istore (lv' := [(4, .int ((a1 - a1 / 8 * 8) + (σ 33 (a2.toNatClampNeg)))), (3, .int ((a1 / 8) + (σ 32 (a2.toNatClampNeg)))), (0, .ref (xa E 186)), (1, .int a1), (2, .int a2)]) hx hb dX13_beside_23 hl (by decide) rfl (fun ls hl => ?_)
      refine lv_iload_n hx hb dX13_beside_25 rfl (lv_at hl 1 rfl) ?_
      refine lv_iconst (v := 0) hx hb dX13_beside_26 (by decide) ?_
      refine lv_bipush (v := 7) hx hb dX13_beside_27 (by decide) ?_
      refine x_backi (va_runS (As := [.int ((a1 / 8) + (σ 32 (a2.toNatClampNeg))), .int 0, .int 7]) (rest := []) F.1 (mX13_within l E σ ((a1 / 8) + (σ 32 (a2.toNatClampNeg))) 0 7) (va_cwS 3 hts (lw_S q1276 q1277 q115 q1278) rfl rfl rfl (by decide +kernel) ⟨Nat.le_of_ble_eq_true rfl, Nat.le_of_ble_eq_true rfl⟩) ⟨xPc.blind, F.pre hW hS [.int ((a1 / 8) + (σ 32 (a2.toNatClampNeg))), .int 0, .int 7]⟩ rfl rfl hl.1 rfl (lv_room (Nat.le_of_ble_eq_true rfl)) dX13_beside_29 ⟨Nat.le_refl _, Nat.le_refl _⟩) hS (fun H locs hW hS => ?_)
      refine lv_if_eq (tgt := 56) hx hb dX13_beside_32 (by decide) (fun c3 => ?_) (fun c3 => ?_)
      · rw [if_pos c3] at h
        refine lv_iconst (v := (-1)) hx hb dX13_beside_56 (by decide) ?_
        have h := Option.some.inj h; subst h
        exact x_iret F hr hlk hW hS dX13_beside_57
      · rw [if_neg c3] at h
        refine lv_iload hx hb dX13_beside_35 (lv_at hl 0 rfl) ?_
        refine lv_iconst (v := 0) hx hb dX13_beside_37 (by decide) ?_
        refine lv_bipush (v := 7) hx hb dX13_beside_38 (by decide) ?_
        refine x_backi (va_runS (As := [.int ((a1 - a1 / 8 * 8) + (σ 33 (a2.toNatClampNeg))), .int 0, .int 7]) (rest := []) F.1 (mX13_within l E σ ((a1 - a1 / 8 * 8) + (σ 33 (a2.toNatClampNeg))) 0 7) (va_cwS 3 hts (lw_S q1276 q1277 q115 q1278) rfl rfl rfl (by decide +kernel) ⟨Nat.le_of_ble_eq_true rfl, Nat.le_of_ble_eq_true rfl⟩) ⟨xPc.blind, F.pre hW hS [.int ((a1 - a1 / 8 * 8) + (σ 33 (a2.toNatClampNeg))), .int 0, .int 7]⟩ rfl rfl hl.1 rfl (lv_room (Nat.le_of_ble_eq_true rfl)) dX13_beside_40 ⟨Nat.le_refl _, Nat.le_refl _⟩) hS (fun H locs hW hS => ?_)
        refine lv_if_eq (tgt := 56) hx hb dX13_beside_43 (by decide) (fun c4 => ?_) (fun c4 => ?_)
        · rw [if_pos c4] at h
          refine lv_iconst (v := (-1)) hx hb dX13_beside_56 (by decide) ?_
          have h := Option.some.inj h; subst h
          exact x_iret F hr hlk hW hS dX13_beside_57
        · rw [if_neg c4] at h
          refine lv_bipush (v := 8) hx hb dX13_beside_46 (by decide) ?_
          refine lv_iload_n hx hb dX13_beside_48 rfl (lv_at hl 1 rfl) ?_
          refine lv_imul hx hb dX13_beside_49 ?_
          refine lv_iload hx hb dX13_beside_50 (lv_at hl 0 rfl) ?_
          refine lv_iadd hx hb dX13_beside_52 ?_
          refine lv_goto (tgt := 57) hx hb dX13_beside_53 (by decide) ?_
          have h := Option.some.inj h; subst h
          exact x_iret F hr hlk hW hS dX13_beside_57
    · rw [if_neg hi2] at h; cases h
  · rw [if_neg hi1] at h; cases h
/-! WildBellsModel.hasNet(I)Z -/
def fX13_hasNet (σ : xM) (a1 : Int32) : Option Int32 :=
  if xin (18 + a1) 186 then (if (σ 20 ((18 + a1).toNatClampNeg)) = 1 then (some 1) else (some 0)) else none
set_option maxHeartbeats 4000000 in
theorem mX13_hasNet (l : Launch) (E : xE) (σ : xM) (a1 : Int32) (r : Int32) (h : fX13_hasNet σ a1 = some r) : Met l yX13_hasNet (ws_ yX13_hasNet cX13_hasNet 2 (some .boolean)) ({ frames := 0, cells := 0, slots := 0, locals := 0 } : Room) (xPc E σ [.ref (xa E 186), .int a1]) (xQc E (.returned (some (.int r))) σ) 0 0 (xA E) := by
  refine x_of (C := RX13) (n := "hasNet") (d := "(I)Z") (r := (some .boolean)) (by decide) rfl (by first | decide | exact Nat.le_of_ble_eq_true rfl) ?_
  intro p e s m below meth c ls F hr hlk hW hS hl
  have hl : lv_has ls 2 [(0, .ref (xa E 186)), (1, .int a1)] := hl
  obtain ⟨hx, hb, hml, hown, hts⟩ := id F.1
  have hK := F.2.1.1
  unfold fX13_hasNet at h
  refine lv_aload_n hx hb dX13_hasNet_0 rfl (lv_at hl 0 rfl) ?_
  refine va_get (D := xD E) (ci := 13) (v := .ref (xa E 187)) (C := RX13) (T := TX13) (N := 24) hx hb hts in_X13 hown hK (xO_M hW) 0 rfl rfl 0 (by decide) (hts _ q1196) (fun _ h9 => h9) rfl dX13_hasNet_1 ?_
  refine lv_bipush (v := 18) hx hb dX13_hasNet_4 (by decide) ?_
  refine lv_iload_n hx hb dX13_hasNet_6 rfl (lv_at hl 1 rfl) ?_
  refine lv_iadd hx hb dX13_hasNet_7 ?_
  by_cases hi1 : xin (18 + a1) 186
  · rw [if_pos hi1] at h
    refine va_iald hx hb hK (xV_p hW xp_187) 0 0 rfl rfl hi1 dX13_hasNet_8 ?_
    refine lv_iconst (v := 1) hx hb dX13_hasNet_9 (by decide) ?_
    refine lv_icmp_ne (tgt := 17) hx hb dX13_hasNet_10 (by decide) (fun c2 => ?_) (fun c2 => ?_)
    · rw [if_neg c2] at h
      refine lv_iconst (v := 0) hx hb dX13_hasNet_17 (by decide) ?_
      have h := Option.some.inj h; subst h
      exact x_zret F hr hlk hW hS rfl dX13_hasNet_18
    · rw [if_pos c2] at h
      refine lv_iconst (v := 1) hx hb dX13_hasNet_13 (by decide) ?_
      refine lv_goto (tgt := 18) hx hb dX13_hasNet_14 (by decide) ?_
      have h := Option.some.inj h; subst h
      exact x_zret F hr hlk hW hS rfl dX13_hasNet_18
  · rw [if_neg hi1] at h; cases h
/-! WildBellsModel.net(II)I -/
def fX13_net (σ : xM) (a1 : Int32) (a2 : Int32) : Option (Int32 × xM) :=
  if (fX13_isCell a1) = 0 then ((fX13_finding σ (-1000001)).bind (fun r3 => some (r3.1, r3.2))) else (if (fX13_within a2 0 1) = 0 then ((fX13_finding σ (-1000001)).bind (fun r9 => some (r9.1, r9.2))) else ((fX13_become σ (18 + a1) a2).bind (fun r6 => if r6.1 = a2 then (some (0, r6.2)) else (some (1, r6.2)))))
set_option maxHeartbeats 4000000 in
theorem mX13_net (l : Launch) (E : xE) (σ : xM) (a1 : Int32) (a2 : Int32) (r : Int32) (σ' : xM) (h : fX13_net σ a1 a2 = some (r, σ')) : Met l yX13_net (ws_ yX13_net cX13_net 3 (some .int)) ({ frames := 2, cells := 0, slots := 0, locals := 42 } : Room) (xPc E σ [.ref (xa E 186), .int a1, .int a2]) (xQc E (.returned (some (.int r))) σ') 0 0 (xA E) := by
  refine x_of (C := RX13) (n := "net") (d := "(II)I") (r := (some .int)) (by decide) rfl (by first | decide | exact Nat.le_of_ble_eq_true rfl) ?_
  intro p e s m below meth c ls F hr hlk hW hS hl
  have hl : lv_has ls 3 [(0, .ref (xa E 186)), (1, .int a1), (2, .int a2)] := hl
  obtain ⟨hx, hb, hml, hown, hts⟩ := id F.1
  have hK := F.2.1.1
  unfold fX13_net at h
  refine lv_iload_n hx hb dX13_net_0 rfl (lv_at hl 1 rfl) ?_
  refine x_backi (va_runS (As := [.int a1]) (rest := []) F.1 (mX13_isCell l E σ a1) (va_cwS 1 hts (lw_S q1273 q1274 q115 q1275) rfl rfl rfl (by decide +kernel) ⟨Nat.le_of_ble_eq_true rfl, Nat.le_of_ble_eq_true rfl⟩) ⟨xPc.blind, F.pre hW hS [.int a1]⟩ rfl rfl hl.1 rfl (lv_room (Nat.le_of_ble_eq_true rfl)) dX13_net_1 ⟨Nat.le_refl _, Nat.le_refl _⟩) hS (fun H locs hW hS => ?_)
  refine lv_if_eq (tgt := 16) hx hb dX13_net_4 (by decide) (fun c1 => ?_) (fun c1 => ?_)
  · rw [if_pos c1] at h
    refine lv_aload_n hx hb dX13_net_16 rfl (lv_at hl 0 rfl) ?_
    refine lv_ldc (v := (-1000001)) hx hb hown (hts _ q1279) dX13_net_17 ?_
    cases g2 : fX13_finding σ (-1000001) with
    | none => rw [g2] at h; cases h
    | some r3 =>
      rw [g2, Option.bind_some] at h
      refine x_backi (va_runV (C := RX13) (b := (xa E 186)) (As := [.int (-1000001)]) (rest := []) F.1 (mX13_finding l E σ (-1000001) r3.1 r3.2 g2) (cwV 1 hts (lw_V q1280 q1282 qs52 q115 q1283) rfl rfl rfl (by decide +kernel) ⟨Nat.le_of_ble_eq_true rfl, Nat.le_of_ble_eq_true rfl⟩) ⟨xPc.blind, va_recv hK (xO_M hW) (ci := 13) (q0 := 0) rfl rfl, F.pre hW hS (.ref (xa E 186) :: [.int (-1000001)])⟩ rfl rfl hl.1 rfl (lv_room (Nat.le_of_ble_eq_true rfl)) dX13_net_19 ⟨Nat.le_refl _, Nat.le_refl _⟩) hS (fun H locs hW hS => ?_)
      obtain ⟨h1, h2⟩ := Prod.mk.inj (Option.some.inj h); subst h1; subst h2
      exact x_iret F hr hlk hW hS dX13_net_22
  · rw [if_neg c1] at h
    refine lv_iload_n hx hb dX13_net_7 rfl (lv_at hl 2 rfl) ?_
    refine lv_iconst (v := 0) hx hb dX13_net_8 (by decide) ?_
    refine lv_iconst (v := 1) hx hb dX13_net_9 (by decide) ?_
    refine x_backi (va_runS (As := [.int a2, .int 0, .int 1]) (rest := []) F.1 (mX13_within l E σ a2 0 1) (va_cwS 3 hts (lw_S q1276 q1277 q115 q1278) rfl rfl rfl (by decide +kernel) ⟨Nat.le_of_ble_eq_true rfl, Nat.le_of_ble_eq_true rfl⟩) ⟨xPc.blind, F.pre hW hS [.int a2, .int 0, .int 1]⟩ rfl rfl hl.1 rfl (lv_room (Nat.le_of_ble_eq_true rfl)) dX13_net_10 ⟨Nat.le_refl _, Nat.le_refl _⟩) hS (fun H locs hW hS => ?_)
    refine lv_if_ne (tgt := 23) hx hb dX13_net_13 (by decide) (fun c4 => ?_) (fun c4 => ?_)
    · rw [if_neg c4] at h
      refine lv_aload_n hx hb dX13_net_23 rfl (lv_at hl 0 rfl) ?_
      refine lv_bipush (v := 18) hx hb dX13_net_24 (by decide) ?_
      refine lv_iload_n hx hb dX13_net_26 rfl (lv_at hl 1 rfl) ?_
      refine lv_iadd hx hb dX13_net_27 ?_
      refine lv_iload_n hx hb dX13_net_28 rfl (lv_at hl 2 rfl) ?_
      cases g5 : fX13_become σ (18 + a1) a2 with
      | none => rw [g5] at h; cases h
      | some r6 =>
        rw [g5, Option.bind_some] at h
        refine x_backi (va_runV (C := RX13) (b := (xa E 186)) (As := [.int (18 + a1), .int a2]) (rest := []) F.1 (mX13_become l E σ (18 + a1) a2 r6.1 r6.2 g5) (cwV 2 hts (lw_V q1284 q1286 qs53 q115 q1287) rfl rfl rfl (by decide +kernel) ⟨Nat.le_of_ble_eq_true rfl, Nat.le_of_ble_eq_true rfl⟩) ⟨xPc.blind, va_recv hK (xO_M hW) (ci := 13) (q0 := 0) rfl rfl, F.pre hW hS (.ref (xa E 186) :: [.int (18 + a1), .int a2])⟩ rfl rfl hl.1 rfl (lv_room (Nat.le_of_ble_eq_true rfl)) dX13_net_29 ⟨Nat.le_refl _, Nat.le_refl _⟩) hS (fun H locs hW hS => ?_)
        refine lv_iload_n hx hb dX13_net_32 rfl (lv_at hl 2 rfl) ?_
        refine lv_icmp_ne (tgt := 40) hx hb dX13_net_33 (by decide) (fun c7 => ?_) (fun c7 => ?_)
        · rw [if_neg c7] at h
          refine lv_iconst (v := 1) hx hb dX13_net_40 (by decide) ?_
          obtain ⟨h1, h2⟩ := Prod.mk.inj (Option.some.inj h); subst h1; subst h2
          exact x_iret F hr hlk hW hS dX13_net_41
        · rw [if_pos c7] at h
          refine lv_iconst (v := 0) hx hb dX13_net_36 (by decide) ?_
          refine lv_goto (tgt := 41) hx hb dX13_net_37 (by decide) ?_
          obtain ⟨h1, h2⟩ := Prod.mk.inj (Option.some.inj h); subst h1; subst h2
          exact x_iret F hr hlk hW hS dX13_net_41
    · rw [if_pos c4] at h
      refine lv_aload_n hx hb dX13_net_16 rfl (lv_at hl 0 rfl) ?_
      refine lv_ldc (v := (-1000001)) hx hb hown (hts _ q1279) dX13_net_17 ?_
      cases g8 : fX13_finding σ (-1000001) with
      | none => rw [g8] at h; cases h
      | some r9 =>
        rw [g8, Option.bind_some] at h
        refine x_backi (va_runV (C := RX13) (b := (xa E 186)) (As := [.int (-1000001)]) (rest := []) F.1 (mX13_finding l E σ (-1000001) r9.1 r9.2 g8) (cwV 1 hts (lw_V q1280 q1282 qs52 q115 q1283) rfl rfl rfl (by decide +kernel) ⟨Nat.le_of_ble_eq_true rfl, Nat.le_of_ble_eq_true rfl⟩) ⟨xPc.blind, va_recv hK (xO_M hW) (ci := 13) (q0 := 0) rfl rfl, F.pre hW hS (.ref (xa E 186) :: [.int (-1000001)])⟩ rfl rfl hl.1 rfl (lv_room (Nat.le_of_ble_eq_true rfl)) dX13_net_19 ⟨Nat.le_refl _, Nat.le_refl _⟩) hS (fun H locs hW hS => ?_)
        obtain ⟨h1, h2⟩ := Prod.mk.inj (Option.some.inj h); subst h1; subst h2
        exact x_iret F hr hlk hW hS dX13_net_22
/-! WildBellsModel.thick(II)I -/
def fX13_thick (σ : xM) (a1 : Int32) (a2 : Int32) : Option (Int32 × xM) :=
  if (fX13_isCell a1) = 0 then ((fX13_finding σ (-1000001)).bind (fun r3 => some (r3.1, r3.2))) else (if (fX13_within a2 0 9) = 0 then ((fX13_finding σ (-1000001)).bind (fun r6 => some (r6.1, r6.2))) else ((fX13_become σ (82 + a1) a2).bind (fun r8 => some (r8.1, r8.2))))
set_option maxHeartbeats 4000000 in
theorem mX13_thick (l : Launch) (E : xE) (σ : xM) (a1 : Int32) (a2 : Int32) (r : Int32) (σ' : xM) (h : fX13_thick σ a1 a2 = some (r, σ')) : Met l yX13_thick (ws_ yX13_thick cX13_thick 3 (some .int)) ({ frames := 2, cells := 0, slots := 0, locals := 42 } : Room) (xPc E σ [.ref (xa E 186), .int a1, .int a2]) (xQc E (.returned (some (.int r))) σ') 0 0 (xA E) := by
  refine x_of (C := RX13) (n := "thick") (d := "(II)I") (r := (some .int)) (by decide) rfl (by first | decide | exact Nat.le_of_ble_eq_true rfl) ?_
  intro p e s m below meth c ls F hr hlk hW hS hl
  have hl : lv_has ls 3 [(0, .ref (xa E 186)), (1, .int a1), (2, .int a2)] := hl
  obtain ⟨hx, hb, hml, hown, hts⟩ := id F.1
  have hK := F.2.1.1
  unfold fX13_thick at h
  refine lv_iload_n hx hb dX13_thick_0 rfl (lv_at hl 1 rfl) ?_
  refine x_backi (va_runS (As := [.int a1]) (rest := []) F.1 (mX13_isCell l E σ a1) (va_cwS 1 hts (lw_S q1273 q1274 q115 q1275) rfl rfl rfl (by decide +kernel) ⟨Nat.le_of_ble_eq_true rfl, Nat.le_of_ble_eq_true rfl⟩) ⟨xPc.blind, F.pre hW hS [.int a1]⟩ rfl rfl hl.1 rfl (lv_room (Nat.le_of_ble_eq_true rfl)) dX13_thick_1 ⟨Nat.le_refl _, Nat.le_refl _⟩) hS (fun H locs hW hS => ?_)
  refine lv_if_eq (tgt := 29) hx hb dX13_thick_4 (by decide) (fun c1 => ?_) (fun c1 => ?_)
  · rw [if_pos c1] at h
    refine lv_aload_n hx hb dX13_thick_29 rfl (lv_at hl 0 rfl) ?_
    refine lv_ldc (v := (-1000001)) hx hb hown (hts _ q1279) dX13_thick_30 ?_
    cases g2 : fX13_finding σ (-1000001) with
    | none => rw [g2] at h; cases h
    | some r3 =>
      rw [g2, Option.bind_some] at h
      refine x_backi (va_runV (C := RX13) (b := (xa E 186)) (As := [.int (-1000001)]) (rest := []) F.1 (mX13_finding l E σ (-1000001) r3.1 r3.2 g2) (cwV 1 hts (lw_V q1280 q1282 qs52 q115 q1283) rfl rfl rfl (by decide +kernel) ⟨Nat.le_of_ble_eq_true rfl, Nat.le_of_ble_eq_true rfl⟩) ⟨xPc.blind, va_recv hK (xO_M hW) (ci := 13) (q0 := 0) rfl rfl, F.pre hW hS (.ref (xa E 186) :: [.int (-1000001)])⟩ rfl rfl hl.1 rfl (lv_room (Nat.le_of_ble_eq_true rfl)) dX13_thick_32 ⟨Nat.le_refl _, Nat.le_refl _⟩) hS (fun H locs hW hS => ?_)
      obtain ⟨h1, h2⟩ := Prod.mk.inj (Option.some.inj h); subst h1; subst h2
      exact x_iret F hr hlk hW hS dX13_thick_35
  · rw [if_neg c1] at h
    refine lv_iload_n hx hb dX13_thick_7 rfl (lv_at hl 2 rfl) ?_
    refine lv_iconst (v := 0) hx hb dX13_thick_8 (by decide) ?_
    refine lv_bipush (v := 9) hx hb dX13_thick_9 (by decide) ?_
    refine x_backi (va_runS (As := [.int a2, .int 0, .int 9]) (rest := []) F.1 (mX13_within l E σ a2 0 9) (va_cwS 3 hts (lw_S q1276 q1277 q115 q1278) rfl rfl rfl (by decide +kernel) ⟨Nat.le_of_ble_eq_true rfl, Nat.le_of_ble_eq_true rfl⟩) ⟨xPc.blind, F.pre hW hS [.int a2, .int 0, .int 9]⟩ rfl rfl hl.1 rfl (lv_room (Nat.le_of_ble_eq_true rfl)) dX13_thick_11 ⟨Nat.le_refl _, Nat.le_refl _⟩) hS (fun H locs hW hS => ?_)
    refine lv_if_eq (tgt := 29) hx hb dX13_thick_14 (by decide) (fun c4 => ?_) (fun c4 => ?_)
    · rw [if_pos c4] at h
      refine lv_aload_n hx hb dX13_thick_29 rfl (lv_at hl 0 rfl) ?_
      refine lv_ldc (v := (-1000001)) hx hb hown (hts _ q1279) dX13_thick_30 ?_
      cases g5 : fX13_finding σ (-1000001) with
      | none => rw [g5] at h; cases h
      | some r6 =>
        rw [g5, Option.bind_some] at h
        refine x_backi (va_runV (C := RX13) (b := (xa E 186)) (As := [.int (-1000001)]) (rest := []) F.1 (mX13_finding l E σ (-1000001) r6.1 r6.2 g5) (cwV 1 hts (lw_V q1280 q1282 qs52 q115 q1283) rfl rfl rfl (by decide +kernel) ⟨Nat.le_of_ble_eq_true rfl, Nat.le_of_ble_eq_true rfl⟩) ⟨xPc.blind, va_recv hK (xO_M hW) (ci := 13) (q0 := 0) rfl rfl, F.pre hW hS (.ref (xa E 186) :: [.int (-1000001)])⟩ rfl rfl hl.1 rfl (lv_room (Nat.le_of_ble_eq_true rfl)) dX13_thick_32 ⟨Nat.le_refl _, Nat.le_refl _⟩) hS (fun H locs hW hS => ?_)
        obtain ⟨h1, h2⟩ := Prod.mk.inj (Option.some.inj h); subst h1; subst h2
        exact x_iret F hr hlk hW hS dX13_thick_35
    · rw [if_neg c4] at h
      refine lv_aload_n hx hb dX13_thick_17 rfl (lv_at hl 0 rfl) ?_
      refine lv_bipush (v := 82) hx hb dX13_thick_18 (by decide) ?_
      refine lv_iload_n hx hb dX13_thick_20 rfl (lv_at hl 1 rfl) ?_
      refine lv_iadd hx hb dX13_thick_21 ?_
      refine lv_iload_n hx hb dX13_thick_22 rfl (lv_at hl 2 rfl) ?_
      cases g7 : fX13_become σ (82 + a1) a2 with
      | none => rw [g7] at h; cases h
      | some r8 =>
        rw [g7, Option.bind_some] at h
        refine x_backi (va_runV (C := RX13) (b := (xa E 186)) (As := [.int (82 + a1), .int a2]) (rest := []) F.1 (mX13_become l E σ (82 + a1) a2 r8.1 r8.2 g7) (cwV 2 hts (lw_V q1284 q1286 qs53 q115 q1287) rfl rfl rfl (by decide +kernel) ⟨Nat.le_of_ble_eq_true rfl, Nat.le_of_ble_eq_true rfl⟩) ⟨xPc.blind, va_recv hK (xO_M hW) (ci := 13) (q0 := 0) rfl rfl, F.pre hW hS (.ref (xa E 186) :: [.int (82 + a1), .int a2])⟩ rfl rfl hl.1 rfl (lv_room (Nat.le_of_ble_eq_true rfl)) dX13_thick_23 ⟨Nat.le_refl _, Nat.le_refl _⟩) hS (fun H locs hW hS => ?_)
        refine lv_goto (tgt := 35) hx hb dX13_thick_26 (by decide) ?_
        obtain ⟨h1, h2⟩ := Prod.mk.inj (Option.some.inj h); subst h1; subst h2
        exact x_iret F hr hlk hW hS dX13_thick_35
/-! WildBellsModel.isHunter(I)Z -/
def fX13_isHunter (a0 : Int32) : Int32 :=
  (fX13_within a0 0 3)
theorem bX13_isHunter (a0 : Int32) : narrow .boolean (.int (fX13_isHunter a0)) = .int (fX13_isHunter a0) := by
  unfold fX13_isHunter
  first
    | (repeat' split) <;> rfl
    | exact bX0_in _ _ _
    | exact bX13_within _ _ _
    | ((repeat' split) <;> first | rfl | exact bX0_in _ _ _ | exact bX0_isKind _ | exact bX0_isCell _ | exact bX0_isWeight _)
    | ((repeat' split) <;> first | rfl | exact bX13_within _ _ _ | exact bX13_isKind _ | exact bX13_isCell _)
set_option maxHeartbeats 4000000 in
theorem mX13_isHunter (l : Launch) (E : xE) (σ : xM) (a0 : Int32) : Met l yX13_isHunter (ws_ yX13_isHunter cX13_isHunter 1 (some .boolean)) ({ frames := 1, cells := 0, slots := 0, locals := 22 } : Room) (xPc E σ [.int a0]) (xQc E (.returned (some (.int (fX13_isHunter a0)))) σ) 0 0 (xA E) := by
  refine x_of (C := RX13) (n := "isHunter") (d := "(I)Z") (r := (some .boolean)) (by decide) rfl (by first | decide | exact Nat.le_of_ble_eq_true rfl) ?_
  intro p e s m below meth c ls F hr hlk hW hS hl
  have hl : lv_has ls 1 [(0, .int a0)] := hl
  obtain ⟨hx, hb, hml, hown, hts⟩ := id F.1
  have hK := F.2.1.1
  obtain ⟨r, h⟩ : ∃ r, fX13_isHunter a0 = r := ⟨_, rfl⟩
  rw [h]
  unfold fX13_isHunter at h
  refine lv_iload_n hx hb dX13_isHunter_0 rfl (lv_at hl 0 rfl) ?_
  refine lv_iconst (v := 0) hx hb dX13_isHunter_1 (by decide) ?_
  refine lv_iconst (v := 3) hx hb dX13_isHunter_2 (by decide) ?_
  refine x_backi (va_runS (As := [.int a0, .int 0, .int 3]) (rest := []) F.1 (mX13_within l E σ a0 0 3) (va_cwS 3 hts (lw_S q1276 q1277 q115 q1278) rfl rfl rfl (by decide +kernel) ⟨Nat.le_of_ble_eq_true rfl, Nat.le_of_ble_eq_true rfl⟩) ⟨xPc.blind, F.pre hW hS [.int a0, .int 0, .int 3]⟩ rfl rfl hl.1 rfl (lv_room (Nat.le_of_ble_eq_true rfl)) dX13_isHunter_3 ⟨Nat.le_refl _, Nat.le_refl _⟩) hS (fun H locs hW hS => ?_)
  subst h
  exact x_zret F hr hlk hW hS (by first | exact bX13_within _ _ _ | rfl) dX13_isHunter_6
/-! WildBellsModel.hunter(II)I -/
def fX13_hunter (σ : xM) (a1 : Int32) (a2 : Int32) : Option (Int32 × xM) :=
  if (fX13_isHunter a1) = 0 then ((fX13_finding σ (-1000001)).bind (fun r3 => some (r3.1, r3.2))) else (if (fX13_within a2 (-1) 63) = 0 then ((fX13_finding σ (-1000001)).bind (fun r6 => some (r6.1, r6.2))) else ((fX13_become σ (14 + a1) a2).bind (fun r8 => some (r8.1, r8.2))))
set_option maxHeartbeats 4000000 in
theorem mX13_hunter (l : Launch) (E : xE) (σ : xM) (a1 : Int32) (a2 : Int32) (r : Int32) (σ' : xM) (h : fX13_hunter σ a1 a2 = some (r, σ')) : Met l yX13_hunter (ws_ yX13_hunter cX13_hunter 3 (some .int)) ({ frames := 2, cells := 0, slots := 0, locals := 42 } : Room) (xPc E σ [.ref (xa E 186), .int a1, .int a2]) (xQc E (.returned (some (.int r))) σ') 0 0 (xA E) := by
  refine x_of (C := RX13) (n := "hunter") (d := "(II)I") (r := (some .int)) (by decide) rfl (by first | decide | exact Nat.le_of_ble_eq_true rfl) ?_
  intro p e s m below meth c ls F hr hlk hW hS hl
  have hl : lv_has ls 3 [(0, .ref (xa E 186)), (1, .int a1), (2, .int a2)] := hl
  obtain ⟨hx, hb, hml, hown, hts⟩ := id F.1
  have hK := F.2.1.1
  unfold fX13_hunter at h
  refine lv_iload_n hx hb dX13_hunter_0 rfl (lv_at hl 1 rfl) ?_
  refine x_backi (va_runS (As := [.int a1]) (rest := []) F.1 (mX13_isHunter l E σ a1) (va_cwS 1 hts (lw_S q1296 q1297 q115 q1298) rfl rfl rfl (by decide +kernel) ⟨Nat.le_of_ble_eq_true rfl, Nat.le_of_ble_eq_true rfl⟩) ⟨xPc.blind, F.pre hW hS [.int a1]⟩ rfl rfl hl.1 rfl (lv_room (Nat.le_of_ble_eq_true rfl)) dX13_hunter_1 ⟨Nat.le_refl _, Nat.le_refl _⟩) hS (fun H locs hW hS => ?_)
  refine lv_if_eq (tgt := 29) hx hb dX13_hunter_4 (by decide) (fun c1 => ?_) (fun c1 => ?_)
  · rw [if_pos c1] at h
    refine lv_aload_n hx hb dX13_hunter_29 rfl (lv_at hl 0 rfl) ?_
    refine lv_ldc (v := (-1000001)) hx hb hown (hts _ q1279) dX13_hunter_30 ?_
    cases g2 : fX13_finding σ (-1000001) with
    | none => rw [g2] at h; cases h
    | some r3 =>
      rw [g2, Option.bind_some] at h
      refine x_backi (va_runV (C := RX13) (b := (xa E 186)) (As := [.int (-1000001)]) (rest := []) F.1 (mX13_finding l E σ (-1000001) r3.1 r3.2 g2) (cwV 1 hts (lw_V q1280 q1282 qs52 q115 q1283) rfl rfl rfl (by decide +kernel) ⟨Nat.le_of_ble_eq_true rfl, Nat.le_of_ble_eq_true rfl⟩) ⟨xPc.blind, va_recv hK (xO_M hW) (ci := 13) (q0 := 0) rfl rfl, F.pre hW hS (.ref (xa E 186) :: [.int (-1000001)])⟩ rfl rfl hl.1 rfl (lv_room (Nat.le_of_ble_eq_true rfl)) dX13_hunter_32 ⟨Nat.le_refl _, Nat.le_refl _⟩) hS (fun H locs hW hS => ?_)
      obtain ⟨h1, h2⟩ := Prod.mk.inj (Option.some.inj h); subst h1; subst h2
      exact x_iret F hr hlk hW hS dX13_hunter_35
  · rw [if_neg c1] at h
    refine lv_iload_n hx hb dX13_hunter_7 rfl (lv_at hl 2 rfl) ?_
    refine lv_iconst (v := (-1)) hx hb dX13_hunter_8 (by decide) ?_
    refine lv_bipush (v := 63) hx hb dX13_hunter_9 (by decide) ?_
    refine x_backi (va_runS (As := [.int a2, .int (-1), .int 63]) (rest := []) F.1 (mX13_within l E σ a2 (-1) 63) (va_cwS 3 hts (lw_S q1276 q1277 q115 q1278) rfl rfl rfl (by decide +kernel) ⟨Nat.le_of_ble_eq_true rfl, Nat.le_of_ble_eq_true rfl⟩) ⟨xPc.blind, F.pre hW hS [.int a2, .int (-1), .int 63]⟩ rfl rfl hl.1 rfl (lv_room (Nat.le_of_ble_eq_true rfl)) dX13_hunter_11 ⟨Nat.le_refl _, Nat.le_refl _⟩) hS (fun H locs hW hS => ?_)
    refine lv_if_eq (tgt := 29) hx hb dX13_hunter_14 (by decide) (fun c4 => ?_) (fun c4 => ?_)
    · rw [if_pos c4] at h
      refine lv_aload_n hx hb dX13_hunter_29 rfl (lv_at hl 0 rfl) ?_
      refine lv_ldc (v := (-1000001)) hx hb hown (hts _ q1279) dX13_hunter_30 ?_
      cases g5 : fX13_finding σ (-1000001) with
      | none => rw [g5] at h; cases h
      | some r6 =>
        rw [g5, Option.bind_some] at h
        refine x_backi (va_runV (C := RX13) (b := (xa E 186)) (As := [.int (-1000001)]) (rest := []) F.1 (mX13_finding l E σ (-1000001) r6.1 r6.2 g5) (cwV 1 hts (lw_V q1280 q1282 qs52 q115 q1283) rfl rfl rfl (by decide +kernel) ⟨Nat.le_of_ble_eq_true rfl, Nat.le_of_ble_eq_true rfl⟩) ⟨xPc.blind, va_recv hK (xO_M hW) (ci := 13) (q0 := 0) rfl rfl, F.pre hW hS (.ref (xa E 186) :: [.int (-1000001)])⟩ rfl rfl hl.1 rfl (lv_room (Nat.le_of_ble_eq_true rfl)) dX13_hunter_32 ⟨Nat.le_refl _, Nat.le_refl _⟩) hS (fun H locs hW hS => ?_)
        obtain ⟨h1, h2⟩ := Prod.mk.inj (Option.some.inj h); subst h1; subst h2
        exact x_iret F hr hlk hW hS dX13_hunter_35
    · rw [if_neg c4] at h
      refine lv_aload_n hx hb dX13_hunter_17 rfl (lv_at hl 0 rfl) ?_
      refine lv_bipush (v := 14) hx hb dX13_hunter_18 (by decide) ?_
      refine lv_iload_n hx hb dX13_hunter_20 rfl (lv_at hl 1 rfl) ?_
      refine lv_iadd hx hb dX13_hunter_21 ?_
      refine lv_iload_n hx hb dX13_hunter_22 rfl (lv_at hl 2 rfl) ?_
      cases g7 : fX13_become σ (14 + a1) a2 with
      | none => rw [g7] at h; cases h
      | some r8 =>
        rw [g7, Option.bind_some] at h
        refine x_backi (va_runV (C := RX13) (b := (xa E 186)) (As := [.int (14 + a1), .int a2]) (rest := []) F.1 (mX13_become l E σ (14 + a1) a2 r8.1 r8.2 g7) (cwV 2 hts (lw_V q1284 q1286 qs53 q115 q1287) rfl rfl rfl (by decide +kernel) ⟨Nat.le_of_ble_eq_true rfl, Nat.le_of_ble_eq_true rfl⟩) ⟨xPc.blind, va_recv hK (xO_M hW) (ci := 13) (q0 := 0) rfl rfl, F.pre hW hS (.ref (xa E 186) :: [.int (14 + a1), .int a2])⟩ rfl rfl hl.1 rfl (lv_room (Nat.le_of_ble_eq_true rfl)) dX13_hunter_23 ⟨Nat.le_refl _, Nat.le_refl _⟩) hS (fun H locs hW hS => ?_)
        refine lv_goto (tgt := 35) hx hb dX13_hunter_26 (by decide) ?_
        obtain ⟨h1, h2⟩ := Prod.mk.inj (Option.some.inj h); subst h1; subst h2
        exact x_iret F hr hlk hW hS dX13_hunter_35
/-! WildBellsModel.fear(I)I -/
def fX13_fear (σ : xM) (a1 : Int32) : Option (Int32 × xM) :=
  if (fX13_within a1 0 9) = 0 then ((fX13_finding σ (-1000001)).bind (fun r3 => some (r3.1, r3.2))) else ((fX13_become σ 1 a1).bind (fun r5 => some (r5.1, r5.2)))
set_option maxHeartbeats 4000000 in
theorem mX13_fear (l : Launch) (E : xE) (σ : xM) (a1 : Int32) (r : Int32) (σ' : xM) (h : fX13_fear σ a1 = some (r, σ')) : Met l yX13_fear (ws_ yX13_fear cX13_fear 2 (some .int)) ({ frames := 1, cells := 0, slots := 0, locals := 23 } : Room) (xPc E σ [.ref (xa E 186), .int a1]) (xQc E (.returned (some (.int r))) σ') 0 0 (xA E) := by
  refine x_of (C := RX13) (n := "fear") (d := "(I)I") (r := (some .int)) (by decide) rfl (by first | decide | exact Nat.le_of_ble_eq_true rfl) ?_
  intro p e s m below meth c ls F hr hlk hW hS hl
  have hl : lv_has ls 2 [(0, .ref (xa E 186)), (1, .int a1)] := hl
  obtain ⟨hx, hb, hml, hown, hts⟩ := id F.1
  have hK := F.2.1.1
  unfold fX13_fear at h
  refine lv_iload_n hx hb dX13_fear_0 rfl (lv_at hl 1 rfl) ?_
  refine lv_iconst (v := 0) hx hb dX13_fear_1 (by decide) ?_
  refine lv_bipush (v := 9) hx hb dX13_fear_2 (by decide) ?_
  refine x_backi (va_runS (As := [.int a1, .int 0, .int 9]) (rest := []) F.1 (mX13_within l E σ a1 0 9) (va_cwS 3 hts (lw_S q1276 q1277 q115 q1278) rfl rfl rfl (by decide +kernel) ⟨Nat.le_of_ble_eq_true rfl, Nat.le_of_ble_eq_true rfl⟩) ⟨xPc.blind, F.pre hW hS [.int a1, .int 0, .int 9]⟩ rfl rfl hl.1 rfl (lv_room (Nat.le_of_ble_eq_true rfl)) dX13_fear_4 ⟨Nat.le_refl _, Nat.le_refl _⟩) hS (fun H locs hW hS => ?_)
  refine lv_if_eq (tgt := 19) hx hb dX13_fear_7 (by decide) (fun c1 => ?_) (fun c1 => ?_)
  · rw [if_pos c1] at h
    refine lv_aload_n hx hb dX13_fear_19 rfl (lv_at hl 0 rfl) ?_
    refine lv_ldc (v := (-1000001)) hx hb hown (hts _ q1279) dX13_fear_20 ?_
    cases g2 : fX13_finding σ (-1000001) with
    | none => rw [g2] at h; cases h
    | some r3 =>
      rw [g2, Option.bind_some] at h
      refine x_backi (va_runV (C := RX13) (b := (xa E 186)) (As := [.int (-1000001)]) (rest := []) F.1 (mX13_finding l E σ (-1000001) r3.1 r3.2 g2) (cwV 1 hts (lw_V q1280 q1282 qs52 q115 q1283) rfl rfl rfl (by decide +kernel) ⟨Nat.le_of_ble_eq_true rfl, Nat.le_of_ble_eq_true rfl⟩) ⟨xPc.blind, va_recv hK (xO_M hW) (ci := 13) (q0 := 0) rfl rfl, F.pre hW hS (.ref (xa E 186) :: [.int (-1000001)])⟩ rfl rfl hl.1 rfl (lv_room (Nat.le_of_ble_eq_true rfl)) dX13_fear_22 ⟨Nat.le_refl _, Nat.le_refl _⟩) hS (fun H locs hW hS => ?_)
      obtain ⟨h1, h2⟩ := Prod.mk.inj (Option.some.inj h); subst h1; subst h2
      exact x_iret F hr hlk hW hS dX13_fear_25
  · rw [if_neg c1] at h
    refine lv_aload_n hx hb dX13_fear_10 rfl (lv_at hl 0 rfl) ?_
    refine lv_iconst (v := 1) hx hb dX13_fear_11 (by decide) ?_
    refine lv_iload_n hx hb dX13_fear_12 rfl (lv_at hl 1 rfl) ?_
    cases g4 : fX13_become σ 1 a1 with
    | none => rw [g4] at h; cases h
    | some r5 =>
      rw [g4, Option.bind_some] at h
      refine x_backi (va_runV (C := RX13) (b := (xa E 186)) (As := [.int 1, .int a1]) (rest := []) F.1 (mX13_become l E σ 1 a1 r5.1 r5.2 g4) (cwV 2 hts (lw_V q1284 q1286 qs53 q115 q1287) rfl rfl rfl (by decide +kernel) ⟨Nat.le_of_ble_eq_true rfl, Nat.le_of_ble_eq_true rfl⟩) ⟨xPc.blind, va_recv hK (xO_M hW) (ci := 13) (q0 := 0) rfl rfl, F.pre hW hS (.ref (xa E 186) :: [.int 1, .int a1])⟩ rfl rfl hl.1 rfl (lv_room (Nat.le_of_ble_eq_true rfl)) dX13_fear_13 ⟨Nat.le_refl _, Nat.le_refl _⟩) hS (fun H locs hW hS => ?_)
      refine lv_goto (tgt := 25) hx hb dX13_fear_16 (by decide) ?_
      obtain ⟨h1, h2⟩ := Prod.mk.inj (Option.some.inj h); subst h1; subst h2
      exact x_iret F hr hlk hW hS dX13_fear_25
/-! WildBellsModel.isBell(I)Z -/
def fX13_isBell (σ : xM) (a1 : Int32) : Option Int32 :=
  if (fX13_within a1 0 ((σ 20 ((2 : Int32).toNatClampNeg)) - 1)) = 0 ∨ (fX13_within a1 0 ((σ 20 ((2 : Int32).toNatClampNeg)) - 1)) = 1 then (some (fX13_within a1 0 ((σ 20 ((2 : Int32).toNatClampNeg)) - 1))) else none
set_option maxHeartbeats 4000000 in
theorem mX13_isBell (l : Launch) (E : xE) (σ : xM) (a1 : Int32) (r : Int32) (h : fX13_isBell σ a1 = some r) : Met l yX13_isBell (ws_ yX13_isBell cX13_isBell 2 (some .boolean)) ({ frames := 1, cells := 0, slots := 0, locals := 22 } : Room) (xPc E σ [.ref (xa E 186), .int a1]) (xQc E (.returned (some (.int r))) σ) 0 0 (xA E) := by
  refine x_of (C := RX13) (n := "isBell") (d := "(I)Z") (r := (some .boolean)) (by decide) rfl (by first | decide | exact Nat.le_of_ble_eq_true rfl) ?_
  intro p e s m below meth c ls F hr hlk hW hS hl
  have hl : lv_has ls 2 [(0, .ref (xa E 186)), (1, .int a1)] := hl
  obtain ⟨hx, hb, hml, hown, hts⟩ := id F.1
  have hK := F.2.1.1
  unfold fX13_isBell at h
  refine lv_iload_n hx hb dX13_isBell_0 rfl (lv_at hl 1 rfl) ?_
  refine lv_iconst (v := 0) hx hb dX13_isBell_1 (by decide) ?_
  refine lv_aload_n hx hb dX13_isBell_2 rfl (lv_at hl 0 rfl) ?_
  refine va_get (D := xD E) (ci := 13) (v := .ref (xa E 187)) (C := RX13) (T := TX13) (N := 24) hx hb hts in_X13 hown hK (xO_M hW) 0 rfl rfl 0 (by decide) (hts _ q1196) (fun _ h9 => h9) rfl dX13_isBell_3 ?_
  refine lv_iconst (v := 2) hx hb dX13_isBell_6 (by decide) ?_
  refine va_iald hx hb hK (xV_p hW xp_187) 0 0 rfl rfl (x_lit (by decide)) dX13_isBell_7 ?_
  refine lv_iconst (v := 1) hx hb dX13_isBell_8 (by decide) ?_
  refine lv_isub hx hb dX13_isBell_9 ?_
  refine x_backi (va_runS (As := [.int a1, .int 0, .int ((σ 20 ((2 : Int32).toNatClampNeg)) - 1)]) (rest := []) F.1 (mX13_within l E σ a1 0 ((σ 20 ((2 : Int32).toNatClampNeg)) - 1)) (va_cwS 3 hts (lw_S q1276 q1277 q115 q1278) rfl rfl rfl (by decide +kernel) ⟨Nat.le_of_ble_eq_true rfl, Nat.le_of_ble_eq_true rfl⟩) ⟨xPc.blind, F.pre hW hS [.int a1, .int 0, .int ((σ 20 ((2 : Int32).toNatClampNeg)) - 1)]⟩ rfl rfl hl.1 rfl (lv_room (Nat.le_of_ble_eq_true rfl)) dX13_isBell_10 ⟨Nat.le_refl _, Nat.le_refl _⟩) hS (fun H locs hW hS => ?_)
  by_cases hz1 : (fX13_within a1 0 ((σ 20 ((2 : Int32).toNatClampNeg)) - 1)) = 0 ∨ (fX13_within a1 0 ((σ 20 ((2 : Int32).toNatClampNeg)) - 1)) = 1
  · rw [if_pos hz1] at h
    have h := Option.some.inj h; subst h
    exact x_zret F hr hlk hW hS (x_b01 hz1) dX13_isBell_13
  · rw [if_neg hz1] at h; cases h
/-! WildBellsModel.isKind(I)Z -/
def fX13_isKind (a0 : Int32) : Int32 :=
  (fX13_within a0 0 6)
theorem bX13_isKind (a0 : Int32) : narrow .boolean (.int (fX13_isKind a0)) = .int (fX13_isKind a0) := by
  unfold fX13_isKind
  first
    | (repeat' split) <;> rfl
    | exact bX0_in _ _ _
    | exact bX13_within _ _ _
    | ((repeat' split) <;> first | rfl | exact bX0_in _ _ _ | exact bX0_isKind _ | exact bX0_isCell _ | exact bX0_isWeight _)
    | ((repeat' split) <;> first | rfl | exact bX13_within _ _ _ | exact bX13_isKind _ | exact bX13_isCell _)
set_option maxHeartbeats 4000000 in
theorem mX13_isKind (l : Launch) (E : xE) (σ : xM) (a0 : Int32) : Met l yX13_isKind (ws_ yX13_isKind cX13_isKind 1 (some .boolean)) ({ frames := 1, cells := 0, slots := 0, locals := 22 } : Room) (xPc E σ [.int a0]) (xQc E (.returned (some (.int (fX13_isKind a0)))) σ) 0 0 (xA E) := by
  refine x_of (C := RX13) (n := "isKind") (d := "(I)Z") (r := (some .boolean)) (by decide) rfl (by first | decide | exact Nat.le_of_ble_eq_true rfl) ?_
  intro p e s m below meth c ls F hr hlk hW hS hl
  have hl : lv_has ls 1 [(0, .int a0)] := hl
  obtain ⟨hx, hb, hml, hown, hts⟩ := id F.1
  have hK := F.2.1.1
  obtain ⟨r, h⟩ : ∃ r, fX13_isKind a0 = r := ⟨_, rfl⟩
  rw [h]
  unfold fX13_isKind at h
  refine lv_iload_n hx hb dX13_isKind_0 rfl (lv_at hl 0 rfl) ?_
  refine lv_iconst (v := 0) hx hb dX13_isKind_1 (by decide) ?_
  refine lv_bipush (v := 6) hx hb dX13_isKind_2 (by decide) ?_
  refine x_backi (va_runS (As := [.int a0, .int 0, .int 6]) (rest := []) F.1 (mX13_within l E σ a0 0 6) (va_cwS 3 hts (lw_S q1276 q1277 q115 q1278) rfl rfl rfl (by decide +kernel) ⟨Nat.le_of_ble_eq_true rfl, Nat.le_of_ble_eq_true rfl⟩) ⟨xPc.blind, F.pre hW hS [.int a0, .int 0, .int 6]⟩ rfl rfl hl.1 rfl (lv_room (Nat.le_of_ble_eq_true rfl)) dX13_isKind_4 ⟨Nat.le_refl _, Nat.le_refl _⟩) hS (fun H locs hW hS => ?_)
  subst h
  exact x_zret F hr hlk hW hS (by first | exact bX13_within _ _ _ | rfl) dX13_isKind_7
/-! WildBellsModel.at(II)I -/
def fX13_at (a0 : Int32) (a1 : Int32) : Int32 :=
  ((146 + (5 * a0)) + a1)
set_option maxHeartbeats 4000000 in
theorem mX13_at (l : Launch) (E : xE) (σ : xM) (a0 : Int32) (a1 : Int32) : Met l yX13_at (ws_ yX13_at cX13_at 2 (some .int)) ({ frames := 0, cells := 0, slots := 0, locals := 0 } : Room) (xPc E σ [.int a0, .int a1]) (xQc E (.returned (some (.int (fX13_at a0 a1)))) σ) 0 0 (xA E) := by
  refine x_of (C := RX13) (n := "at") (d := "(II)I") (r := (some .int)) (by decide) rfl (by first | decide | exact Nat.le_of_ble_eq_true rfl) ?_
  intro p e s m below meth c ls F hr hlk hW hS hl
  have hl : lv_has ls 2 [(0, .int a0), (1, .int a1)] := hl
  obtain ⟨hx, hb, hml, hown, hts⟩ := id F.1
  have hK := F.2.1.1
  obtain ⟨r, h⟩ : ∃ r, fX13_at a0 a1 = r := ⟨_, rfl⟩
  rw [h]
  unfold fX13_at at h
  refine lv_sipush (v := 146) hx hb dX13_at_0 (by decide) ?_
  refine lv_iconst (v := 5) hx hb dX13_at_3 (by decide) ?_
  refine lv_iload_n hx hb dX13_at_4 rfl (lv_at hl 0 rfl) ?_
  refine lv_imul hx hb dX13_at_5 ?_
  refine lv_iadd hx hb dX13_at_6 ?_
  refine lv_iload_n hx hb dX13_at_7 rfl (lv_at hl 1 rfl) ?_
  refine lv_iadd hx hb dX13_at_8 ?_
  subst h
  exact x_iret F hr hlk hW hS dX13_at_9
/-! WildBellsModel.bellIs(II)I -/
def fX13_bellIs (σ : xM) (a1 : Int32) (a2 : Int32) : Option Int32 :=
  if xin (fX13_at a1 a2) 186 then (some (σ 20 ((fX13_at a1 a2).toNatClampNeg))) else none
set_option maxHeartbeats 4000000 in
theorem mX13_bellIs (l : Launch) (E : xE) (σ : xM) (a1 : Int32) (a2 : Int32) (r : Int32) (h : fX13_bellIs σ a1 a2 = some r) : Met l yX13_bellIs (ws_ yX13_bellIs cX13_bellIs 3 (some .int)) ({ frames := 1, cells := 0, slots := 0, locals := 21 } : Room) (xPc E σ [.ref (xa E 186), .int a1, .int a2]) (xQc E (.returned (some (.int r))) σ) 0 0 (xA E) := by
  refine x_of (C := RX13) (n := "bellIs") (d := "(II)I") (r := (some .int)) (by decide) rfl (by first | decide | exact Nat.le_of_ble_eq_true rfl) ?_
  intro p e s m below meth c ls F hr hlk hW hS hl
  have hl : lv_has ls 3 [(0, .ref (xa E 186)), (1, .int a1), (2, .int a2)] := hl
  obtain ⟨hx, hb, hml, hown, hts⟩ := id F.1
  have hK := F.2.1.1
  unfold fX13_bellIs at h
  refine lv_aload_n hx hb dX13_bellIs_0 rfl (lv_at hl 0 rfl) ?_
  refine va_get (D := xD E) (ci := 13) (v := .ref (xa E 187)) (C := RX13) (T := TX13) (N := 24) hx hb hts in_X13 hown hK (xO_M hW) 0 rfl rfl 0 (by decide) (hts _ q1196) (fun _ h9 => h9) rfl dX13_bellIs_1 ?_
  refine lv_iload_n hx hb dX13_bellIs_4 rfl (lv_at hl 1 rfl) ?_
  refine lv_iload_n hx hb dX13_bellIs_5 rfl (lv_at hl 2 rfl) ?_
  refine x_backi (va_runS (As := [.int a1, .int a2]) (rest := [.ref (xa E 187)]) F.1 (mX13_at l E σ a1 a2) (va_cwS 2 hts (lw_S q1315 q1316 q115 q1317) rfl rfl rfl (by decide +kernel) ⟨Nat.le_of_ble_eq_true rfl, Nat.le_of_ble_eq_true rfl⟩) ⟨xPc.blind, F.pre hW hS [.int a1, .int a2]⟩ rfl rfl hl.1 rfl (lv_room (Nat.le_of_ble_eq_true rfl)) dX13_bellIs_6 ⟨Nat.le_refl _, Nat.le_refl _⟩) hS (fun H locs hW hS => ?_)
  by_cases hi1 : xin (fX13_at a1 a2) 186
  · rw [if_pos hi1] at h
    refine va_iald hx hb hK (xV_p hW xp_187) 0 0 rfl rfl hi1 dX13_bellIs_9 ?_
    have h := Option.some.inj h; subst h
    exact x_iret F hr hlk hW hS dX13_bellIs_10
  · rw [if_neg hi1] at h; cases h
/-! WildBellsModel.isCaught(I)Z -/
def fX13_isCaught (σ : xM) (a1 : Int32) : Option Int32 :=
  (fX13_bellIs σ a1 4).bind (fun r2 => if r2 = 1 then (some 1) else (some 0))
set_option maxHeartbeats 4000000 in
theorem mX13_isCaught (l : Launch) (E : xE) (σ : xM) (a1 : Int32) (r : Int32) (h : fX13_isCaught σ a1 = some r) : Met l yX13_isCaught (ws_ yX13_isCaught cX13_isCaught 2 (some .boolean)) ({ frames := 2, cells := 0, slots := 0, locals := 43 } : Room) (xPc E σ [.ref (xa E 186), .int a1]) (xQc E (.returned (some (.int r))) σ) 0 0 (xA E) := by
  refine x_of (C := RX13) (n := "isCaught") (d := "(I)Z") (r := (some .boolean)) (by decide) rfl (by first | decide | exact Nat.le_of_ble_eq_true rfl) ?_
  intro p e s m below meth c ls F hr hlk hW hS hl
  have hl : lv_has ls 2 [(0, .ref (xa E 186)), (1, .int a1)] := hl
  obtain ⟨hx, hb, hml, hown, hts⟩ := id F.1
  have hK := F.2.1.1
  unfold fX13_isCaught at h
  refine lv_aload_n hx hb dX13_isCaught_0 rfl (lv_at hl 0 rfl) ?_
  refine lv_iload_n hx hb dX13_isCaught_1 rfl (lv_at hl 1 rfl) ?_
  refine lv_iconst (v := 4) hx hb dX13_isCaught_2 (by decide) ?_
  cases g1 : fX13_bellIs σ a1 4 with
  | none => rw [g1] at h; cases h
  | some r2 =>
    rw [g1, Option.bind_some] at h
    refine x_backi (va_runV (C := RX13) (b := (xa E 186)) (As := [.int a1, .int 4]) (rest := []) F.1 (mX13_bellIs l E σ a1 4 r2 g1) (cwV 2 hts (lw_V q1326 q1328 qs56 q115 q1329) rfl rfl rfl (by decide +kernel) ⟨Nat.le_of_ble_eq_true rfl, Nat.le_of_ble_eq_true rfl⟩) ⟨xPc.blind, va_recv hK (xO_M hW) (ci := 13) (q0 := 0) rfl rfl, F.pre hW hS (.ref (xa E 186) :: [.int a1, .int 4])⟩ rfl rfl hl.1 rfl (lv_room (Nat.le_of_ble_eq_true rfl)) dX13_isCaught_3 ⟨Nat.le_refl _, Nat.le_refl _⟩) hS (fun H locs hW hS => ?_)
    refine lv_iconst (v := 1) hx hb dX13_isCaught_6 (by decide) ?_
    refine lv_icmp_ne (tgt := 14) hx hb dX13_isCaught_7 (by decide) (fun c3 => ?_) (fun c3 => ?_)
    · rw [if_neg c3] at h
      refine lv_iconst (v := 0) hx hb dX13_isCaught_14 (by decide) ?_
      have h := Option.some.inj h; subst h
      exact x_zret F hr hlk hW hS rfl dX13_isCaught_15
    · rw [if_pos c3] at h
      refine lv_iconst (v := 1) hx hb dX13_isCaught_10 (by decide) ?_
      refine lv_goto (tgt := 15) hx hb dX13_isCaught_11 (by decide) ?_
      have h := Option.some.inj h; subst h
      exact x_zret F hr hlk hW hS rfl dX13_isCaught_15
/-! WildBellsModel.comes(IIII)I -/
def fX13_comes (σ : xM) (a1 : Int32) (a2 : Int32) (a3 : Int32) (a4 : Int32) : Option (Int32 × xM) :=
  if xin (fX13_at (σ 20 ((2 : Int32).toNatClampNeg)) 0) 186 then (if xin (fX13_at (σ 20 ((2 : Int32).toNatClampNeg)) 1) 186 then (if xin (fX13_at (σ 20 ((2 : Int32).toNatClampNeg)) 2) 186 then (if xin (fX13_at (σ 20 ((2 : Int32).toNatClampNeg)) 3) 186 then (if xin (fX13_at (σ 20 ((2 : Int32).toNatClampNeg)) 4) 186 then (some ((σ 20 ((2 : Int32).toNatClampNeg)), (xup (xup (xup (xup (xup (xup σ 20 ((fX13_at (σ 20 ((2 : Int32).toNatClampNeg)) 0).toNatClampNeg) a1) 20 ((fX13_at (σ 20 ((2 : Int32).toNatClampNeg)) 1).toNatClampNeg) a2) 20 ((fX13_at (σ 20 ((2 : Int32).toNatClampNeg)) 2).toNatClampNeg) a3) 20 ((fX13_at (σ 20 ((2 : Int32).toNatClampNeg)) 3).toNatClampNeg) a4) 20 ((fX13_at (σ 20 ((2 : Int32).toNatClampNeg)) 4).toNatClampNeg) 0) 20 ((2 : Int32).toNatClampNeg) (((xup (xup (xup (xup (xup σ 20 ((fX13_at (σ 20 ((2 : Int32).toNatClampNeg)) 0).toNatClampNeg) a1) 20 ((fX13_at (σ 20 ((2 : Int32).toNatClampNeg)) 1).toNatClampNeg) a2) 20 ((fX13_at (σ 20 ((2 : Int32).toNatClampNeg)) 2).toNatClampNeg) a3) 20 ((fX13_at (σ 20 ((2 : Int32).toNatClampNeg)) 3).toNatClampNeg) a4) 20 ((fX13_at (σ 20 ((2 : Int32).toNatClampNeg)) 4).toNatClampNeg) 0) 20 ((2 : Int32).toNatClampNeg)) + 1)))) else none) else none) else none) else none) else none
set_option maxHeartbeats 4000000 in
theorem mX13_comes (l : Launch) (E : xE) (σ : xM) (a1 : Int32) (a2 : Int32) (a3 : Int32) (a4 : Int32) (r : Int32) (σ' : xM) (h : fX13_comes σ a1 a2 a3 a4 = some (r, σ')) : Met l yX13_comes (ws_ yX13_comes cX13_comes 6 (some .int)) ({ frames := 1, cells := 0, slots := 0, locals := 21 } : Room) (xPc E σ [.ref (xa E 186), .int a1, .int a2, .int a3, .int a4]) (xQc E (.returned (some (.int r))) σ') 0 0 (xA E) := by
  refine x_of (C := RX13) (n := "comes") (d := "(IIII)I") (r := (some .int)) (by decide) rfl (by first | decide | exact Nat.le_of_ble_eq_true rfl) ?_
  intro p e s m below meth c ls F hr hlk hW hS hl
  have hl : lv_has ls 6 [(0, .ref (xa E 186)), (1, .int a1), (2, .int a2), (3, .int a3), (4, .int a4)] := hl
  obtain ⟨hx, hb, hml, hown, hts⟩ := id F.1
  have hK := F.2.1.1
  unfold fX13_comes at h
  refine lv_aload_n hx hb dX13_comes_0 rfl (lv_at hl 0 rfl) ?_
  refine va_get (D := xD E) (ci := 13) (v := .ref (xa E 187)) (C := RX13) (T := TX13) (N := 24) hx hb hts in_X13 hown hK (xO_M hW) 0 rfl rfl 0 (by decide) (hts _ q1196) (fun _ h9 => h9) rfl dX13_comes_1 ?_
  refine lv_iconst (v := 2) hx hb dX13_comes_4 (by decide) ?_
  refine va_iald hx hb hK (xV_p hW xp_187) 0 0 rfl rfl (x_lit (by decide)) dX13_comes_5 ?_
  refine lv_istore (lv' := [(5, .int (σ 20 ((2 : Int32).toNatClampNeg))), (0, .ref (xa E 186)), (1, .int a1), (2, .int a2), (3, .int a3), (4, .int a4)]) hx hb dX13_comes_6 hl (by decide) rfl (fun ls hl => ?_)
  refine lv_aload_n hx hb dX13_comes_8 rfl (lv_at hl 1 rfl) ?_
  refine va_get (D := xD E) (ci := 13) (v := .ref (xa E 187)) (C := RX13) (T := TX13) (N := 24) hx hb hts in_X13 hown hK (xO_M hW) 0 rfl rfl 0 (by decide) (hts _ q1196) (fun _ h9 => h9) rfl dX13_comes_9 ?_
  refine lv_iload hx hb dX13_comes_12 (lv_at hl 0 rfl) ?_
  refine lv_iconst (v := 0) hx hb dX13_comes_14 (by decide) ?_
  refine x_backi (va_runS (As := [.int (σ 20 ((2 : Int32).toNatClampNeg)), .int 0]) (rest := [.ref (xa E 187)]) F.1 (mX13_at l E σ (σ 20 ((2 : Int32).toNatClampNeg)) 0) (va_cwS 2 hts (lw_S q1315 q1316 q115 q1317) rfl rfl rfl (by decide +kernel) ⟨Nat.le_of_ble_eq_true rfl, Nat.le_of_ble_eq_true rfl⟩) ⟨xPc.blind, F.pre hW hS [.int (σ 20 ((2 : Int32).toNatClampNeg)), .int 0]⟩ rfl rfl hl.1 rfl (lv_room (Nat.le_of_ble_eq_true rfl)) dX13_comes_15 ⟨Nat.le_refl _, Nat.le_refl _⟩) hS (fun H locs hW hS => ?_)
  refine lv_iload_n hx hb dX13_comes_18 rfl (lv_at hl 2 rfl) ?_
  by_cases hi1 : xin (fX13_at (σ 20 ((2 : Int32).toNatClampNeg)) 0) 186
  · rw [if_pos hi1] at h
    refine x_iast F hW hS 187 186 20 (fun j => j) xp_187.1 xp_187.2.1 xp_187.2.2.1 xp_187.2.2.2 hi1 dX13_comes_19 (fun H locs hW hS => ?_)
    refine lv_aload_n hx hb dX13_comes_20 rfl (lv_at hl 1 rfl) ?_
    refine va_get (D := xD E) (ci := 13) (v := .ref (xa E 187)) (C := RX13) (T := TX13) (N := 24) hx hb hts in_X13 hown hK (xO_M hW) 0 rfl rfl 0 (by decide) (hts _ q1196) (fun _ h9 => h9) rfl dX13_comes_21 ?_
    refine lv_iload hx hb dX13_comes_24 (lv_at hl 0 rfl) ?_
    refine lv_iconst (v := 1) hx hb dX13_comes_26 (by decide) ?_
    refine x_backi (va_runS (As := [.int (σ 20 ((2 : Int32).toNatClampNeg)), .int 1]) (rest := [.ref (xa E 187)]) F.1 (mX13_at l E (xup σ 20 ((fX13_at (σ 20 ((2 : Int32).toNatClampNeg)) 0).toNatClampNeg) a1) (σ 20 ((2 : Int32).toNatClampNeg)) 1) (va_cwS 2 hts (lw_S q1315 q1316 q115 q1317) rfl rfl rfl (by decide +kernel) ⟨Nat.le_of_ble_eq_true rfl, Nat.le_of_ble_eq_true rfl⟩) ⟨xPc.blind, F.pre hW hS [.int (σ 20 ((2 : Int32).toNatClampNeg)), .int 1]⟩ rfl rfl hl.1 rfl (lv_room (Nat.le_of_ble_eq_true rfl)) dX13_comes_27 ⟨Nat.le_refl _, Nat.le_refl _⟩) hS (fun H locs hW hS => ?_)
    refine lv_iload_n hx hb dX13_comes_30 rfl (lv_at hl 3 rfl) ?_
    by_cases hi2 : xin (fX13_at (σ 20 ((2 : Int32).toNatClampNeg)) 1) 186
    · rw [if_pos hi2] at h
      refine x_iast F hW hS 187 186 20 (fun j => j) xp_187.1 xp_187.2.1 xp_187.2.2.1 xp_187.2.2.2 hi2 dX13_comes_31 (fun H locs hW hS => ?_)
      refine lv_aload_n hx hb dX13_comes_32 rfl (lv_at hl 1 rfl) ?_
      refine va_get (D := xD E) (ci := 13) (v := .ref (xa E 187)) (C := RX13) (T := TX13) (N := 24) hx hb hts in_X13 hown hK (xO_M hW) 0 rfl rfl 0 (by decide) (hts _ q1196) (fun _ h9 => h9) rfl dX13_comes_33 ?_
      refine lv_iload hx hb dX13_comes_36 (lv_at hl 0 rfl) ?_
      refine lv_iconst (v := 2) hx hb dX13_comes_38 (by decide) ?_
      refine x_backi (va_runS (As := [.int (σ 20 ((2 : Int32).toNatClampNeg)), .int 2]) (rest := [.ref (xa E 187)]) F.1 (mX13_at l E (xup (xup σ 20 ((fX13_at (σ 20 ((2 : Int32).toNatClampNeg)) 0).toNatClampNeg) a1) 20 ((fX13_at (σ 20 ((2 : Int32).toNatClampNeg)) 1).toNatClampNeg) a2) (σ 20 ((2 : Int32).toNatClampNeg)) 2) (va_cwS 2 hts (lw_S q1315 q1316 q115 q1317) rfl rfl rfl (by decide +kernel) ⟨Nat.le_of_ble_eq_true rfl, Nat.le_of_ble_eq_true rfl⟩) ⟨xPc.blind, F.pre hW hS [.int (σ 20 ((2 : Int32).toNatClampNeg)), .int 2]⟩ rfl rfl hl.1 rfl (lv_room (Nat.le_of_ble_eq_true rfl)) dX13_comes_39 ⟨Nat.le_refl _, Nat.le_refl _⟩) hS (fun H locs hW hS => ?_)
      refine lv_iload_n hx hb dX13_comes_42 rfl (lv_at hl 4 rfl) ?_
      by_cases hi3 : xin (fX13_at (σ 20 ((2 : Int32).toNatClampNeg)) 2) 186
      · rw [if_pos hi3] at h
        refine x_iast F hW hS 187 186 20 (fun j => j) xp_187.1 xp_187.2.1 xp_187.2.2.1 xp_187.2.2.2 hi3 dX13_comes_43 (fun H locs hW hS => ?_)
        refine lv_aload_n hx hb dX13_comes_44 rfl (lv_at hl 1 rfl) ?_
        refine va_get (D := xD E) (ci := 13) (v := .ref (xa E 187)) (C := RX13) (T := TX13) (N := 24) hx hb hts in_X13 hown hK (xO_M hW) 0 rfl rfl 0 (by decide) (hts _ q1196) (fun _ h9 => h9) rfl dX13_comes_45 ?_
        refine lv_iload hx hb dX13_comes_48 (lv_at hl 0 rfl) ?_
        refine lv_iconst (v := 3) hx hb dX13_comes_50 (by decide) ?_
        refine x_backi (va_runS (As := [.int (σ 20 ((2 : Int32).toNatClampNeg)), .int 3]) (rest := [.ref (xa E 187)]) F.1 (mX13_at l E (xup (xup (xup σ 20 ((fX13_at (σ 20 ((2 : Int32).toNatClampNeg)) 0).toNatClampNeg) a1) 20 ((fX13_at (σ 20 ((2 : Int32).toNatClampNeg)) 1).toNatClampNeg) a2) 20 ((fX13_at (σ 20 ((2 : Int32).toNatClampNeg)) 2).toNatClampNeg) a3) (σ 20 ((2 : Int32).toNatClampNeg)) 3) (va_cwS 2 hts (lw_S q1315 q1316 q115 q1317) rfl rfl rfl (by decide +kernel) ⟨Nat.le_of_ble_eq_true rfl, Nat.le_of_ble_eq_true rfl⟩) ⟨xPc.blind, F.pre hW hS [.int (σ 20 ((2 : Int32).toNatClampNeg)), .int 3]⟩ rfl rfl hl.1 rfl (lv_room (Nat.le_of_ble_eq_true rfl)) dX13_comes_51 ⟨Nat.le_refl _, Nat.le_refl _⟩) hS (fun H locs hW hS => ?_)
        refine lv_iload hx hb dX13_comes_54 (lv_at hl 5 rfl) ?_
        by_cases hi4 : xin (fX13_at (σ 20 ((2 : Int32).toNatClampNeg)) 3) 186
        · rw [if_pos hi4] at h
          refine x_iast F hW hS 187 186 20 (fun j => j) xp_187.1 xp_187.2.1 xp_187.2.2.1 xp_187.2.2.2 hi4 dX13_comes_56 (fun H locs hW hS => ?_)
          refine lv_aload_n hx hb dX13_comes_57 rfl (lv_at hl 1 rfl) ?_
          refine va_get (D := xD E) (ci := 13) (v := .ref (xa E 187)) (C := RX13) (T := TX13) (N := 24) hx hb hts in_X13 hown hK (xO_M hW) 0 rfl rfl 0 (by decide) (hts _ q1196) (fun _ h9 => h9) rfl dX13_comes_58 ?_
          refine lv_iload hx hb dX13_comes_61 (lv_at hl 0 rfl) ?_
          refine lv_iconst (v := 4) hx hb dX13_comes_63 (by decide) ?_
          refine x_backi (va_runS (As := [.int (σ 20 ((2 : Int32).toNatClampNeg)), .int 4]) (rest := [.ref (xa E 187)]) F.1 (mX13_at l E (xup (xup (xup (xup σ 20 ((fX13_at (σ 20 ((2 : Int32).toNatClampNeg)) 0).toNatClampNeg) a1) 20 ((fX13_at (σ 20 ((2 : Int32).toNatClampNeg)) 1).toNatClampNeg) a2) 20 ((fX13_at (σ 20 ((2 : Int32).toNatClampNeg)) 2).toNatClampNeg) a3) 20 ((fX13_at (σ 20 ((2 : Int32).toNatClampNeg)) 3).toNatClampNeg) a4) (σ 20 ((2 : Int32).toNatClampNeg)) 4) (va_cwS 2 hts (lw_S q1315 q1316 q115 q1317) rfl rfl rfl (by decide +kernel) ⟨Nat.le_of_ble_eq_true rfl, Nat.le_of_ble_eq_true rfl⟩) ⟨xPc.blind, F.pre hW hS [.int (σ 20 ((2 : Int32).toNatClampNeg)), .int 4]⟩ rfl rfl hl.1 rfl (lv_room (Nat.le_of_ble_eq_true rfl)) dX13_comes_64 ⟨Nat.le_refl _, Nat.le_refl _⟩) hS (fun H locs hW hS => ?_)
          refine lv_iconst (v := 0) hx hb dX13_comes_67 (by decide) ?_
          by_cases hi5 : xin (fX13_at (σ 20 ((2 : Int32).toNatClampNeg)) 4) 186
          · rw [if_pos hi5] at h
            refine x_iast F hW hS 187 186 20 (fun j => j) xp_187.1 xp_187.2.1 xp_187.2.2.1 xp_187.2.2.2 hi5 dX13_comes_68 (fun H locs hW hS => ?_)
            refine lv_aload_n hx hb dX13_comes_69 rfl (lv_at hl 1 rfl) ?_
            refine va_get (D := xD E) (ci := 13) (v := .ref (xa E 187)) (C := RX13) (T := TX13) (N := 24) hx hb hts in_X13 hown hK (xO_M hW) 0 rfl rfl 0 (by decide) (hts _ q1196) (fun _ h9 => h9) rfl dX13_comes_70 ?_
            refine lv_iconst (v := 2) hx hb dX13_comes_73 (by decide) ?_
            refine lv_dup2_11 hx hb dX13_comes_74 rfl rfl ?_
            refine va_iald hx hb hK (xV_p hW xp_187) 0 0 rfl rfl (x_lit (by decide)) dX13_comes_75 ?_
            refine lv_iconst (v := 1) hx hb dX13_comes_76 (by decide) ?_
            refine lv_iadd hx hb dX13_comes_77 ?_
            refine x_iast F hW hS 187 186 20 (fun j => j) xp_187.1 xp_187.2.1 xp_187.2.2.1 xp_187.2.2.2 (x_lit (by decide)) dX13_comes_78 (fun H locs hW hS => ?_)
            refine lv_iload hx hb dX13_comes_79 (lv_at hl 0 rfl) ?_
            obtain ⟨h1, h2⟩ := Prod.mk.inj (Option.some.inj h); subst h1; subst h2
            exact x_iret F hr hlk hW hS dX13_comes_81
          · rw [if_neg hi5] at h; cases h
        · rw [if_neg hi4] at h; cases h
      · rw [if_neg hi3] at h; cases h
    · rw [if_neg hi2] at h; cases h
  · rw [if_neg hi1] at h; cases h
/-! WildBellsModel.bell(II)I -/
def fX13_bell (σ : xM) (a1 : Int32) (a2 : Int32) : Option (Int32 × xM) :=
  if (fX13_isKind a1) = 0 then ((fX13_finding σ (-1000001)).bind (fun r3 => some (r3.1, r3.2))) else (if (fX13_isCell a2) = 0 then ((fX13_finding σ (-1000001)).bind (fun r11 => some (r11.1, r11.2))) else (if (σ 20 ((2 : Int32).toNatClampNeg)) = 8 then ((fX13_finding σ (-1000002)).bind (fun r9 => some (r9.1, r9.2))) else ((fX13_comes σ a1 a2 0 10).bind (fun r7 => some (r7.1, r7.2)))))
set_option maxHeartbeats 4000000 in
theorem mX13_bell (l : Launch) (E : xE) (σ : xM) (a1 : Int32) (a2 : Int32) (r : Int32) (σ' : xM) (h : fX13_bell σ a1 a2 = some (r, σ')) : Met l yX13_bell (ws_ yX13_bell cX13_bell 3 (some .int)) ({ frames := 2, cells := 0, slots := 0, locals := 46 } : Room) (xPc E σ [.ref (xa E 186), .int a1, .int a2]) (xQc E (.returned (some (.int r))) σ') 0 0 (xA E) := by
  refine x_of (C := RX13) (n := "bell") (d := "(II)I") (r := (some .int)) (by decide) rfl (by first | decide | exact Nat.le_of_ble_eq_true rfl) ?_
  intro p e s m below meth c ls F hr hlk hW hS hl
  have hl : lv_has ls 3 [(0, .ref (xa E 186)), (1, .int a1), (2, .int a2)] := hl
  obtain ⟨hx, hb, hml, hown, hts⟩ := id F.1
  have hK := F.2.1.1
  unfold fX13_bell at h
  refine lv_iload_n hx hb dX13_bell_0 rfl (lv_at hl 1 rfl) ?_
  refine x_backi (va_runS (As := [.int a1]) (rest := []) F.1 (mX13_isKind l E σ a1) (va_cwS 1 hts (lw_S q1307 q1308 q115 q1309) rfl rfl rfl (by decide +kernel) ⟨Nat.le_of_ble_eq_true rfl, Nat.le_of_ble_eq_true rfl⟩) ⟨xPc.blind, F.pre hW hS [.int a1]⟩ rfl rfl hl.1 rfl (lv_room (Nat.le_of_ble_eq_true rfl)) dX13_bell_1 ⟨Nat.le_refl _, Nat.le_refl _⟩) hS (fun H locs hW hS => ?_)
  refine lv_if_eq (tgt := 14) hx hb dX13_bell_4 (by decide) (fun c1 => ?_) (fun c1 => ?_)
  · rw [if_pos c1] at h
    refine lv_aload_n hx hb dX13_bell_14 rfl (lv_at hl 0 rfl) ?_
    refine lv_ldc (v := (-1000001)) hx hb hown (hts _ q1279) dX13_bell_15 ?_
    cases g2 : fX13_finding σ (-1000001) with
    | none => rw [g2] at h; cases h
    | some r3 =>
      rw [g2, Option.bind_some] at h
      refine x_backi (va_runV (C := RX13) (b := (xa E 186)) (As := [.int (-1000001)]) (rest := []) F.1 (mX13_finding l E σ (-1000001) r3.1 r3.2 g2) (cwV 1 hts (lw_V q1280 q1282 qs52 q115 q1283) rfl rfl rfl (by decide +kernel) ⟨Nat.le_of_ble_eq_true rfl, Nat.le_of_ble_eq_true rfl⟩) ⟨xPc.blind, va_recv hK (xO_M hW) (ci := 13) (q0 := 0) rfl rfl, F.pre hW hS (.ref (xa E 186) :: [.int (-1000001)])⟩ rfl rfl hl.1 rfl (lv_room (Nat.le_of_ble_eq_true rfl)) dX13_bell_17 ⟨Nat.le_refl _, Nat.le_refl _⟩) hS (fun H locs hW hS => ?_)
      obtain ⟨h1, h2⟩ := Prod.mk.inj (Option.some.inj h); subst h1; subst h2
      exact x_iret F hr hlk hW hS dX13_bell_20
  · rw [if_neg c1] at h
    refine lv_iload_n hx hb dX13_bell_7 rfl (lv_at hl 2 rfl) ?_
    refine x_backi (va_runS (As := [.int a2]) (rest := []) F.1 (mX13_isCell l E σ a2) (va_cwS 1 hts (lw_S q1273 q1274 q115 q1275) rfl rfl rfl (by decide +kernel) ⟨Nat.le_of_ble_eq_true rfl, Nat.le_of_ble_eq_true rfl⟩) ⟨xPc.blind, F.pre hW hS [.int a2]⟩ rfl rfl hl.1 rfl (lv_room (Nat.le_of_ble_eq_true rfl)) dX13_bell_8 ⟨Nat.le_refl _, Nat.le_refl _⟩) hS (fun H locs hW hS => ?_)
    refine lv_if_ne (tgt := 21) hx hb dX13_bell_11 (by decide) (fun c4 => ?_) (fun c4 => ?_)
    · rw [if_neg c4] at h
      refine lv_aload_n hx hb dX13_bell_21 rfl (lv_at hl 0 rfl) ?_
      refine va_get (D := xD E) (ci := 13) (v := .ref (xa E 187)) (C := RX13) (T := TX13) (N := 24) hx hb hts in_X13 hown hK (xO_M hW) 0 rfl rfl 0 (by decide) (hts _ q1196) (fun _ h9 => h9) rfl dX13_bell_22 ?_
      refine lv_iconst (v := 2) hx hb dX13_bell_25 (by decide) ?_
      refine va_iald hx hb hK (xV_p hW xp_187) 0 0 rfl rfl (x_lit (by decide)) dX13_bell_26 ?_
      refine lv_bipush (v := 8) hx hb dX13_bell_27 (by decide) ?_
      refine lv_icmp_ne (tgt := 41) hx hb dX13_bell_29 (by decide) (fun c5 => ?_) (fun c5 => ?_)
      · rw [if_neg c5] at h
        refine lv_aload_n hx hb dX13_bell_41 rfl (lv_at hl 0 rfl) ?_
        refine lv_iload_n hx hb dX13_bell_42 rfl (lv_at hl 1 rfl) ?_
        refine lv_iload_n hx hb dX13_bell_43 rfl (lv_at hl 2 rfl) ?_
        refine lv_iconst (v := 0) hx hb dX13_bell_44 (by decide) ?_
        refine lv_bipush (v := 10) hx hb dX13_bell_45 (by decide) ?_
        cases g6 : fX13_comes σ a1 a2 0 10 with
        | none => rw [g6] at h; cases h
        | some r7 =>
          rw [g6, Option.bind_some] at h
          refine x_backi (va_runV (C := RX13) (b := (xa E 186)) (As := [.int a1, .int a2, .int 0, .int 10]) (rest := []) F.1 (mX13_comes l E σ a1 a2 0 10 r7.1 r7.2 g6) (cwV 4 hts (lw_V q1311 q1313 qs54 q115 q1314) rfl rfl rfl (by decide +kernel) ⟨Nat.le_of_ble_eq_true rfl, Nat.le_of_ble_eq_true rfl⟩) ⟨xPc.blind, va_recv hK (xO_M hW) (ci := 13) (q0 := 0) rfl rfl, F.pre hW hS (.ref (xa E 186) :: [.int a1, .int a2, .int 0, .int 10])⟩ rfl rfl hl.1 rfl (lv_room (Nat.le_of_ble_eq_true rfl)) dX13_bell_47 ⟨Nat.le_refl _, Nat.le_refl _⟩) hS (fun H locs hW hS => ?_)
          obtain ⟨h1, h2⟩ := Prod.mk.inj (Option.some.inj h); subst h1; subst h2
          exact x_iret F hr hlk hW hS dX13_bell_50
      · rw [if_pos c5] at h
        refine lv_aload_n hx hb dX13_bell_32 rfl (lv_at hl 0 rfl) ?_
        refine lv_ldc (v := (-1000002)) hx hb hown (hts _ q1310) dX13_bell_33 ?_
        cases g8 : fX13_finding σ (-1000002) with
        | none => rw [g8] at h; cases h
        | some r9 =>
          rw [g8, Option.bind_some] at h
          refine x_backi (va_runV (C := RX13) (b := (xa E 186)) (As := [.int (-1000002)]) (rest := []) F.1 (mX13_finding l E σ (-1000002) r9.1 r9.2 g8) (cwV 1 hts (lw_V q1280 q1282 qs52 q115 q1283) rfl rfl rfl (by decide +kernel) ⟨Nat.le_of_ble_eq_true rfl, Nat.le_of_ble_eq_true rfl⟩) ⟨xPc.blind, va_recv hK (xO_M hW) (ci := 13) (q0 := 0) rfl rfl, F.pre hW hS (.ref (xa E 186) :: [.int (-1000002)])⟩ rfl rfl hl.1 rfl (lv_room (Nat.le_of_ble_eq_true rfl)) dX13_bell_35 ⟨Nat.le_refl _, Nat.le_refl _⟩) hS (fun H locs hW hS => ?_)
          refine lv_goto (tgt := 50) hx hb dX13_bell_38 (by decide) ?_
          obtain ⟨h1, h2⟩ := Prod.mk.inj (Option.some.inj h); subst h1; subst h2
          exact x_iret F hr hlk hW hS dX13_bell_50
    · rw [if_pos c4] at h
      refine lv_aload_n hx hb dX13_bell_14 rfl (lv_at hl 0 rfl) ?_
      refine lv_ldc (v := (-1000001)) hx hb hown (hts _ q1279) dX13_bell_15 ?_
      cases g10 : fX13_finding σ (-1000001) with
      | none => rw [g10] at h; cases h
      | some r11 =>
        rw [g10, Option.bind_some] at h
        refine x_backi (va_runV (C := RX13) (b := (xa E 186)) (As := [.int (-1000001)]) (rest := []) F.1 (mX13_finding l E σ (-1000001) r11.1 r11.2 g10) (cwV 1 hts (lw_V q1280 q1282 qs52 q115 q1283) rfl rfl rfl (by decide +kernel) ⟨Nat.le_of_ble_eq_true rfl, Nat.le_of_ble_eq_true rfl⟩) ⟨xPc.blind, va_recv hK (xO_M hW) (ci := 13) (q0 := 0) rfl rfl, F.pre hW hS (.ref (xa E 186) :: [.int (-1000001)])⟩ rfl rfl hl.1 rfl (lv_room (Nat.le_of_ble_eq_true rfl)) dX13_bell_17 ⟨Nat.le_refl _, Nat.le_refl _⟩) hS (fun H locs hW hS => ?_)
        obtain ⟨h1, h2⟩ := Prod.mk.inj (Option.some.inj h); subst h1; subst h2
        exact x_iret F hr hlk hW hS dX13_bell_20
/-! WildBellsModel.above(I)I -/
def fX13_above (a0 : Int32) : Int32 :=
  if a0 = 0 then (-1) else (if a0 = 3 then 2 else (if a0 = 4 then 3 else (if a0 = 6 then 1 else 0)))
set_option maxHeartbeats 4000000 in
theorem mX13_above (l : Launch) (E : xE) (σ : xM) (a0 : Int32) : Met l yX13_above (ws_ yX13_above cX13_above 1 (some .int)) ({ frames := 0, cells := 0, slots := 0, locals := 0 } : Room) (xPc E σ [.int a0]) (xQc E (.returned (some (.int (fX13_above a0)))) σ) 0 0 (xA E) := by
  refine x_of (C := RX13) (n := "above") (d := "(I)I") (r := (some .int)) (by decide) rfl (by first | decide | exact Nat.le_of_ble_eq_true rfl) ?_
  intro p e s m below meth c ls F hr hlk hW hS hl
  have hl : lv_has ls 1 [(0, .int a0)] := hl
  obtain ⟨hx, hb, hml, hown, hts⟩ := id F.1
  have hK := F.2.1.1
  obtain ⟨r, h⟩ : ∃ r, fX13_above a0 = r := ⟨_, rfl⟩
  rw [h]
  unfold fX13_above at h
  refine lv_iload_n hx hb dX13_above_0 rfl (lv_at hl 0 rfl) ?_
  refine lv_if_ne (tgt := 8) hx hb dX13_above_1 (by decide) (fun c1 => ?_) (fun c1 => ?_)
  · rw [if_neg c1] at h
    refine lv_iload_n hx hb dX13_above_8 rfl (lv_at hl 0 rfl) ?_
    refine lv_iconst (v := 3) hx hb dX13_above_9 (by decide) ?_
    refine lv_icmp_ne (tgt := 17) hx hb dX13_above_10 (by decide) (fun c2 => ?_) (fun c2 => ?_)
    · rw [if_neg c2] at h
      refine lv_iload_n hx hb dX13_above_17 rfl (lv_at hl 0 rfl) ?_
      refine lv_iconst (v := 4) hx hb dX13_above_18 (by decide) ?_
      refine lv_icmp_ne (tgt := 26) hx hb dX13_above_19 (by decide) (fun c3 => ?_) (fun c3 => ?_)
      · rw [if_neg c3] at h
        refine lv_iload_n hx hb dX13_above_26 rfl (lv_at hl 0 rfl) ?_
        refine lv_bipush (v := 6) hx hb dX13_above_27 (by decide) ?_
        refine lv_icmp_ne (tgt := 36) hx hb dX13_above_29 (by decide) (fun c4 => ?_) (fun c4 => ?_)
        · rw [if_neg c4] at h
          refine lv_iconst (v := 0) hx hb dX13_above_36 (by decide) ?_
          subst h
          exact x_iret F hr hlk hW hS dX13_above_37
        · rw [if_pos c4] at h
          refine lv_iconst (v := 1) hx hb dX13_above_32 (by decide) ?_
          refine lv_goto (tgt := 37) hx hb dX13_above_33 (by decide) ?_
          subst h
          exact x_iret F hr hlk hW hS dX13_above_37
      · rw [if_pos c3] at h
        refine lv_iconst (v := 3) hx hb dX13_above_22 (by decide) ?_
        refine lv_goto (tgt := 37) hx hb dX13_above_23 (by decide) ?_
        subst h
        exact x_iret F hr hlk hW hS dX13_above_37
    · rw [if_pos c2] at h
      refine lv_iconst (v := 2) hx hb dX13_above_13 (by decide) ?_
      refine lv_goto (tgt := 37) hx hb dX13_above_14 (by decide) ?_
      subst h
      exact x_iret F hr hlk hW hS dX13_above_37
  · rw [if_pos c1] at h
    refine lv_iconst (v := (-1)) hx hb dX13_above_4 (by decide) ?_
    refine lv_goto (tgt := 37) hx hb dX13_above_5 (by decide) ?_
    subst h
    exact x_iret F hr hlk hW hS dX13_above_37
/-! WildBellsModel.isUnder(II)Z -/
def gX13_isUnder_2 (b1 : Int32) : Nat → Int32 → Option Int32
  | 0, _ => none
  | n + 1, x2 => if x2 < 0 then (some x2) else (if x2 = b1 then (some x2) else (gX13_isUnder_2 b1 n (fX13_above x2)))
def fX13_isUnder (a0 : Int32) (a1 : Int32) : Option Int32 :=
  (gX13_isUnder_2 a1 xfu a0).bind (fun q4 => if q4 < 0 then (some 0) else (some 1))
set_option maxHeartbeats 4000000 in
theorem lX13_isUnder_2 {p : Program} {l : Launch} {e : Env} {s : State} {m : MethodId} {av : Array Value} {below : List Frame} {meth : Method} {c : Code} {Q : State → Prop} {E : xE} {σ : xM} {b0 : Int32} {b1 : Int32} (F : xFx p m c cX13_isUnder 3 s av RX13 E) : ∀ (n : Nat) (x2 : Int32) (q : Int32), gX13_isUnder_2 b1 n x2 = some q → ∀ (H : Heap) (locs : List Loc) (ls : Array Slot), xW E σ H → va_S (xA E) s.heap H locs → lv_has ls 3 [(2, .int x2), (0, .int b0), (1, .int b1)] → (∀ (H : Heap) (locs : List Loc) (ls : Array Slot), xW E σ H → va_S (xA E) s.heap H locs → lv_has ls 3 [(2, .int q), (0, .int b0), (1, .int b1)] → W p l e ({ frames := 1, cells := 0, slots := 0, locals := 20 } : Room) s m av below meth c H locs 0 0 Q (F0 m 19 ls [])) → W p l e ({ frames := 1, cells := 0, slots := 0, locals := 20 } : Room) s m av below meth c H locs 0 0 Q (F0 m 2 ls []) := by
  obtain ⟨hx, hb, hml, hown, hts⟩ := id F.1
  have hK := F.2.1.1
  intro n
  induction n with
  | zero =>
    intro x2 q h
    cases h
  | succ n ih =>
    intro x2 q h H locs ls hW hS hl kk
    rw [gX13_isUnder_2] at h
    refine lv_iload_n hx hb dX13_isUnder_2 rfl (lv_at hl 0 rfl) ?_
    refine lv_if_lt (tgt := 19) hx hb dX13_isUnder_3 (by decide) (fun c1 => ?_) (fun c1 => ?_)
    · rw [if_pos c1] at h
      have h := Option.some.inj h; subst h
      exact kk _ _ _ hW hS (lv_sub hl [0, 1, 2] rfl)
    · rw [if_neg c1] at h
      refine lv_iload_n hx hb dX13_isUnder_6 rfl (lv_at hl 0 rfl) ?_
      refine lv_iload_n hx hb dX13_isUnder_7 rfl (lv_at hl 2 rfl) ?_
      refine lv_icmp_eq (tgt := 19) hx hb dX13_isUnder_8 (by decide) (fun c2 => ?_) (fun c2 => ?_)
      · rw [if_pos c2] at h
        have h := Option.some.inj h; subst h
        exact kk _ _ _ hW hS (lv_sub hl [0, 1, 2] rfl)
      · rw [if_neg c2] at h
        refine lv_iload_n hx hb dX13_isUnder_11 rfl (lv_at hl 0 rfl) ?_
        refine x_backi (va_runS (As := [.int x2]) (rest := []) F.1 (mX13_above l E σ x2) (va_cwS 1 hts (lw_S q1346 q1347 q115 q1348) rfl rfl rfl (by decide +kernel) ⟨Nat.le_of_ble_eq_true rfl, Nat.le_of_ble_eq_true rfl⟩) ⟨xPc.blind, F.pre hW hS [.int x2]⟩ rfl rfl hl.1 rfl (lv_room (Nat.le_of_ble_eq_true rfl)) dX13_isUnder_12 ⟨Nat.le_refl _, Nat.le_refl _⟩) hS (fun H locs hW hS => ?_)
        refine lv_istore_n (lv' := [(2, .int (fX13_above x2)), (0, .int b0), (1, .int b1)]) hx hb dX13_isUnder_15 rfl hl (by decide) rfl (fun ls hl => ?_)
        refine lv_goto (tgt := 2) hx hb dX13_isUnder_16 (by decide) ?_
        exact ih (fX13_above x2) _ h _ _ _ hW hS (lv_sub hl [0, 1, 2] rfl) kk
set_option maxHeartbeats 4000000 in
theorem mX13_isUnder (l : Launch) (E : xE) (σ : xM) (a0 : Int32) (a1 : Int32) (r : Int32) (h : fX13_isUnder a0 a1 = some r) : Met l yX13_isUnder (ws_ yX13_isUnder cX13_isUnder 3 (some .boolean)) ({ frames := 1, cells := 0, slots := 0, locals := 20 } : Room) (xPc E σ [.int a0, .int a1]) (xQc E (.returned (some (.int r))) σ) 0 0 (xA E) := by
  refine x_of (C := RX13) (n := "isUnder") (d := "(II)Z") (r := (some .boolean)) (by decide) rfl (by first | decide | exact Nat.le_of_ble_eq_true rfl) ?_
  intro p e s m below meth c ls F hr hlk hW hS hl
  have hl : lv_has ls 3 [(0, .int a0), (1, .int a1)] := hl
  obtain ⟨hx, hb, hml, hown, hts⟩ := id F.1
  have hK := F.2.1.1
  unfold fX13_isUnder at h
  refine lv_iload_n hx hb dX13_isUnder_0 rfl (lv_at hl 0 rfl) ?_
  refine lv_istore_n (lv' := [(2, .int a0), (0, .int a0), (1, .int a1)]) hx hb dX13_isUnder_1 rfl hl (by decide) rfl (fun ls hl => ?_)
  cases g3 : gX13_isUnder_2 a1 xfu a0 with
  | none => rw [g3] at h; cases h
  | some q4 =>
    rw [g3, Option.bind_some] at h
    refine lX13_isUnder_2 F xfu a0 q4 g3 _ _ _ hW hS (lv_sub hl [0, 1, 2] rfl) (fun H locs ls hW hS hl => ?_)
    refine lv_iload_n hx hb dX13_isUnder_19 rfl (lv_at hl 0 rfl) ?_
    refine lv_if_lt (tgt := 27) hx hb dX13_isUnder_20 (by decide) (fun c5 => ?_) (fun c5 => ?_)
    · rw [if_pos c5] at h
      refine lv_iconst (v := 0) hx hb dX13_isUnder_27 (by decide) ?_
      have h := Option.some.inj h; subst h
      exact x_zret F hr hlk hW hS rfl dX13_isUnder_28
    · rw [if_neg c5] at h
      refine lv_iconst (v := 1) hx hb dX13_isUnder_23 (by decide) ?_
      refine lv_goto (tgt := 28) hx hb dX13_isUnder_24 (by decide) ?_
      have h := Option.some.inj h; subst h
      exact x_zret F hr hlk hW hS rfl dX13_isUnder_28
/-! WildBellsModel.nearestOther(III)I -/
def gX13_nearestOther_6 (σ : xM) (b1 : Int32) (b2 : Int32) (b3 : Int32) : Nat → Int32 → Int32 → Option (Int32 × Int32)
  | 0, _, _ => none
  | n + 1, x4, x5 => if (σ 20 ((2 : Int32).toNatClampNeg)) ≤ x5 then (some (x4, x5)) else (if x5 = b1 then ((fX13_bellIs σ x5 1).bind (fun r4 => gX13_nearestOther_6 σ b1 b2 b3 n x4 (x5 + 1))) else ((fX13_isCaught σ x5).bind (fun r6 => if r6 = 0 then ((fX13_bellIs σ x5 0).bind (fun r11 => (fX13_isUnder r11 b3).bind (fun r13 => if r13 = 0 then ((fX13_bellIs σ x5 1).bind (fun r16 => gX13_nearestOther_6 σ b1 b2 b3 n x4 (x5 + 1))) else ((fX13_bellIs σ x5 1).bind (fun r18 => if x4 < 0 then (gX13_nearestOther_6 σ b1 b2 b3 n (fX13_apart b2 r18) (x5 + 1)) else (if x4 ≤ (fX13_apart b2 r18) then (gX13_nearestOther_6 σ b1 b2 b3 n x4 (x5 + 1)) else (gX13_nearestOther_6 σ b1 b2 b3 n (fX13_apart b2 r18) (x5 + 1)))))))) else ((fX13_bellIs σ x5 1).bind (fun r9 => gX13_nearestOther_6 σ b1 b2 b3 n x4 (x5 + 1))))))
def fX13_nearestOther (σ : xM) (a1 : Int32) (a2 : Int32) (a3 : Int32) : Option Int32 :=
  (gX13_nearestOther_6 σ a1 a2 a3 xfu (-1) 0).bind (fun q22 => some q22.1)
set_option maxHeartbeats 4000000 in
theorem lX13_nearestOther_6 {p : Program} {l : Launch} {e : Env} {s : State} {m : MethodId} {av : Array Value} {below : List Frame} {meth : Method} {c : Code} {Q : State → Prop} {E : xE} {σ : xM} {b1 : Int32} {b2 : Int32} {b3 : Int32} (F : xFx p m c cX13_nearestOther 8 s av RX13 E) : ∀ (n : Nat) (x4 : Int32) (x5 : Int32) (q : (Int32 × Int32)), gX13_nearestOther_6 σ b1 b2 b3 n x4 x5 = some q → ∀ (H : Heap) (locs : List Loc) (ls : Array Slot), xW E σ H → va_S (xA E) s.heap H locs → lv_has ls 8 [(5, .int x5), (4, .int x4), (0, .ref (xa E 186)), (1, .int b1), (2, .int b2), (3, .int b3)] → (∀ (H : Heap) (locs : List Loc) (ls : Array Slot), xW E σ H → va_S (xA E) s.heap H locs → lv_has ls 8 [(5, .int q.2), (4, .int q.1), (0, .ref (xa E 186)), (1, .int b1), (2, .int b2), (3, .int b3)] → W p l e ({ frames := 3, cells := 0, slots := 0, locals := 64 } : Room) s m av below meth c H locs 0 0 Q (F0 m 98 ls [])) → W p l e ({ frames := 3, cells := 0, slots := 0, locals := 64 } : Room) s m av below meth c H locs 0 0 Q (F0 m 6 ls []) := by
  obtain ⟨hx, hb, hml, hown, hts⟩ := id F.1
  have hK := F.2.1.1
  intro n
  induction n with
  | zero =>
    intro x4 x5 q h
    cases h
  | succ n ih =>
    intro x4 x5 q h H locs ls hW hS hl kk
    rw [gX13_nearestOther_6] at h
    refine lv_iload hx hb dX13_nearestOther_6 (lv_at hl 0 rfl) ?_
    refine lv_aload_n hx hb dX13_nearestOther_8 rfl (lv_at hl 2 rfl) ?_
    refine va_get (D := xD E) (ci := 13) (v := .ref (xa E 187)) (C := RX13) (T := TX13) (N := 24) hx hb hts in_X13 hown hK (xO_M hW) 0 rfl rfl 0 (by decide) (hts _ q1196) (fun _ h9 => h9) rfl dX13_nearestOther_9 ?_
    refine lv_iconst (v := 2) hx hb dX13_nearestOther_12 (by decide) ?_
    refine va_iald hx hb hK (xV_p hW xp_187) 0 0 rfl rfl (x_lit (by decide)) dX13_nearestOther_13 ?_
    refine lv_icmp_ge (tgt := 98) hx hb dX13_nearestOther_14 (by decide) (fun c1 => ?_) (fun c1 => ?_)
    · rw [if_pos c1] at h
      have h := Option.some.inj h; subst h
      exact kk _ _ _ hW hS (lv_sub hl [0, 1, 2, 3, 4, 5] rfl)
    · rw [if_neg c1] at h
      refine lv_iload hx hb dX13_nearestOther_17 (lv_at hl 0 rfl) ?_
      refine lv_iload_n hx hb dX13_nearestOther_19 rfl (lv_at hl 3 rfl) ?_
      refine lv_icmp_eq (tgt := 50) hx hb dX13_nearestOther_20 (by decide) (fun c2 => ?_) (fun c2 => ?_)
      · rw [if_pos c2] at h
        refine lv_iconst (v := 0) hx hb dX13_nearestOther_50 (by decide) ?_
        refine lv_istore (lv' := [(6, .int 0), (5, .int x5), (4, .int x4), (0, .ref (xa E 186)), (1, .int b1), (2, .int b2), (3, .int b3)]) hx hb dX13_nearestOther_51 hl (by decide) rfl (fun ls hl => ?_)
        refine lv_iload_n hx hb dX13_nearestOther_53 rfl (lv_at hl 5 rfl) ?_
        refine lv_aload_n hx hb dX13_nearestOther_54 rfl (lv_at hl 3 rfl) ?_
        refine lv_iload hx hb dX13_nearestOther_55 (lv_at hl 1 rfl) ?_
        refine lv_iconst (v := 1) hx hb dX13_nearestOther_57 (by decide) ?_
        cases g3 : fX13_bellIs σ x5 1 with
        | none => rw [g3] at h; cases h
        | some r4 =>
          rw [g3, Option.bind_some] at h
          refine x_backi (va_runV (C := RX13) (b := (xa E 186)) (As := [.int x5, .int 1]) (rest := [.int b2]) F.1 (mX13_bellIs l E σ x5 1 r4 g3) (cwV 2 hts (lw_V q1326 q1328 qs56 q115 q1329) rfl rfl rfl (by decide +kernel) ⟨Nat.le_of_ble_eq_true rfl, Nat.le_of_ble_eq_true rfl⟩) ⟨xPc.blind, va_recv hK (xO_M hW) (ci := 13) (q0 := 0) rfl rfl, F.pre hW hS (.ref (xa E 186) :: [.int x5, .int 1])⟩ rfl rfl hl.1 rfl (lv_room (Nat.le_of_ble_eq_true rfl)) dX13_nearestOther_58 ⟨Nat.le_refl _, Nat.le_refl _⟩) hS (fun H locs hW hS => ?_)
          refine x_backi (va_runS (As := [.int b2, .int r4]) (rest := []) F.1 (mX13_apart l E σ b2 r4) (va_cwS 2 hts (lw_S q1338 q1339 q115 q1340) rfl rfl rfl (by decide +kernel) ⟨Nat.le_of_ble_eq_true rfl, Nat.le_of_ble_eq_true rfl⟩) ⟨xPc.blind, F.pre hW hS [.int b2, .int r4]⟩ rfl rfl hl.1 rfl (lv_room (Nat.le_of_ble_eq_true rfl)) dX13_nearestOther_61 ⟨Nat.le_refl _, Nat.le_refl _⟩) hS (fun H locs hW hS => ?_)
          refine lv_istore (lv' := [(7, .int (fX13_apart b2 r4)), (6, .int 0), (5, .int x5), (4, .int x4), (0, .ref (xa E 186)), (1, .int b1), (2, .int b2), (3, .int b3)]) hx hb dX13_nearestOther_64 hl (by decide) rfl (fun ls hl => ?_)
          refine lv_iload hx hb dX13_nearestOther_66 (lv_at hl 1 rfl) ?_
          refine lv_if_eq (tgt := 88) hx hb dX13_nearestOther_68 (by decide) (fun c => ?_) (fun c => absurd c (by decide))
          refine lv_iload hx hb dX13_nearestOther_88 (lv_at hl 3 rfl) ?_
          refine lv_istore (lv' := [(4, .int x4), (7, .int (fX13_apart b2 r4)), (6, .int 0), (5, .int x5), (0, .ref (xa E 186)), (1, .int b1), (2, .int b2), (3, .int b3)]) hx hb dX13_nearestOther_90 hl (by decide) rfl (fun ls hl => ?_)
          refine lv_iinc (k := 3) (v := (x5 + 1)) (lv' := [(5, .int (x5 + 1)), (4, .int x4), (7, .int (fX13_apart b2 r4)), (6, .int 0), (0, .ref (xa E 186)), (1, .int b1), (2, .int b2), (3, .int b3)]) hx hb dX13_nearestOther_92 hl rfl rfl (by decide) rfl (fun ls hl => ?_)
          refine lv_goto (tgt := 6) hx hb dX13_nearestOther_95 (by decide) ?_
          exact ih x4 (x5 + 1) _ h _ _ _ hW hS (lv_sub hl [0, 1, 4, 5, 6, 7] rfl) kk
      · rw [if_neg c2] at h
        refine lv_aload_n hx hb dX13_nearestOther_23 rfl (lv_at hl 2 rfl) ?_
        refine lv_iload hx hb dX13_nearestOther_24 (lv_at hl 0 rfl) ?_
        cases g5 : fX13_isCaught σ x5 with
        | none => rw [g5] at h; cases h
        | some r6 =>
          rw [g5, Option.bind_some] at h
          refine x_backi (va_runV (C := RX13) (b := (xa E 186)) (As := [.int x5]) (rest := []) F.1 (mX13_isCaught l E σ x5 r6 g5) (cwV 1 hts (lw_V q1353 q1355 qs60 q115 q1356) rfl rfl rfl (by decide +kernel) ⟨Nat.le_of_ble_eq_true rfl, Nat.le_of_ble_eq_true rfl⟩) ⟨xPc.blind, va_recv hK (xO_M hW) (ci := 13) (q0 := 0) rfl rfl, F.pre hW hS (.ref (xa E 186) :: [.int x5])⟩ rfl rfl hl.1 rfl (lv_room (Nat.le_of_ble_eq_true rfl)) dX13_nearestOther_26 ⟨Nat.le_refl _, Nat.le_refl _⟩) hS (fun H locs hW hS => ?_)
          refine lv_if_ne (tgt := 50) hx hb dX13_nearestOther_29 (by decide) (fun c7 => ?_) (fun c7 => ?_)
          · rw [if_neg c7] at h
            refine lv_iconst (v := 0) hx hb dX13_nearestOther_50 (by decide) ?_
            refine lv_istore (lv' := [(6, .int 0), (5, .int x5), (4, .int x4), (0, .ref (xa E 186)), (1, .int b1), (2, .int b2), (3, .int b3)]) hx hb dX13_nearestOther_51 hl (by decide) rfl (fun ls hl => ?_)
            refine lv_iload_n hx hb dX13_nearestOther_53 rfl (lv_at hl 5 rfl) ?_
            refine lv_aload_n hx hb dX13_nearestOther_54 rfl (lv_at hl 3 rfl) ?_
            refine lv_iload hx hb dX13_nearestOther_55 (lv_at hl 1 rfl) ?_
            refine lv_iconst (v := 1) hx hb dX13_nearestOther_57 (by decide) ?_
            cases g8 : fX13_bellIs σ x5 1 with
            | none => rw [g8] at h; cases h
            | some r9 =>
              rw [g8, Option.bind_some] at h
              refine x_backi (va_runV (C := RX13) (b := (xa E 186)) (As := [.int x5, .int 1]) (rest := [.int b2]) F.1 (mX13_bellIs l E σ x5 1 r9 g8) (cwV 2 hts (lw_V q1326 q1328 qs56 q115 q1329) rfl rfl rfl (by decide +kernel) ⟨Nat.le_of_ble_eq_true rfl, Nat.le_of_ble_eq_true rfl⟩) ⟨xPc.blind, va_recv hK (xO_M hW) (ci := 13) (q0 := 0) rfl rfl, F.pre hW hS (.ref (xa E 186) :: [.int x5, .int 1])⟩ rfl rfl hl.1 rfl (lv_room (Nat.le_of_ble_eq_true rfl)) dX13_nearestOther_58 ⟨Nat.le_refl _, Nat.le_refl _⟩) hS (fun H locs hW hS => ?_)
              refine x_backi (va_runS (As := [.int b2, .int r9]) (rest := []) F.1 (mX13_apart l E σ b2 r9) (va_cwS 2 hts (lw_S q1338 q1339 q115 q1340) rfl rfl rfl (by decide +kernel) ⟨Nat.le_of_ble_eq_true rfl, Nat.le_of_ble_eq_true rfl⟩) ⟨xPc.blind, F.pre hW hS [.int b2, .int r9]⟩ rfl rfl hl.1 rfl (lv_room (Nat.le_of_ble_eq_true rfl)) dX13_nearestOther_61 ⟨Nat.le_refl _, Nat.le_refl _⟩) hS (fun H locs hW hS => ?_)
              refine lv_istore (lv' := [(7, .int (fX13_apart b2 r9)), (6, .int 0), (5, .int x5), (4, .int x4), (0, .ref (xa E 186)), (1, .int b1), (2, .int b2), (3, .int b3)]) hx hb dX13_nearestOther_64 hl (by decide) rfl (fun ls hl => ?_)
              refine lv_iload hx hb dX13_nearestOther_66 (lv_at hl 1 rfl) ?_
              refine lv_if_eq (tgt := 88) hx hb dX13_nearestOther_68 (by decide) (fun c => ?_) (fun c => absurd c (by decide))
              refine lv_iload hx hb dX13_nearestOther_88 (lv_at hl 3 rfl) ?_
              refine lv_istore (lv' := [(4, .int x4), (7, .int (fX13_apart b2 r9)), (6, .int 0), (5, .int x5), (0, .ref (xa E 186)), (1, .int b1), (2, .int b2), (3, .int b3)]) hx hb dX13_nearestOther_90 hl (by decide) rfl (fun ls hl => ?_)
              refine lv_iinc (k := 3) (v := (x5 + 1)) (lv' := [(5, .int (x5 + 1)), (4, .int x4), (7, .int (fX13_apart b2 r9)), (6, .int 0), (0, .ref (xa E 186)), (1, .int b1), (2, .int b2), (3, .int b3)]) hx hb dX13_nearestOther_92 hl rfl rfl (by decide) rfl (fun ls hl => ?_)
              refine lv_goto (tgt := 6) hx hb dX13_nearestOther_95 (by decide) ?_
              exact ih x4 (x5 + 1) _ h _ _ _ hW hS (lv_sub hl [0, 1, 4, 5, 6, 7] rfl) kk
          · rw [if_pos c7] at h
            refine lv_aload_n hx hb dX13_nearestOther_32 rfl (lv_at hl 2 rfl) ?_
            refine lv_iload hx hb dX13_nearestOther_33 (lv_at hl 0 rfl) ?_
            refine lv_iconst (v := 0) hx hb dX13_nearestOther_35 (by decide) ?_
            cases g10 : fX13_bellIs σ x5 0 with
            | none => rw [g10] at h; cases h
            | some r11 =>
              rw [g10, Option.bind_some] at h
              refine x_backi (va_runV (C := RX13) (b := (xa E 186)) (As := [.int x5, .int 0]) (rest := []) F.1 (mX13_bellIs l E σ x5 0 r11 g10) (cwV 2 hts (lw_V q1326 q1328 qs56 q115 q1329) rfl rfl rfl (by decide +kernel) ⟨Nat.le_of_ble_eq_true rfl, Nat.le_of_ble_eq_true rfl⟩) ⟨xPc.blind, va_recv hK (xO_M hW) (ci := 13) (q0 := 0) rfl rfl, F.pre hW hS (.ref (xa E 186) :: [.int x5, .int 0])⟩ rfl rfl hl.1 rfl (lv_room (Nat.le_of_ble_eq_true rfl)) dX13_nearestOther_36 ⟨Nat.le_refl _, Nat.le_refl _⟩) hS (fun H locs hW hS => ?_)
              refine lv_iload_n hx hb dX13_nearestOther_39 rfl (lv_at hl 5 rfl) ?_
              cases g12 : fX13_isUnder r11 b3 with
              | none => rw [g12] at h; cases h
              | some r13 =>
                rw [g12, Option.bind_some] at h
                refine x_backi (va_runS (As := [.int r11, .int b3]) (rest := []) F.1 (mX13_isUnder l E σ r11 b3 r13 g12) (va_cwS 2 hts (lw_S q1343 q1344 q115 q1345) rfl rfl rfl (by decide +kernel) ⟨Nat.le_of_ble_eq_true rfl, Nat.le_of_ble_eq_true rfl⟩) ⟨xPc.blind, F.pre hW hS [.int r11, .int b3]⟩ rfl rfl hl.1 rfl (lv_room (Nat.le_of_ble_eq_true rfl)) dX13_nearestOther_40 ⟨Nat.le_refl _, Nat.le_refl _⟩) hS (fun H locs hW hS => ?_)
                refine lv_if_eq (tgt := 50) hx hb dX13_nearestOther_43 (by decide) (fun c14 => ?_) (fun c14 => ?_)
                · rw [if_pos c14] at h
                  refine lv_iconst (v := 0) hx hb dX13_nearestOther_50 (by decide) ?_
                  refine lv_istore (lv' := [(6, .int 0), (5, .int x5), (4, .int x4), (0, .ref (xa E 186)), (1, .int b1), (2, .int b2), (3, .int b3)]) hx hb dX13_nearestOther_51 hl (by decide) rfl (fun ls hl => ?_)
                  refine lv_iload_n hx hb dX13_nearestOther_53 rfl (lv_at hl 5 rfl) ?_
                  refine lv_aload_n hx hb dX13_nearestOther_54 rfl (lv_at hl 3 rfl) ?_
                  refine lv_iload hx hb dX13_nearestOther_55 (lv_at hl 1 rfl) ?_
                  refine lv_iconst (v := 1) hx hb dX13_nearestOther_57 (by decide) ?_
                  cases g15 : fX13_bellIs σ x5 1 with
                  | none => rw [g15] at h; cases h
                  | some r16 =>
                    rw [g15, Option.bind_some] at h
                    refine x_backi (va_runV (C := RX13) (b := (xa E 186)) (As := [.int x5, .int 1]) (rest := [.int b2]) F.1 (mX13_bellIs l E σ x5 1 r16 g15) (cwV 2 hts (lw_V q1326 q1328 qs56 q115 q1329) rfl rfl rfl (by decide +kernel) ⟨Nat.le_of_ble_eq_true rfl, Nat.le_of_ble_eq_true rfl⟩) ⟨xPc.blind, va_recv hK (xO_M hW) (ci := 13) (q0 := 0) rfl rfl, F.pre hW hS (.ref (xa E 186) :: [.int x5, .int 1])⟩ rfl rfl hl.1 rfl (lv_room (Nat.le_of_ble_eq_true rfl)) dX13_nearestOther_58 ⟨Nat.le_refl _, Nat.le_refl _⟩) hS (fun H locs hW hS => ?_)
                    refine x_backi (va_runS (As := [.int b2, .int r16]) (rest := []) F.1 (mX13_apart l E σ b2 r16) (va_cwS 2 hts (lw_S q1338 q1339 q115 q1340) rfl rfl rfl (by decide +kernel) ⟨Nat.le_of_ble_eq_true rfl, Nat.le_of_ble_eq_true rfl⟩) ⟨xPc.blind, F.pre hW hS [.int b2, .int r16]⟩ rfl rfl hl.1 rfl (lv_room (Nat.le_of_ble_eq_true rfl)) dX13_nearestOther_61 ⟨Nat.le_refl _, Nat.le_refl _⟩) hS (fun H locs hW hS => ?_)
                    refine lv_istore (lv' := [(7, .int (fX13_apart b2 r16)), (6, .int 0), (5, .int x5), (4, .int x4), (0, .ref (xa E 186)), (1, .int b1), (2, .int b2), (3, .int b3)]) hx hb dX13_nearestOther_64 hl (by decide) rfl (fun ls hl => ?_)
                    refine lv_iload hx hb dX13_nearestOther_66 (lv_at hl 1 rfl) ?_
                    refine lv_if_eq (tgt := 88) hx hb dX13_nearestOther_68 (by decide) (fun c => ?_) (fun c => absurd c (by decide))
                    refine lv_iload hx hb dX13_nearestOther_88 (lv_at hl 3 rfl) ?_
                    refine lv_istore (lv' := [(4, .int x4), (7, .int (fX13_apart b2 r16)), (6, .int 0), (5, .int x5), (0, .ref (xa E 186)), (1, .int b1), (2, .int b2), (3, .int b3)]) hx hb dX13_nearestOther_90 hl (by decide) rfl (fun ls hl => ?_)
                    refine lv_iinc (k := 3) (v := (x5 + 1)) (lv' := [(5, .int (x5 + 1)), (4, .int x4), (7, .int (fX13_apart b2 r16)), (6, .int 0), (0, .ref (xa E 186)), (1, .int b1), (2, .int b2), (3, .int b3)]) hx hb dX13_nearestOther_92 hl rfl rfl (by decide) rfl (fun ls hl => ?_)
                    refine lv_goto (tgt := 6) hx hb dX13_nearestOther_95 (by decide) ?_
                    exact ih x4 (x5 + 1) _ h _ _ _ hW hS (lv_sub hl [0, 1, 4, 5, 6, 7] rfl) kk
                · rw [if_neg c14] at h
                  refine lv_iconst (v := 1) hx hb dX13_nearestOther_46 (by decide) ?_
                  refine lv_goto (tgt := 51) hx hb dX13_nearestOther_47 (by decide) ?_
                  refine lv_istore (lv' := [(6, .int 1), (5, .int x5), (4, .int x4), (0, .ref (xa E 186)), (1, .int b1), (2, .int b2), (3, .int b3)]) hx hb dX13_nearestOther_51 hl (by decide) rfl (fun ls hl => ?_)
                  refine lv_iload_n hx hb dX13_nearestOther_53 rfl (lv_at hl 5 rfl) ?_
                  refine lv_aload_n hx hb dX13_nearestOther_54 rfl (lv_at hl 3 rfl) ?_
                  refine lv_iload hx hb dX13_nearestOther_55 (lv_at hl 1 rfl) ?_
                  refine lv_iconst (v := 1) hx hb dX13_nearestOther_57 (by decide) ?_
                  cases g17 : fX13_bellIs σ x5 1 with
                  | none => rw [g17] at h; cases h
                  | some r18 =>
                    rw [g17, Option.bind_some] at h
                    refine x_backi (va_runV (C := RX13) (b := (xa E 186)) (As := [.int x5, .int 1]) (rest := [.int b2]) F.1 (mX13_bellIs l E σ x5 1 r18 g17) (cwV 2 hts (lw_V q1326 q1328 qs56 q115 q1329) rfl rfl rfl (by decide +kernel) ⟨Nat.le_of_ble_eq_true rfl, Nat.le_of_ble_eq_true rfl⟩) ⟨xPc.blind, va_recv hK (xO_M hW) (ci := 13) (q0 := 0) rfl rfl, F.pre hW hS (.ref (xa E 186) :: [.int x5, .int 1])⟩ rfl rfl hl.1 rfl (lv_room (Nat.le_of_ble_eq_true rfl)) dX13_nearestOther_58 ⟨Nat.le_refl _, Nat.le_refl _⟩) hS (fun H locs hW hS => ?_)
                    refine x_backi (va_runS (As := [.int b2, .int r18]) (rest := []) F.1 (mX13_apart l E σ b2 r18) (va_cwS 2 hts (lw_S q1338 q1339 q115 q1340) rfl rfl rfl (by decide +kernel) ⟨Nat.le_of_ble_eq_true rfl, Nat.le_of_ble_eq_true rfl⟩) ⟨xPc.blind, F.pre hW hS [.int b2, .int r18]⟩ rfl rfl hl.1 rfl (lv_room (Nat.le_of_ble_eq_true rfl)) dX13_nearestOther_61 ⟨Nat.le_refl _, Nat.le_refl _⟩) hS (fun H locs hW hS => ?_)
                    refine lv_istore (lv' := [(7, .int (fX13_apart b2 r18)), (6, .int 1), (5, .int x5), (4, .int x4), (0, .ref (xa E 186)), (1, .int b1), (2, .int b2), (3, .int b3)]) hx hb dX13_nearestOther_64 hl (by decide) rfl (fun ls hl => ?_)
                    refine lv_iload hx hb dX13_nearestOther_66 (lv_at hl 1 rfl) ?_
                    refine lv_if_eq (tgt := 88) hx hb dX13_nearestOther_68 (by decide) (fun c => absurd c (by decide)) (fun c => ?_)
                    refine lv_iload hx hb dX13_nearestOther_71 (lv_at hl 3 rfl) ?_
                    refine lv_if_lt (tgt := 83) hx hb dX13_nearestOther_73 (by decide) (fun c19 => ?_) (fun c19 => ?_)
                    · rw [if_pos c19] at h
                      refine lv_iload hx hb dX13_nearestOther_83 (lv_at hl 0 rfl) ?_
                      refine lv_goto (tgt := 90) hx hb dX13_nearestOther_85 (by decide) ?_
                      refine lv_istore (lv' := [(4, .int (fX13_apart b2 r18)), (7, .int (fX13_apart b2 r18)), (6, .int 1), (5, .int x5), (0, .ref (xa E 186)), (1, .int b1), (2, .int b2), (3, .int b3)]) hx hb dX13_nearestOther_90 hl (by decide) rfl (fun ls hl => ?_)
                      refine lv_iinc (k := 3) (v := (x5 + 1)) (lv' := [(5, .int (x5 + 1)), (4, .int (fX13_apart b2 r18)), (7, .int (fX13_apart b2 r18)), (6, .int 1), (0, .ref (xa E 186)), (1, .int b1), (2, .int b2), (3, .int b3)]) hx hb dX13_nearestOther_92 hl rfl rfl (by decide) rfl (fun ls hl => ?_)
                      refine lv_goto (tgt := 6) hx hb dX13_nearestOther_95 (by decide) ?_
                      exact ih (fX13_apart b2 r18) (x5 + 1) _ h _ _ _ hW hS (lv_sub hl [0, 1, 4, 5, 6, 7] rfl) kk
                    · rw [if_neg c19] at h
                      refine lv_iload hx hb dX13_nearestOther_76 (lv_at hl 0 rfl) ?_
                      refine lv_iload hx hb dX13_nearestOther_78 (lv_at hl 3 rfl) ?_
                      refine lv_icmp_ge (tgt := 88) hx hb dX13_nearestOther_80 (by decide) (fun c20 => ?_) (fun c20 => ?_)
                      · rw [if_pos c20] at h
                        refine lv_iload hx hb dX13_nearestOther_88 (lv_at hl 3 rfl) ?_
                        refine lv_istore (lv' := [(4, .int x4), (7, .int (fX13_apart b2 r18)), (6, .int 1), (5, .int x5), (0, .ref (xa E 186)), (1, .int b1), (2, .int b2), (3, .int b3)]) hx hb dX13_nearestOther_90 hl (by decide) rfl (fun ls hl => ?_)
                        refine lv_iinc (k := 3) (v := (x5 + 1)) (lv' := [(5, .int (x5 + 1)), (4, .int x4), (7, .int (fX13_apart b2 r18)), (6, .int 1), (0, .ref (xa E 186)), (1, .int b1), (2, .int b2), (3, .int b3)]) hx hb dX13_nearestOther_92 hl rfl rfl (by decide) rfl (fun ls hl => ?_)
                        refine lv_goto (tgt := 6) hx hb dX13_nearestOther_95 (by decide) ?_
                        exact ih x4 (x5 + 1) _ h _ _ _ hW hS (lv_sub hl [0, 1, 4, 5, 6, 7] rfl) kk
                      · rw [if_neg c20] at h
                        refine lv_iload hx hb dX13_nearestOther_83 (lv_at hl 0 rfl) ?_
                        refine lv_goto (tgt := 90) hx hb dX13_nearestOther_85 (by decide) ?_
                        refine lv_istore (lv' := [(4, .int (fX13_apart b2 r18)), (7, .int (fX13_apart b2 r18)), (6, .int 1), (5, .int x5), (0, .ref (xa E 186)), (1, .int b1), (2, .int b2), (3, .int b3)]) hx hb dX13_nearestOther_90 hl (by decide) rfl (fun ls hl => ?_)
                        refine lv_iinc (k := 3) (v := (x5 + 1)) (lv' := [(5, .int (x5 + 1)), (4, .int (fX13_apart b2 r18)), (7, .int (fX13_apart b2 r18)), (6, .int 1), (0, .ref (xa E 186)), (1, .int b1), (2, .int b2), (3, .int b3)]) hx hb dX13_nearestOther_92 hl rfl rfl (by decide) rfl (fun ls hl => ?_)
                        refine lv_goto (tgt := 6) hx hb dX13_nearestOther_95 (by decide) ?_
                        exact ih (fX13_apart b2 r18) (x5 + 1) _ h _ _ _ hW hS (lv_sub hl [0, 1, 4, 5, 6, 7] rfl) kk
set_option maxHeartbeats 4000000 in
theorem mX13_nearestOther (l : Launch) (E : xE) (σ : xM) (a1 : Int32) (a2 : Int32) (a3 : Int32) (r : Int32) (h : fX13_nearestOther σ a1 a2 a3 = some r) : Met l yX13_nearestOther (ws_ yX13_nearestOther cX13_nearestOther 8 (some .int)) ({ frames := 3, cells := 0, slots := 0, locals := 64 } : Room) (xPc E σ [.ref (xa E 186), .int a1, .int a2, .int a3]) (xQc E (.returned (some (.int r))) σ) 0 0 (xA E) := by
  refine x_of (C := RX13) (n := "nearestOther") (d := "(III)I") (r := (some .int)) (by decide) rfl (by first | decide | exact Nat.le_of_ble_eq_true rfl) ?_
  intro p e s m below meth c ls F hr hlk hW hS hl
  have hl : lv_has ls 8 [(0, .ref (xa E 186)), (1, .int a1), (2, .int a2), (3, .int a3)] := hl
  obtain ⟨hx, hb, hml, hown, hts⟩ := id F.1
  have hK := F.2.1.1
  unfold fX13_nearestOther at h
  refine lv_iconst (v := (-1)) hx hb dX13_nearestOther_0 (by decide) ?_
  refine lv_istore (lv' := [(4, .int (-1)), (0, .ref (xa E 186)), (1, .int a1), (2, .int a2), (3, .int a3)]) hx hb dX13_nearestOther_1 hl (by decide) rfl (fun ls hl => ?_)
  refine lv_iconst (v := 0) hx hb dX13_nearestOther_3 (by decide) ?_
  refine lv_istore (lv' := [(5, .int 0), (4, .int (-1)), (0, .ref (xa E 186)), (1, .int a1), (2, .int a2), (3, .int a3)]) hx hb dX13_nearestOther_4 hl (by decide) rfl (fun ls hl => ?_)
  cases g21 : gX13_nearestOther_6 σ a1 a2 a3 xfu (-1) 0 with
  | none => rw [g21] at h; cases h
  | some q22 =>
    rw [g21, Option.bind_some] at h
    refine lX13_nearestOther_6 F xfu (-1) 0 q22 g21 _ _ _ hW hS (lv_sub hl [0, 1, 2, 3, 4, 5] rfl) (fun H locs ls hW hS hl => ?_)
    refine lv_iload hx hb dX13_nearestOther_98 (lv_at hl 1 rfl) ?_
    have h := Option.some.inj h; subst h
    exact x_iret F hr hlk hW hS dX13_nearestOther_100
/-! WildBellsModel.worthOf(II)I -/
def gX13_worthOf_10 (σ : xM) (b2 : Int32) : Nat → Int32 → Int32 → Option (Int32 × Int32)
  | 0, _, _ => none
  | n + 1, x3, x4 => if 4 ≤ x4 then (some (x3, x4)) else (if xin (14 + x4) 186 then (if 0 ≤ (σ 20 ((14 + x4).toNatClampNeg)) then (if xin (14 + x4) 186 then (gX13_worthOf_10 σ b2 n (fJ3_min x3 (fX13_apart b2 (σ 20 ((14 + x4).toNatClampNeg)))) (x4 + 1)) else none) else (gX13_worthOf_10 σ b2 n x3 (x4 + 1))) else none)
def fX13_worthOf (σ : xM) (a1 : Int32) (a2 : Int32) : Option Int32 :=
  (gX13_worthOf_10 σ a2 xfu (σ 20 ((1 : Int32).toNatClampNeg)) 0).bind (fun q6 => if xin (82 + a2) 186 then ((fX13_bellIs σ a1 0).bind (fun r9 => if r9 = 0 then (if r9 = 0 then (some (((10 * q6.1) + 9) - (σ 20 ((82 + a2).toNatClampNeg)))) else (some ((((10 * q6.1) + 9) - (σ 20 ((82 + a2).toNatClampNeg))) - (2 * (fX13_apart a2 0))))) else (if r9 = 5 then (if r9 = 0 then (some (((10 * q6.1) + 9) - (σ 20 ((82 + a2).toNatClampNeg)))) else (some ((((10 * q6.1) + 9) - (σ 20 ((82 + a2).toNatClampNeg))) - (2 * (fX13_apart a2 0))))) else ((fX13_isUnder r9 1).bind (fun r14 => if r14 = 0 then ((fX13_nearestOther σ a1 a2 0).bind (fun r17 => if r9 = 2 then (some ((((10 * q6.1) + 9) - (σ 20 ((82 + a2).toNatClampNeg))) + (fJ3_max 0 r17))) else (if r9 = 3 then (some ((((((10 * q6.1) + 9) - (σ 20 ((82 + a2).toNatClampNeg))) + (fJ3_max 0 r17)) + 7) - (a2 / 8))) else (some (2 * ((((((10 * q6.1) + 9) - (σ 20 ((82 + a2).toNatClampNeg))) + (fJ3_max 0 r17)) + 7) - (a2 / 8))))))) else ((fX13_nearestOther σ a1 a2 1).bind (fun r21 => if 0 ≤ r21 then (if r9 = 6 then (some (((((10 * q6.1) + 9) - (σ 20 ((82 + a2).toNatClampNeg))) + (fJ3_max 0 (20 - r21))) + (2 * (σ 20 ((82 + a2).toNatClampNeg))))) else (some (((((10 * q6.1) + 9) - (σ 20 ((82 + a2).toNatClampNeg))) + (fJ3_max 0 (20 - r21))) + 0))) else (if r9 = 6 then (some (((((10 * q6.1) + 9) - (σ 20 ((82 + a2).toNatClampNeg))) + 0) + (2 * (σ 20 ((82 + a2).toNatClampNeg))))) else (some (((((10 * q6.1) + 9) - (σ 20 ((82 + a2).toNatClampNeg))) + 0) + 0)))))))))) else none)
set_option maxHeartbeats 4000000 in
theorem lX13_worthOf_10 {p : Program} {l : Launch} {e : Env} {s : State} {m : MethodId} {av : Array Value} {below : List Frame} {meth : Method} {c : Code} {Q : State → Prop} {E : xE} {σ : xM} {b1 : Int32} {b2 : Int32} (F : xFx p m c cX13_worthOf 9 s av RX13 E) : ∀ (n : Nat) (x3 : Int32) (x4 : Int32) (q : (Int32 × Int32)), gX13_worthOf_10 σ b2 n x3 x4 = some q → ∀ (H : Heap) (locs : List Loc) (ls : Array Slot), xW E σ H → va_S (xA E) s.heap H locs → lv_has ls 9 [(4, .int x4), (3, .int x3), (0, .ref (xa E 186)), (1, .int b1), (2, .int b2)] → (∀ (H : Heap) (locs : List Loc) (ls : Array Slot), xW E σ H → va_S (xA E) s.heap H locs → lv_has ls 9 [(4, .int q.2), (3, .int q.1), (0, .ref (xa E 186)), (1, .int b1), (2, .int b2)] → W p l e ({ frames := 4, cells := 0, slots := 0, locals := 91 } : Room) s m av below meth c H locs 0 0 Q (F0 m 58 ls [])) → W p l e ({ frames := 4, cells := 0, slots := 0, locals := 91 } : Room) s m av below meth c H locs 0 0 Q (F0 m 10 ls []) := by
  obtain ⟨hx, hb, hml, hown, hts⟩ := id F.1
  have hK := F.2.1.1
  intro n
  induction n with
  | zero =>
    intro x3 x4 q h
    cases h
  | succ n ih =>
    intro x3 x4 q h H locs ls hW hS hl kk
    rw [gX13_worthOf_10] at h
    refine lv_iload hx hb dX13_worthOf_10 (lv_at hl 0 rfl) ?_
    refine lv_iconst (v := 4) hx hb dX13_worthOf_12 (by decide) ?_
    refine lv_icmp_ge (tgt := 58) hx hb dX13_worthOf_13 (by decide) (fun c1 => ?_) (fun c1 => ?_)
    · rw [if_pos c1] at h
      have h := Option.some.inj h; subst h
      exact kk _ _ _ hW hS (lv_sub hl [0, 1, 2, 3, 4] rfl)
    · rw [if_neg c1] at h
      refine lv_aload_n hx hb dX13_worthOf_16 rfl (lv_at hl 2 rfl) ?_
      refine va_get (D := xD E) (ci := 13) (v := .ref (xa E 187)) (C := RX13) (T := TX13) (N := 24) hx hb hts in_X13 hown hK (xO_M hW) 0 rfl rfl 0 (by decide) (hts _ q1196) (fun _ h9 => h9) rfl dX13_worthOf_17 ?_
      refine lv_bipush (v := 14) hx hb dX13_worthOf_20 (by decide) ?_
      refine lv_iload hx hb dX13_worthOf_22 (lv_at hl 0 rfl) ?_
      refine lv_iadd hx hb dX13_worthOf_24 ?_
      by_cases hi2 : xin (14 + x4) 186
      · rw [if_pos hi2] at h
        refine va_iald hx hb hK (xV_p hW xp_187) 0 0 rfl rfl hi2 dX13_worthOf_25 ?_
        refine lv_if_ge (tgt := 33) hx hb dX13_worthOf_26 (by decide) (fun c3 => ?_) (fun c3 => ?_)
        · rw [if_pos c3] at h
          refine lv_iload_n hx hb dX13_worthOf_33 rfl (lv_at hl 1 rfl) ?_
          refine lv_iload_n hx hb dX13_worthOf_34 rfl (lv_at hl 4 rfl) ?_
          refine lv_aload_n hx hb dX13_worthOf_35 rfl (lv_at hl 2 rfl) ?_
          refine va_get (D := xD E) (ci := 13) (v := .ref (xa E 187)) (C := RX13) (T := TX13) (N := 24) hx hb hts in_X13 hown hK (xO_M hW) 0 rfl rfl 0 (by decide) (hts _ q1196) (fun _ h9 => h9) rfl dX13_worthOf_36 ?_
          refine lv_bipush (v := 14) hx hb dX13_worthOf_39 (by decide) ?_
          refine lv_iload hx hb dX13_worthOf_41 (lv_at hl 0 rfl) ?_
          refine lv_iadd hx hb dX13_worthOf_43 ?_
          by_cases hi4 : xin (14 + x4) 186
          · rw [if_pos hi4] at h
            refine va_iald hx hb hK (xV_p hW xp_187) 0 0 rfl rfl hi4 dX13_worthOf_44 ?_
            refine x_backi (va_runS (As := [.int b2, .int (σ 20 ((14 + x4).toNatClampNeg))]) (rest := [.int x3]) F.1 (mX13_apart l E σ b2 (σ 20 ((14 + x4).toNatClampNeg))) (va_cwS 2 hts (lw_S q1338 q1339 q115 q1340) rfl rfl rfl (by decide +kernel) ⟨Nat.le_of_ble_eq_true rfl, Nat.le_of_ble_eq_true rfl⟩) ⟨xPc.blind, F.pre hW hS [.int b2, .int (σ 20 ((14 + x4).toNatClampNeg))]⟩ rfl rfl hl.1 rfl (lv_room (Nat.le_of_ble_eq_true rfl)) dX13_worthOf_45 ⟨Nat.le_refl _, Nat.le_refl _⟩) hS (fun H locs hW hS => ?_)
            refine x_backi (va_runS (As := [.int x3, .int (fX13_apart b2 (σ 20 ((14 + x4).toNatClampNeg)))]) (rest := []) F.1 (mJ3_min l E σ x3 (fX13_apart b2 (σ 20 ((14 + x4).toNatClampNeg)))) (va_cwS 2 hts (lw_S q1342 q597 q116 q598) rfl rfl rfl (by decide +kernel) ⟨Nat.le_of_ble_eq_true rfl, Nat.le_of_ble_eq_true rfl⟩) ⟨xPc.blind, F.pre hW hS [.int x3, .int (fX13_apart b2 (σ 20 ((14 + x4).toNatClampNeg)))]⟩ rfl rfl hl.1 rfl (lv_room (Nat.le_of_ble_eq_true rfl)) dX13_worthOf_48 ⟨Nat.le_refl _, Nat.le_refl _⟩) hS (fun H locs hW hS => ?_)
            refine lv_istore_n (lv' := [(3, .int (fJ3_min x3 (fX13_apart b2 (σ 20 ((14 + x4).toNatClampNeg))))), (4, .int x4), (0, .ref (xa E 186)), (1, .int b1), (2, .int b2)]) hx hb dX13_worthOf_51 rfl hl (by decide) rfl (fun ls hl => ?_)
            refine lv_iinc (k := 1) (v := (x4 + 1)) (lv' := [(4, .int (x4 + 1)), (3, .int (fJ3_min x3 (fX13_apart b2 (σ 20 ((14 + x4).toNatClampNeg))))), (0, .ref (xa E 186)), (1, .int b1), (2, .int b2)]) hx hb dX13_worthOf_52 hl rfl rfl (by decide) rfl (fun ls hl => ?_)
            refine lv_goto (tgt := 10) hx hb dX13_worthOf_55 (by decide) ?_
            exact ih (fJ3_min x3 (fX13_apart b2 (σ 20 ((14 + x4).toNatClampNeg)))) (x4 + 1) _ h _ _ _ hW hS (lv_sub hl [0, 1, 2, 3, 4] rfl) kk
          · rw [if_neg hi4] at h; cases h
        · rw [if_neg c3] at h
          refine lv_iload_n hx hb dX13_worthOf_29 rfl (lv_at hl 1 rfl) ?_
          refine lv_goto (tgt := 51) hx hb dX13_worthOf_30 (by decide) ?_
          refine lv_istore_n (lv' := [(3, .int x3), (4, .int x4), (0, .ref (xa E 186)), (1, .int b1), (2, .int b2)]) hx hb dX13_worthOf_51 rfl hl (by decide) rfl (fun ls hl => ?_)
          refine lv_iinc (k := 1) (v := (x4 + 1)) (lv' := [(4, .int (x4 + 1)), (3, .int x3), (0, .ref (xa E 186)), (1, .int b1), (2, .int b2)]) hx hb dX13_worthOf_52 hl rfl rfl (by decide) rfl (fun ls hl => ?_)
          refine lv_goto (tgt := 10) hx hb dX13_worthOf_55 (by decide) ?_
          exact ih x3 (x4 + 1) _ h _ _ _ hW hS (lv_sub hl [0, 1, 2, 3, 4] rfl) kk
      · rw [if_neg hi2] at h; cases h
set_option maxHeartbeats 4000000 in
theorem mX13_worthOf (l : Launch) (E : xE) (σ : xM) (a1 : Int32) (a2 : Int32) (r : Int32) (h : fX13_worthOf σ a1 a2 = some r) : Met l yX13_worthOf (ws_ yX13_worthOf cX13_worthOf 9 (some .int)) ({ frames := 4, cells := 0, slots := 0, locals := 91 } : Room) (xPc E σ [.ref (xa E 186), .int a1, .int a2]) (xQc E (.returned (some (.int r))) σ) 0 0 (xA E) := by
  refine x_of (C := RX13) (n := "worthOf") (d := "(II)I") (r := (some .int)) (by decide) rfl (by first | decide | exact Nat.le_of_ble_eq_true rfl) ?_
  intro p e s m below meth c ls F hr hlk hW hS hl
  have hl : lv_has ls 9 [(0, .ref (xa E 186)), (1, .int a1), (2, .int a2)] := hl
  obtain ⟨hx, hb, hml, hown, hts⟩ := id F.1
  have hK := F.2.1.1
  unfold fX13_worthOf at h
  refine lv_aload_n hx hb dX13_worthOf_0 rfl (lv_at hl 0 rfl) ?_
  refine va_get (D := xD E) (ci := 13) (v := .ref (xa E 187)) (C := RX13) (T := TX13) (N := 24) hx hb hts in_X13 hown hK (xO_M hW) 0 rfl rfl 0 (by decide) (hts _ q1196) (fun _ h9 => h9) rfl dX13_worthOf_1 ?_
  refine lv_iconst (v := 1) hx hb dX13_worthOf_4 (by decide) ?_
  refine va_iald hx hb hK (xV_p hW xp_187) 0 0 rfl rfl (x_lit (by decide)) dX13_worthOf_5 ?_
  refine lv_istore_n (lv' := [(3, .int (σ 20 ((1 : Int32).toNatClampNeg))), (0, .ref (xa E 186)), (1, .int a1), (2, .int a2)]) hx hb dX13_worthOf_6 rfl hl (by decide) rfl (fun ls hl => ?_)
  refine lv_iconst (v := 0) hx hb dX13_worthOf_7 (by decide) ?_
  refine lv_istore (lv' := [(4, .int 0), (3, .int (σ 20 ((1 : Int32).toNatClampNeg))), (0, .ref (xa E 186)), (1, .int a1), (2, .int a2)]) hx hb dX13_worthOf_8 hl (by decide) rfl (fun ls hl => ?_)
  cases g5 : gX13_worthOf_10 σ a2 xfu (σ 20 ((1 : Int32).toNatClampNeg)) 0 with
  | none => rw [g5] at h; cases h
  | some q6 =>
    rw [g5, Option.bind_some] at h
    refine lX13_worthOf_10 F xfu (σ 20 ((1 : Int32).toNatClampNeg)) 0 q6 g5 _ _ _ hW hS (lv_sub hl [0, 1, 2, 3, 4] rfl) (fun H locs ls hW hS hl => ?_)
    refine lv_aload_n hx hb dX13_worthOf_58 rfl (lv_at hl 2 rfl) ?_
    refine va_get (D := xD E) (ci := 13) (v := .ref (xa E 187)) (C := RX13) (T := TX13) (N := 24) hx hb hts in_X13 hown hK (xO_M hW) 0 rfl rfl 0 (by decide) (hts _ q1196) (fun _ h9 => h9) rfl dX13_worthOf_59 ?_
    refine lv_bipush (v := 82) hx hb dX13_worthOf_62 (by decide) ?_
    refine lv_iload_n hx hb dX13_worthOf_64 rfl (lv_at hl 4 rfl) ?_
    refine lv_iadd hx hb dX13_worthOf_65 ?_
    by_cases hi7 : xin (82 + a2) 186
    · rw [if_pos hi7] at h
      refine va_iald hx hb hK (xV_p hW xp_187) 0 0 rfl rfl hi7 dX13_worthOf_66 ?_
      refine lv_istore (lv' := [(4, .int (σ 20 ((82 + a2).toNatClampNeg))), (3, .int q6.1), (0, .ref (xa E 186)), (1, .int a1), (2, .int a2)]) hx hb dX13_worthOf_67 hl (by decide) rfl (fun ls hl => ?_)
      refine lv_bipush (v := 10) hx hb dX13_worthOf_69 (by decide) ?_
      refine lv_iload_n hx hb dX13_worthOf_71 rfl (lv_at hl 1 rfl) ?_
      refine lv_imul hx hb dX13_worthOf_72 ?_
      refine lv_bipush (v := 9) hx hb dX13_worthOf_73 (by decide) ?_
      refine lv_iadd hx hb dX13_worthOf_75 ?_
      refine lv_iload hx hb dX13_worthOf_76 (lv_at hl 0 rfl) ?_
      refine lv_isub hx hb dX13_worthOf_78 ?_
      refine lv_istore (lv' := [(5, .int (((10 * q6.1) + 9) - (σ 20 ((82 + a2).toNatClampNeg)))), (4, .int (σ 20 ((82 + a2).toNatClampNeg))), (3, .int q6.1), (0, .ref (xa E 186)), (1, .int a1), (2, .int a2)]) hx hb dX13_worthOf_79 hl (by decide) rfl (fun ls hl => ?_)
      refine lv_aload_n hx hb dX13_worthOf_81 rfl (lv_at hl 3 rfl) ?_
      refine lv_iload_n hx hb dX13_worthOf_82 rfl (lv_at hl 4 rfl) ?_
      refine lv_iconst (v := 0) hx hb dX13_worthOf_83 (by decide) ?_
      cases g8 : fX13_bellIs σ a1 0 with
      | none => rw [g8] at h; cases h
      | some r9 =>
        rw [g8, Option.bind_some] at h
        refine x_backi (va_runV (C := RX13) (b := (xa E 186)) (As := [.int a1, .int 0]) (rest := []) F.1 (mX13_bellIs l E σ a1 0 r9 g8) (cwV 2 hts (lw_V q1326 q1328 qs56 q115 q1329) rfl rfl rfl (by decide +kernel) ⟨Nat.le_of_ble_eq_true rfl, Nat.le_of_ble_eq_true rfl⟩) ⟨xPc.blind, va_recv hK (xO_M hW) (ci := 13) (q0 := 0) rfl rfl, F.pre hW hS (.ref (xa E 186) :: [.int a1, .int 0])⟩ rfl rfl hl.1 rfl (lv_room (Nat.le_of_ble_eq_true rfl)) dX13_worthOf_84 ⟨Nat.le_refl _, Nat.le_refl _⟩) hS (fun H locs hW hS => ?_)
        refine lv_istore (lv' := [(6, .int r9), (5, .int (((10 * q6.1) + 9) - (σ 20 ((82 + a2).toNatClampNeg)))), (4, .int (σ 20 ((82 + a2).toNatClampNeg))), (3, .int q6.1), (0, .ref (xa E 186)), (1, .int a1), (2, .int a2)]) hx hb dX13_worthOf_87 hl (by decide) rfl (fun ls hl => ?_)
        refine lv_iload hx hb dX13_worthOf_89 (lv_at hl 0 rfl) ?_
        refine lv_if_eq (tgt := 100) hx hb dX13_worthOf_91 (by decide) (fun c10 => ?_) (fun c10 => ?_)
        · rw [if_pos c10] at h
          refine lv_iload hx hb dX13_worthOf_100 (lv_at hl 0 rfl) ?_
          refine lv_if_ne (tgt := 110) hx hb dX13_worthOf_102 (by decide) (fun c11 => ?_) (fun c11 => ?_)
          · rw [if_neg c11] at h
            refine lv_iload hx hb dX13_worthOf_110 (lv_at hl 1 rfl) ?_
            refine lv_iconst (v := 2) hx hb dX13_worthOf_112 (by decide) ?_
            refine lv_iload_n hx hb dX13_worthOf_113 rfl (lv_at hl 6 rfl) ?_
            refine lv_iconst (v := 0) hx hb dX13_worthOf_114 (by decide) ?_
            refine x_backi (va_runS (As := [.int a2, .int 0]) (rest := [.int 2, .int (((10 * q6.1) + 9) - (σ 20 ((82 + a2).toNatClampNeg)))]) F.1 (mX13_apart l E σ a2 0) (va_cwS 2 hts (lw_S q1338 q1339 q115 q1340) rfl rfl rfl (by decide +kernel) ⟨Nat.le_of_ble_eq_true rfl, Nat.le_of_ble_eq_true rfl⟩) ⟨xPc.blind, F.pre hW hS [.int a2, .int 0]⟩ rfl rfl hl.1 rfl (lv_room (Nat.le_of_ble_eq_true rfl)) dX13_worthOf_115 ⟨Nat.le_refl _, Nat.le_refl _⟩) hS (fun H locs hW hS => ?_)
            refine lv_imul hx hb dX13_worthOf_118 ?_
            refine lv_isub hx hb dX13_worthOf_119 ?_
            have h := Option.some.inj h; subst h
            exact x_iret F hr hlk hW hS dX13_worthOf_120
          · rw [if_pos c11] at h
            refine lv_iload hx hb dX13_worthOf_105 (lv_at hl 1 rfl) ?_
            refine lv_goto (tgt := 120) hx hb dX13_worthOf_107 (by decide) ?_
            have h := Option.some.inj h; subst h
            exact x_iret F hr hlk hW hS dX13_worthOf_120
        · rw [if_neg c10] at h
          refine lv_iload hx hb dX13_worthOf_94 (lv_at hl 0 rfl) ?_
          refine lv_iconst (v := 5) hx hb dX13_worthOf_96 (by decide) ?_
          refine lv_icmp_ne (tgt := 121) hx hb dX13_worthOf_97 (by decide) (fun c12 => ?_) (fun c12 => ?_)
          · rw [if_neg c12] at h
            refine lv_iload hx hb dX13_worthOf_121 (lv_at hl 0 rfl) ?_
            refine lv_iconst (v := 1) hx hb dX13_worthOf_123 (by decide) ?_
            cases g13 : fX13_isUnder r9 1 with
            | none => rw [g13] at h; cases h
            | some r14 =>
              rw [g13, Option.bind_some] at h
              refine x_backi (va_runS (As := [.int r9, .int 1]) (rest := []) F.1 (mX13_isUnder l E σ r9 1 r14 g13) (va_cwS 2 hts (lw_S q1343 q1344 q115 q1345) rfl rfl rfl (by decide +kernel) ⟨Nat.le_of_ble_eq_true rfl, Nat.le_of_ble_eq_true rfl⟩) ⟨xPc.blind, F.pre hW hS [.int r9, .int 1]⟩ rfl rfl hl.1 rfl (lv_room (Nat.le_of_ble_eq_true rfl)) dX13_worthOf_124 ⟨Nat.le_refl _, Nat.le_refl _⟩) hS (fun H locs hW hS => ?_)
              refine lv_if_eq (tgt := 177) hx hb dX13_worthOf_127 (by decide) (fun c15 => ?_) (fun c15 => ?_)
              · rw [if_pos c15] at h
                refine lv_iload hx hb dX13_worthOf_177 (lv_at hl 1 rfl) ?_
                refine lv_iconst (v := 0) hx hb dX13_worthOf_179 (by decide) ?_
                refine lv_aload_n hx hb dX13_worthOf_180 rfl (lv_at hl 4 rfl) ?_
                refine lv_iload_n hx hb dX13_worthOf_181 rfl (lv_at hl 5 rfl) ?_
                refine lv_iload_n hx hb dX13_worthOf_182 rfl (lv_at hl 6 rfl) ?_
                refine lv_iconst (v := 0) hx hb dX13_worthOf_183 (by decide) ?_
                cases g16 : fX13_nearestOther σ a1 a2 0 with
                | none => rw [g16] at h; cases h
                | some r17 =>
                  rw [g16, Option.bind_some] at h
                  refine x_backi (va_runV (C := RX13) (b := (xa E 186)) (As := [.int a1, .int a2, .int 0]) (rest := [.int 0, .int (((10 * q6.1) + 9) - (σ 20 ((82 + a2).toNatClampNeg)))]) F.1 (mX13_nearestOther l E σ a1 a2 0 r17 g16) (cwV 3 hts (lw_V q1349 q1351 qs59 q115 q1352) rfl rfl rfl (by decide +kernel) ⟨Nat.le_of_ble_eq_true rfl, Nat.le_of_ble_eq_true rfl⟩) ⟨xPc.blind, va_recv hK (xO_M hW) (ci := 13) (q0 := 0) rfl rfl, F.pre hW hS (.ref (xa E 186) :: [.int a1, .int a2, .int 0])⟩ rfl rfl hl.1 rfl (lv_room (Nat.le_of_ble_eq_true rfl)) dX13_worthOf_184 ⟨Nat.le_refl _, Nat.le_refl _⟩) hS (fun H locs hW hS => ?_)
                  refine x_backi (va_runS (As := [.int 0, .int r17]) (rest := [.int (((10 * q6.1) + 9) - (σ 20 ((82 + a2).toNatClampNeg)))]) F.1 (mJ3_max l E σ 0 r17) (va_cwS 2 hts (lw_S q1357 q504 q116 q505) rfl rfl rfl (by decide +kernel) ⟨Nat.le_of_ble_eq_true rfl, Nat.le_of_ble_eq_true rfl⟩) ⟨xPc.blind, F.pre hW hS [.int 0, .int r17]⟩ rfl rfl hl.1 rfl (lv_room (Nat.le_of_ble_eq_true rfl)) dX13_worthOf_187 ⟨Nat.le_refl _, Nat.le_refl _⟩) hS (fun H locs hW hS => ?_)
                  refine lv_iadd hx hb dX13_worthOf_190 ?_
                  refine lv_istore (lv' := [(7, .int ((((10 * q6.1) + 9) - (σ 20 ((82 + a2).toNatClampNeg))) + (fJ3_max 0 r17))), (6, .int r9), (5, .int (((10 * q6.1) + 9) - (σ 20 ((82 + a2).toNatClampNeg)))), (4, .int (σ 20 ((82 + a2).toNatClampNeg))), (3, .int q6.1), (0, .ref (xa E 186)), (1, .int a1), (2, .int a2)]) hx hb dX13_worthOf_191 hl (by decide) rfl (fun ls hl => ?_)
                  refine lv_iload hx hb dX13_worthOf_193 (lv_at hl 0 rfl) ?_
                  refine lv_bipush (v := 7) hx hb dX13_worthOf_195 (by decide) ?_
                  refine lv_iadd hx hb dX13_worthOf_197 ?_
                  refine lv_iload_n hx hb dX13_worthOf_198 rfl (lv_at hl 7 rfl) ?_
                  refine lv_bipush (v := 8) hx hb dX13_worthOf_199 (by decide) ?_
                  refine lv_idiv hx hb dX13_worthOf_201 (by decide) ?_
                  refine lv_isub hx hb dX13_worthOf_202 ?_
                  refine lv_istore (lv' := [(8, .int ((((((10 * q6.1) + 9) - (σ 20 ((82 + a2).toNatClampNeg))) + (fJ3_max 0 r17)) + 7) - (a2 / 8))), (7, .int ((((10 * q6.1) + 9) - (σ 20 ((82 + a2).toNatClampNeg))) + (fJ3_max 0 r17))), (6, .int r9), (5, .int (((10 * q6.1) + 9) - (σ 20 ((82 + a2).toNatClampNeg)))), (4, .int (σ 20 ((82 + a2).toNatClampNeg))), (3, .int q6.1), (0, .ref (xa E 186)), (1, .int a1), (2, .int a2)]) hx hb dX13_worthOf_203 hl (by decide) rfl (fun ls hl => ?_)
                  refine lv_iload hx hb dX13_worthOf_205 (lv_at hl 2 rfl) ?_
                  refine lv_iconst (v := 2) hx hb dX13_worthOf_207 (by decide) ?_
                  refine lv_icmp_ne (tgt := 216) hx hb dX13_worthOf_208 (by decide) (fun c18 => ?_) (fun c18 => ?_)
                  · rw [if_neg c18] at h
                    refine lv_iload hx hb dX13_worthOf_216 (lv_at hl 2 rfl) ?_
                    refine lv_iconst (v := 3) hx hb dX13_worthOf_218 (by decide) ?_
                    refine lv_icmp_ne (tgt := 227) hx hb dX13_worthOf_219 (by decide) (fun c19 => ?_) (fun c19 => ?_)
                    · rw [if_neg c19] at h
                      refine lv_iconst (v := 2) hx hb dX13_worthOf_227 (by decide) ?_
                      refine lv_iload hx hb dX13_worthOf_228 (lv_at hl 0 rfl) ?_
                      refine lv_imul hx hb dX13_worthOf_230 ?_
                      have h := Option.some.inj h; subst h
                      exact x_iret F hr hlk hW hS dX13_worthOf_231
                    · rw [if_pos c19] at h
                      refine lv_iload hx hb dX13_worthOf_222 (lv_at hl 0 rfl) ?_
                      refine lv_goto (tgt := 231) hx hb dX13_worthOf_224 (by decide) ?_
                      have h := Option.some.inj h; subst h
                      exact x_iret F hr hlk hW hS dX13_worthOf_231
                  · rw [if_pos c18] at h
                    refine lv_iload hx hb dX13_worthOf_211 (lv_at hl 1 rfl) ?_
                    refine lv_goto (tgt := 231) hx hb dX13_worthOf_213 (by decide) ?_
                    have h := Option.some.inj h; subst h
                    exact x_iret F hr hlk hW hS dX13_worthOf_231
              · rw [if_neg c15] at h
                refine lv_aload_n hx hb dX13_worthOf_130 rfl (lv_at hl 4 rfl) ?_
                refine lv_iload_n hx hb dX13_worthOf_131 rfl (lv_at hl 5 rfl) ?_
                refine lv_iload_n hx hb dX13_worthOf_132 rfl (lv_at hl 6 rfl) ?_
                refine lv_iconst (v := 1) hx hb dX13_worthOf_133 (by decide) ?_
                cases g20 : fX13_nearestOther σ a1 a2 1 with
                | none => rw [g20] at h; cases h
                | some r21 =>
                  rw [g20, Option.bind_some] at h
                  refine x_backi (va_runV (C := RX13) (b := (xa E 186)) (As := [.int a1, .int a2, .int 1]) (rest := []) F.1 (mX13_nearestOther l E σ a1 a2 1 r21 g20) (cwV 3 hts (lw_V q1349 q1351 qs59 q115 q1352) rfl rfl rfl (by decide +kernel) ⟨Nat.le_of_ble_eq_true rfl, Nat.le_of_ble_eq_true rfl⟩) ⟨xPc.blind, va_recv hK (xO_M hW) (ci := 13) (q0 := 0) rfl rfl, F.pre hW hS (.ref (xa E 186) :: [.int a1, .int a2, .int 1])⟩ rfl rfl hl.1 rfl (lv_room (Nat.le_of_ble_eq_true rfl)) dX13_worthOf_134 ⟨Nat.le_refl _, Nat.le_refl _⟩) hS (fun H locs hW hS => ?_)
                  refine lv_istore (lv' := [(7, .int r21), (6, .int r9), (5, .int (((10 * q6.1) + 9) - (σ 20 ((82 + a2).toNatClampNeg)))), (4, .int (σ 20 ((82 + a2).toNatClampNeg))), (3, .int q6.1), (0, .ref (xa E 186)), (1, .int a1), (2, .int a2)]) hx hb dX13_worthOf_137 hl (by decide) rfl (fun ls hl => ?_)
                  refine lv_iload hx hb dX13_worthOf_139 (lv_at hl 2 rfl) ?_
                  refine lv_iload hx hb dX13_worthOf_141 (lv_at hl 0 rfl) ?_
                  refine lv_if_ge (tgt := 150) hx hb dX13_worthOf_143 (by decide) (fun c22 => ?_) (fun c22 => ?_)
                  · rw [if_pos c22] at h
                    refine lv_iconst (v := 0) hx hb dX13_worthOf_150 (by decide) ?_
                    refine lv_bipush (v := 20) hx hb dX13_worthOf_151 (by decide) ?_
                    refine lv_iload hx hb dX13_worthOf_153 (lv_at hl 0 rfl) ?_
                    refine lv_isub hx hb dX13_worthOf_155 ?_
                    refine x_backi (va_runS (As := [.int 0, .int (20 - r21)]) (rest := [.int (((10 * q6.1) + 9) - (σ 20 ((82 + a2).toNatClampNeg)))]) F.1 (mJ3_max l E σ 0 (20 - r21)) (va_cwS 2 hts (lw_S q1357 q504 q116 q505) rfl rfl rfl (by decide +kernel) ⟨Nat.le_of_ble_eq_true rfl, Nat.le_of_ble_eq_true rfl⟩) ⟨xPc.blind, F.pre hW hS [.int 0, .int (20 - r21)]⟩ rfl rfl hl.1 rfl (lv_room (Nat.le_of_ble_eq_true rfl)) dX13_worthOf_156 ⟨Nat.le_refl _, Nat.le_refl _⟩) hS (fun H locs hW hS => ?_)
                    refine lv_iadd hx hb dX13_worthOf_159 ?_
                    refine lv_iload hx hb dX13_worthOf_160 (lv_at hl 1 rfl) ?_
                    refine lv_bipush (v := 6) hx hb dX13_worthOf_162 (by decide) ?_
                    refine lv_icmp_ne (tgt := 174) hx hb dX13_worthOf_164 (by decide) (fun c23 => ?_) (fun c23 => ?_)
                    · rw [if_neg c23] at h
                      refine lv_iconst (v := 0) hx hb dX13_worthOf_174 (by decide) ?_
                      refine lv_iadd hx hb dX13_worthOf_175 ?_
                      have h := Option.some.inj h; subst h
                      exact x_iret F hr hlk hW hS dX13_worthOf_176
                    · rw [if_pos c23] at h
                      refine lv_iconst (v := 2) hx hb dX13_worthOf_167 (by decide) ?_
                      refine lv_iload hx hb dX13_worthOf_168 (lv_at hl 3 rfl) ?_
                      refine lv_imul hx hb dX13_worthOf_170 ?_
                      refine lv_goto (tgt := 175) hx hb dX13_worthOf_171 (by decide) ?_
                      refine lv_iadd hx hb dX13_worthOf_175 ?_
                      have h := Option.some.inj h; subst h
                      exact x_iret F hr hlk hW hS dX13_worthOf_176
                  · rw [if_neg c22] at h
                    refine lv_iconst (v := 0) hx hb dX13_worthOf_146 (by decide) ?_
                    refine lv_goto (tgt := 159) hx hb dX13_worthOf_147 (by decide) ?_
                    refine lv_iadd hx hb dX13_worthOf_159 ?_
                    refine lv_iload hx hb dX13_worthOf_160 (lv_at hl 1 rfl) ?_
                    refine lv_bipush (v := 6) hx hb dX13_worthOf_162 (by decide) ?_
                    refine lv_icmp_ne (tgt := 174) hx hb dX13_worthOf_164 (by decide) (fun c24 => ?_) (fun c24 => ?_)
                    · rw [if_neg c24] at h
                      refine lv_iconst (v := 0) hx hb dX13_worthOf_174 (by decide) ?_
                      refine lv_iadd hx hb dX13_worthOf_175 ?_
                      have h := Option.some.inj h; subst h
                      exact x_iret F hr hlk hW hS dX13_worthOf_176
                    · rw [if_pos c24] at h
                      refine lv_iconst (v := 2) hx hb dX13_worthOf_167 (by decide) ?_
                      refine lv_iload hx hb dX13_worthOf_168 (lv_at hl 3 rfl) ?_
                      refine lv_imul hx hb dX13_worthOf_170 ?_
                      refine lv_goto (tgt := 175) hx hb dX13_worthOf_171 (by decide) ?_
                      refine lv_iadd hx hb dX13_worthOf_175 ?_
                      have h := Option.some.inj h; subst h
                      exact x_iret F hr hlk hW hS dX13_worthOf_176
          · rw [if_pos c12] at h
            refine lv_iload hx hb dX13_worthOf_100 (lv_at hl 0 rfl) ?_
            refine lv_if_ne (tgt := 110) hx hb dX13_worthOf_102 (by decide) (fun c25 => ?_) (fun c25 => ?_)
            · rw [if_neg c25] at h
              refine lv_iload hx hb dX13_worthOf_110 (lv_at hl 1 rfl) ?_
              refine lv_iconst (v := 2) hx hb dX13_worthOf_112 (by decide) ?_
              refine lv_iload_n hx hb dX13_worthOf_113 rfl (lv_at hl 6 rfl) ?_
              refine lv_iconst (v := 0) hx hb dX13_worthOf_114 (by decide) ?_
              refine x_backi (va_runS (As := [.int a2, .int 0]) (rest := [.int 2, .int (((10 * q6.1) + 9) - (σ 20 ((82 + a2).toNatClampNeg)))]) F.1 (mX13_apart l E σ a2 0) (va_cwS 2 hts (lw_S q1338 q1339 q115 q1340) rfl rfl rfl (by decide +kernel) ⟨Nat.le_of_ble_eq_true rfl, Nat.le_of_ble_eq_true rfl⟩) ⟨xPc.blind, F.pre hW hS [.int a2, .int 0]⟩ rfl rfl hl.1 rfl (lv_room (Nat.le_of_ble_eq_true rfl)) dX13_worthOf_115 ⟨Nat.le_refl _, Nat.le_refl _⟩) hS (fun H locs hW hS => ?_)
              refine lv_imul hx hb dX13_worthOf_118 ?_
              refine lv_isub hx hb dX13_worthOf_119 ?_
              have h := Option.some.inj h; subst h
              exact x_iret F hr hlk hW hS dX13_worthOf_120
            · rw [if_pos c25] at h
              refine lv_iload hx hb dX13_worthOf_105 (lv_at hl 1 rfl) ?_
              refine lv_goto (tgt := 120) hx hb dX13_worthOf_107 (by decide) ?_
              have h := Option.some.inj h; subst h
              exact x_iret F hr hlk hW hS dX13_worthOf_120
    · rw [if_neg hi7] at h; cases h
/-! WildBellsModel.nextOf(I)I -/
def gX13_nextOf_17 (σ : xM) (b1 : Int32) : Nat → Int32 → Int32 → Int32 → Option (Int32 × Int32 × Int32)
  | 0, _, _, _ => none
  | n + 1, x2, x3, x4 => if 4 ≤ x4 then (some (x2, x3, x4)) else ((fX13_bellIs σ b1 1).bind (fun r7 => (fX13_beside σ r7 x4).bind (fun r9 => if 0 ≤ r9 then ((fX13_worthOf σ b1 r9).bind (fun r12 => if r12 ≤ x3 then (gX13_nextOf_17 σ b1 n x2 (fJ3_max x3 r12) (x4 + 1)) else (gX13_nextOf_17 σ b1 n r9 (fJ3_max x3 r12) (x4 + 1)))) else (if x3 ≤ x3 then (gX13_nextOf_17 σ b1 n x2 (fJ3_max x3 x3) (x4 + 1)) else (gX13_nextOf_17 σ b1 n r9 (fJ3_max x3 x3) (x4 + 1))))))
def fX13_nextOf (σ : xM) (a1 : Int32) : Option Int32 :=
  (fX13_bellIs σ a1 1).bind (fun r2 => (fX13_worthOf σ a1 r2).bind (fun r4 => (gX13_nextOf_17 σ a1 xfu r2 r4 0).bind (fun q16 => some q16.1)))
set_option maxHeartbeats 4000000 in
theorem lX13_nextOf_17 {p : Program} {l : Launch} {e : Env} {s : State} {m : MethodId} {av : Array Value} {below : List Frame} {meth : Method} {c : Code} {Q : State → Prop} {E : xE} {σ : xM} {b1 : Int32} (F : xFx p m c cX13_nextOf 7 s av RX13 E) : ∀ (n : Nat) (x2 : Int32) (x3 : Int32) (x4 : Int32) (q : (Int32 × Int32 × Int32)), gX13_nextOf_17 σ b1 n x2 x3 x4 = some q → ∀ (H : Heap) (locs : List Loc) (ls : Array Slot), xW E σ H → va_S (xA E) s.heap H locs → lv_has ls 7 [(4, .int x4), (3, .int x3), (2, .int x2), (0, .ref (xa E 186)), (1, .int b1)] → (∀ (H : Heap) (locs : List Loc) (ls : Array Slot), xW E σ H → va_S (xA E) s.heap H locs → lv_has ls 7 [(4, .int q.2.2), (3, .int q.2.1), (2, .int q.1), (0, .ref (xa E 186)), (1, .int b1)] → W p l e ({ frames := 5, cells := 0, slots := 0, locals := 119 } : Room) s m av below meth c H locs 0 0 Q (F0 m 81 ls [])) → W p l e ({ frames := 5, cells := 0, slots := 0, locals := 119 } : Room) s m av below meth c H locs 0 0 Q (F0 m 17 ls []) := by
  obtain ⟨hx, hb, hml, hown, hts⟩ := id F.1
  have hK := F.2.1.1
  intro n
  induction n with
  | zero =>
    intro x2 x3 x4 q h
    cases h
  | succ n ih =>
    intro x2 x3 x4 q h H locs ls hW hS hl kk
    rw [gX13_nextOf_17] at h
    refine lv_iload hx hb dX13_nextOf_17 (lv_at hl 0 rfl) ?_
    refine lv_iconst (v := 4) hx hb dX13_nextOf_19 (by decide) ?_
    refine lv_icmp_ge (tgt := 81) hx hb dX13_nextOf_20 (by decide) (fun c5 => ?_) (fun c5 => ?_)
    · rw [if_pos c5] at h
      have h := Option.some.inj h; subst h
      exact kk _ _ _ hW hS (lv_sub hl [0, 1, 2, 3, 4] rfl)
    · rw [if_neg c5] at h
      refine lv_aload_n hx hb dX13_nextOf_23 rfl (lv_at hl 3 rfl) ?_
      refine lv_aload_n hx hb dX13_nextOf_24 rfl (lv_at hl 3 rfl) ?_
      refine lv_iload_n hx hb dX13_nextOf_25 rfl (lv_at hl 4 rfl) ?_
      refine lv_iconst (v := 1) hx hb dX13_nextOf_26 (by decide) ?_
      cases g6 : fX13_bellIs σ b1 1 with
      | none => rw [g6] at h; cases h
      | some r7 =>
        rw [g6, Option.bind_some] at h
        refine x_backi (va_runV (C := RX13) (b := (xa E 186)) (As := [.int b1, .int 1]) (rest := [.ref (xa E 186)]) F.1 (mX13_bellIs l E σ b1 1 r7 g6) (cwV 2 hts (lw_V q1326 q1328 qs56 q115 q1329) rfl rfl rfl (by decide +kernel) ⟨Nat.le_of_ble_eq_true rfl, Nat.le_of_ble_eq_true rfl⟩) ⟨xPc.blind, va_recv hK (xO_M hW) (ci := 13) (q0 := 0) rfl rfl, F.pre hW hS (.ref (xa E 186) :: [.int b1, .int 1])⟩ rfl rfl hl.1 rfl (lv_room (Nat.le_of_ble_eq_true rfl)) dX13_nextOf_27 ⟨Nat.le_refl _, Nat.le_refl _⟩) hS (fun H locs hW hS => ?_)
        refine lv_iload hx hb dX13_nextOf_30 (lv_at hl 0 rfl) ?_
        cases g8 : fX13_beside σ r7 x4 with
        | none => rw [g8] at h; cases h
        | some r9 =>
          rw [g8, Option.bind_some] at h
          refine x_backi (va_runV (C := RX13) (b := (xa E 186)) (As := [.int r7, .int x4]) (rest := []) F.1 (mX13_beside l E σ r7 x4 r9 g8) (cwV 2 hts (lw_V q1358 q1360 qs61 q115 q1361) rfl rfl rfl (by decide +kernel) ⟨Nat.le_of_ble_eq_true rfl, Nat.le_of_ble_eq_true rfl⟩) ⟨xPc.blind, va_recv hK (xO_M hW) (ci := 13) (q0 := 0) rfl rfl, F.pre hW hS (.ref (xa E 186) :: [.int r7, .int x4])⟩ rfl rfl hl.1 rfl (lv_room (Nat.le_of_ble_eq_true rfl)) dX13_nextOf_32 ⟨Nat.le_refl _, Nat.le_refl _⟩) hS (fun H locs hW hS => ?_)
          refine lv_istore (lv' := [(5, .int r9), (4, .int x4), (3, .int x3), (2, .int x2), (0, .ref (xa E 186)), (1, .int b1)]) hx hb dX13_nextOf_35 hl (by decide) rfl (fun ls hl => ?_)
          refine lv_iload hx hb dX13_nextOf_37 (lv_at hl 0 rfl) ?_
          refine lv_if_ge (tgt := 46) hx hb dX13_nextOf_39 (by decide) (fun c10 => ?_) (fun c10 => ?_)
          · rw [if_pos c10] at h
            refine lv_aload_n hx hb dX13_nextOf_46 rfl (lv_at hl 4 rfl) ?_
            refine lv_iload_n hx hb dX13_nextOf_47 rfl (lv_at hl 5 rfl) ?_
            refine lv_iload hx hb dX13_nextOf_48 (lv_at hl 0 rfl) ?_
            cases g11 : fX13_worthOf σ b1 r9 with
            | none => rw [g11] at h; cases h
            | some r12 =>
              rw [g11, Option.bind_some] at h
              refine x_backi (va_runV (C := RX13) (b := (xa E 186)) (As := [.int b1, .int r9]) (rest := []) F.1 (mX13_worthOf l E σ b1 r9 r12 g11) (cwV 2 hts (lw_V q1334 q1336 qs58 q115 q1337) rfl rfl rfl (by decide +kernel) ⟨Nat.le_of_ble_eq_true rfl, Nat.le_of_ble_eq_true rfl⟩) ⟨xPc.blind, va_recv hK (xO_M hW) (ci := 13) (q0 := 0) rfl rfl, F.pre hW hS (.ref (xa E 186) :: [.int b1, .int r9])⟩ rfl rfl hl.1 rfl (lv_room (Nat.le_of_ble_eq_true rfl)) dX13_nextOf_50 ⟨Nat.le_refl _, Nat.le_refl _⟩) hS (fun H locs hW hS => ?_)
              refine lv_istore (lv' := [(6, .int r12), (5, .int r9), (4, .int x4), (3, .int x3), (2, .int x2), (0, .ref (xa E 186)), (1, .int b1)]) hx hb dX13_nextOf_53 hl (by decide) rfl (fun ls hl => ?_)
              refine lv_iload hx hb dX13_nextOf_55 (lv_at hl 0 rfl) ?_
              refine lv_iload_n hx hb dX13_nextOf_57 rfl (lv_at hl 3 rfl) ?_
              refine lv_icmp_le (tgt := 66) hx hb dX13_nextOf_58 (by decide) (fun c13 => ?_) (fun c13 => ?_)
              · rw [if_pos c13] at h
                refine lv_iload_n hx hb dX13_nextOf_66 rfl (lv_at hl 4 rfl) ?_
                refine lv_istore_n (lv' := [(2, .int x2), (6, .int r12), (5, .int r9), (4, .int x4), (3, .int x3), (0, .ref (xa E 186)), (1, .int b1)]) hx hb dX13_nextOf_67 rfl hl (by decide) rfl (fun ls hl => ?_)
                refine lv_iload_n hx hb dX13_nextOf_68 rfl (lv_at hl 4 rfl) ?_
                refine lv_iload hx hb dX13_nextOf_69 (lv_at hl 1 rfl) ?_
                refine x_backi (va_runS (As := [.int x3, .int r12]) (rest := []) F.1 (mJ3_max l E σ x3 r12) (va_cwS 2 hts (lw_S q1357 q504 q116 q505) rfl rfl rfl (by decide +kernel) ⟨Nat.le_of_ble_eq_true rfl, Nat.le_of_ble_eq_true rfl⟩) ⟨xPc.blind, F.pre hW hS [.int x3, .int r12]⟩ rfl rfl hl.1 rfl (lv_room (Nat.le_of_ble_eq_true rfl)) dX13_nextOf_71 ⟨Nat.le_refl _, Nat.le_refl _⟩) hS (fun H locs hW hS => ?_)
                refine lv_istore_n (lv' := [(3, .int (fJ3_max x3 r12)), (2, .int x2), (6, .int r12), (5, .int r9), (4, .int x4), (0, .ref (xa E 186)), (1, .int b1)]) hx hb dX13_nextOf_74 rfl hl (by decide) rfl (fun ls hl => ?_)
                refine lv_iinc (k := 4) (v := (x4 + 1)) (lv' := [(4, .int (x4 + 1)), (3, .int (fJ3_max x3 r12)), (2, .int x2), (6, .int r12), (5, .int r9), (0, .ref (xa E 186)), (1, .int b1)]) hx hb dX13_nextOf_75 hl rfl rfl (by decide) rfl (fun ls hl => ?_)
                refine lv_goto (tgt := 17) hx hb dX13_nextOf_78 (by decide) ?_
                exact ih x2 (fJ3_max x3 r12) (x4 + 1) _ h _ _ _ hW hS (lv_sub hl [0, 1, 2, 5, 6] rfl) kk
              · rw [if_neg c13] at h
                refine lv_iload hx hb dX13_nextOf_61 (lv_at hl 1 rfl) ?_
                refine lv_goto (tgt := 67) hx hb dX13_nextOf_63 (by decide) ?_
                refine lv_istore_n (lv' := [(2, .int r9), (6, .int r12), (5, .int r9), (4, .int x4), (3, .int x3), (0, .ref (xa E 186)), (1, .int b1)]) hx hb dX13_nextOf_67 rfl hl (by decide) rfl (fun ls hl => ?_)
                refine lv_iload_n hx hb dX13_nextOf_68 rfl (lv_at hl 4 rfl) ?_
                refine lv_iload hx hb dX13_nextOf_69 (lv_at hl 1 rfl) ?_
                refine x_backi (va_runS (As := [.int x3, .int r12]) (rest := []) F.1 (mJ3_max l E σ x3 r12) (va_cwS 2 hts (lw_S q1357 q504 q116 q505) rfl rfl rfl (by decide +kernel) ⟨Nat.le_of_ble_eq_true rfl, Nat.le_of_ble_eq_true rfl⟩) ⟨xPc.blind, F.pre hW hS [.int x3, .int r12]⟩ rfl rfl hl.1 rfl (lv_room (Nat.le_of_ble_eq_true rfl)) dX13_nextOf_71 ⟨Nat.le_refl _, Nat.le_refl _⟩) hS (fun H locs hW hS => ?_)
                refine lv_istore_n (lv' := [(3, .int (fJ3_max x3 r12)), (2, .int r9), (6, .int r12), (5, .int r9), (4, .int x4), (0, .ref (xa E 186)), (1, .int b1)]) hx hb dX13_nextOf_74 rfl hl (by decide) rfl (fun ls hl => ?_)
                refine lv_iinc (k := 4) (v := (x4 + 1)) (lv' := [(4, .int (x4 + 1)), (3, .int (fJ3_max x3 r12)), (2, .int r9), (6, .int r12), (5, .int r9), (0, .ref (xa E 186)), (1, .int b1)]) hx hb dX13_nextOf_75 hl rfl rfl (by decide) rfl (fun ls hl => ?_)
                refine lv_goto (tgt := 17) hx hb dX13_nextOf_78 (by decide) ?_
                exact ih r9 (fJ3_max x3 r12) (x4 + 1) _ h _ _ _ hW hS (lv_sub hl [0, 1, 2, 5, 6] rfl) kk
          · rw [if_neg c10] at h
            refine lv_iload_n hx hb dX13_nextOf_42 rfl (lv_at hl 2 rfl) ?_
            refine lv_goto (tgt := 53) hx hb dX13_nextOf_43 (by decide) ?_
            refine lv_istore (lv' := [(6, .int x3), (5, .int r9), (4, .int x4), (3, .int x3), (2, .int x2), (0, .ref (xa E 186)), (1, .int b1)]) hx hb dX13_nextOf_53 hl (by decide) rfl (fun ls hl => ?_)
            refine lv_iload hx hb dX13_nextOf_55 (lv_at hl 0 rfl) ?_
            refine lv_iload_n hx hb dX13_nextOf_57 rfl (lv_at hl 3 rfl) ?_
            refine lv_icmp_le (tgt := 66) hx hb dX13_nextOf_58 (by decide) (fun c14 => ?_) (fun c14 => ?_)
            · rw [if_pos c14] at h
              refine lv_iload_n hx hb dX13_nextOf_66 rfl (lv_at hl 4 rfl) ?_
              refine lv_istore_n (lv' := [(2, .int x2), (6, .int x3), (5, .int r9), (4, .int x4), (3, .int x3), (0, .ref (xa E 186)), (1, .int b1)]) hx hb dX13_nextOf_67 rfl hl (by decide) rfl (fun ls hl => ?_)
              refine lv_iload_n hx hb dX13_nextOf_68 rfl (lv_at hl 4 rfl) ?_
              refine lv_iload hx hb dX13_nextOf_69 (lv_at hl 1 rfl) ?_
              refine x_backi (va_runS (As := [.int x3, .int x3]) (rest := []) F.1 (mJ3_max l E σ x3 x3) (va_cwS 2 hts (lw_S q1357 q504 q116 q505) rfl rfl rfl (by decide +kernel) ⟨Nat.le_of_ble_eq_true rfl, Nat.le_of_ble_eq_true rfl⟩) ⟨xPc.blind, F.pre hW hS [.int x3, .int x3]⟩ rfl rfl hl.1 rfl (lv_room (Nat.le_of_ble_eq_true rfl)) dX13_nextOf_71 ⟨Nat.le_refl _, Nat.le_refl _⟩) hS (fun H locs hW hS => ?_)
              refine lv_istore_n (lv' := [(3, .int (fJ3_max x3 x3)), (2, .int x2), (6, .int x3), (5, .int r9), (4, .int x4), (0, .ref (xa E 186)), (1, .int b1)]) hx hb dX13_nextOf_74 rfl hl (by decide) rfl (fun ls hl => ?_)
              refine lv_iinc (k := 4) (v := (x4 + 1)) (lv' := [(4, .int (x4 + 1)), (3, .int (fJ3_max x3 x3)), (2, .int x2), (6, .int x3), (5, .int r9), (0, .ref (xa E 186)), (1, .int b1)]) hx hb dX13_nextOf_75 hl rfl rfl (by decide) rfl (fun ls hl => ?_)
              refine lv_goto (tgt := 17) hx hb dX13_nextOf_78 (by decide) ?_
              exact ih x2 (fJ3_max x3 x3) (x4 + 1) _ h _ _ _ hW hS (lv_sub hl [0, 1, 2, 5, 6] rfl) kk
            · rw [if_neg c14] at h
              refine lv_iload hx hb dX13_nextOf_61 (lv_at hl 1 rfl) ?_
              refine lv_goto (tgt := 67) hx hb dX13_nextOf_63 (by decide) ?_
              refine lv_istore_n (lv' := [(2, .int r9), (6, .int x3), (5, .int r9), (4, .int x4), (3, .int x3), (0, .ref (xa E 186)), (1, .int b1)]) hx hb dX13_nextOf_67 rfl hl (by decide) rfl (fun ls hl => ?_)
              refine lv_iload_n hx hb dX13_nextOf_68 rfl (lv_at hl 4 rfl) ?_
              refine lv_iload hx hb dX13_nextOf_69 (lv_at hl 1 rfl) ?_
              refine x_backi (va_runS (As := [.int x3, .int x3]) (rest := []) F.1 (mJ3_max l E σ x3 x3) (va_cwS 2 hts (lw_S q1357 q504 q116 q505) rfl rfl rfl (by decide +kernel) ⟨Nat.le_of_ble_eq_true rfl, Nat.le_of_ble_eq_true rfl⟩) ⟨xPc.blind, F.pre hW hS [.int x3, .int x3]⟩ rfl rfl hl.1 rfl (lv_room (Nat.le_of_ble_eq_true rfl)) dX13_nextOf_71 ⟨Nat.le_refl _, Nat.le_refl _⟩) hS (fun H locs hW hS => ?_)
              refine lv_istore_n (lv' := [(3, .int (fJ3_max x3 x3)), (2, .int r9), (6, .int x3), (5, .int r9), (4, .int x4), (0, .ref (xa E 186)), (1, .int b1)]) hx hb dX13_nextOf_74 rfl hl (by decide) rfl (fun ls hl => ?_)
              refine lv_iinc (k := 4) (v := (x4 + 1)) (lv' := [(4, .int (x4 + 1)), (3, .int (fJ3_max x3 x3)), (2, .int r9), (6, .int x3), (5, .int r9), (0, .ref (xa E 186)), (1, .int b1)]) hx hb dX13_nextOf_75 hl rfl rfl (by decide) rfl (fun ls hl => ?_)
              refine lv_goto (tgt := 17) hx hb dX13_nextOf_78 (by decide) ?_
              exact ih r9 (fJ3_max x3 x3) (x4 + 1) _ h _ _ _ hW hS (lv_sub hl [0, 1, 2, 5, 6] rfl) kk
set_option maxHeartbeats 4000000 in
theorem mX13_nextOf (l : Launch) (E : xE) (σ : xM) (a1 : Int32) (r : Int32) (h : fX13_nextOf σ a1 = some r) : Met l yX13_nextOf (ws_ yX13_nextOf cX13_nextOf 7 (some .int)) ({ frames := 5, cells := 0, slots := 0, locals := 119 } : Room) (xPc E σ [.ref (xa E 186), .int a1]) (xQc E (.returned (some (.int r))) σ) 0 0 (xA E) := by
  refine x_of (C := RX13) (n := "nextOf") (d := "(I)I") (r := (some .int)) (by decide) rfl (by first | decide | exact Nat.le_of_ble_eq_true rfl) ?_
  intro p e s m below meth c ls F hr hlk hW hS hl
  have hl : lv_has ls 7 [(0, .ref (xa E 186)), (1, .int a1)] := hl
  obtain ⟨hx, hb, hml, hown, hts⟩ := id F.1
  have hK := F.2.1.1
  unfold fX13_nextOf at h
  refine lv_aload_n hx hb dX13_nextOf_0 rfl (lv_at hl 0 rfl) ?_
  refine lv_iload_n hx hb dX13_nextOf_1 rfl (lv_at hl 1 rfl) ?_
  refine lv_iconst (v := 1) hx hb dX13_nextOf_2 (by decide) ?_
  cases g1 : fX13_bellIs σ a1 1 with
  | none => rw [g1] at h; cases h
  | some r2 =>
    rw [g1, Option.bind_some] at h
    refine x_backi (va_runV (C := RX13) (b := (xa E 186)) (As := [.int a1, .int 1]) (rest := []) F.1 (mX13_bellIs l E σ a1 1 r2 g1) (cwV 2 hts (lw_V q1326 q1328 qs56 q115 q1329) rfl rfl rfl (by decide +kernel) ⟨Nat.le_of_ble_eq_true rfl, Nat.le_of_ble_eq_true rfl⟩) ⟨xPc.blind, va_recv hK (xO_M hW) (ci := 13) (q0 := 0) rfl rfl, F.pre hW hS (.ref (xa E 186) :: [.int a1, .int 1])⟩ rfl rfl hl.1 rfl (lv_room (Nat.le_of_ble_eq_true rfl)) dX13_nextOf_3 ⟨Nat.le_refl _, Nat.le_refl _⟩) hS (fun H locs hW hS => ?_)
    refine lv_istore_n (lv' := [(2, .int r2), (0, .ref (xa E 186)), (1, .int a1)]) hx hb dX13_nextOf_6 rfl hl (by decide) rfl (fun ls hl => ?_)
    refine lv_aload_n hx hb dX13_nextOf_7 rfl (lv_at hl 1 rfl) ?_
    refine lv_iload_n hx hb dX13_nextOf_8 rfl (lv_at hl 2 rfl) ?_
    refine lv_iload_n hx hb dX13_nextOf_9 rfl (lv_at hl 0 rfl) ?_
    cases g3 : fX13_worthOf σ a1 r2 with
    | none => rw [g3] at h; cases h
    | some r4 =>
      rw [g3, Option.bind_some] at h
      refine x_backi (va_runV (C := RX13) (b := (xa E 186)) (As := [.int a1, .int r2]) (rest := []) F.1 (mX13_worthOf l E σ a1 r2 r4 g3) (cwV 2 hts (lw_V q1334 q1336 qs58 q115 q1337) rfl rfl rfl (by decide +kernel) ⟨Nat.le_of_ble_eq_true rfl, Nat.le_of_ble_eq_true rfl⟩) ⟨xPc.blind, va_recv hK (xO_M hW) (ci := 13) (q0 := 0) rfl rfl, F.pre hW hS (.ref (xa E 186) :: [.int a1, .int r2])⟩ rfl rfl hl.1 rfl (lv_room (Nat.le_of_ble_eq_true rfl)) dX13_nextOf_10 ⟨Nat.le_refl _, Nat.le_refl _⟩) hS (fun H locs hW hS => ?_)
      refine lv_istore_n (lv' := [(3, .int r4), (2, .int r2), (0, .ref (xa E 186)), (1, .int a1)]) hx hb dX13_nextOf_13 rfl hl (by decide) rfl (fun ls hl => ?_)
      refine lv_iconst (v := 0) hx hb dX13_nextOf_14 (by decide) ?_
      refine lv_istore (lv' := [(4, .int 0), (3, .int r4), (2, .int r2), (0, .ref (xa E 186)), (1, .int a1)]) hx hb dX13_nextOf_15 hl (by decide) rfl (fun ls hl => ?_)
      cases g15 : gX13_nextOf_17 σ a1 xfu r2 r4 0 with
      | none => rw [g15] at h; cases h
      | some q16 =>
        rw [g15, Option.bind_some] at h
        refine lX13_nextOf_17 F xfu r2 r4 0 q16 g15 _ _ _ hW hS (lv_sub hl [0, 1, 2, 3, 4] rfl) (fun H locs ls hW hS hl => ?_)
        refine lv_iload_n hx hb dX13_nextOf_81 rfl (lv_at hl 2 rfl) ?_
        have h := Option.some.inj h; subst h
        exact x_iret F hr hlk hW hS dX13_nextOf_82
/-! WildBellsModel.of(II)I -/
def fX13_of (σ : xM) (a1 : Int32) (a2 : Int32) : Option (Int32 × xM) :=
  (fX13_isBell σ a1).bind (fun r2 => if r2 = 0 then ((fX13_finding σ (-1000001)).bind (fun r5 => some (r5.1, r5.2))) else (if (fX13_within a2 0 6) = 0 then ((fX13_finding σ (-1000001)).bind (fun r18 => some (r18.1, r18.2))) else (if 5 ≤ a2 then (if a2 = 5 then ((fX13_nextOf σ a1).bind (fun r14 => some (r14, σ))) else ((fX13_bellIs σ a1 1).bind (fun r10 => (fX13_worthOf σ a1 r10).bind (fun r12 => some (r12, σ))))) else ((fX13_bellIs σ a1 a2).bind (fun r16 => some (r16, σ))))))
set_option maxHeartbeats 4000000 in
theorem mX13_of (l : Launch) (E : xE) (σ : xM) (a1 : Int32) (a2 : Int32) (r : Int32) (σ' : xM) (h : fX13_of σ a1 a2 = some (r, σ')) : Met l yX13_of (ws_ yX13_of cX13_of 3 (some .int)) ({ frames := 6, cells := 0, slots := 0, locals := 145 } : Room) (xPc E σ [.ref (xa E 186), .int a1, .int a2]) (xQc E (.returned (some (.int r))) σ') 0 0 (xA E) := by
  refine x_of (C := RX13) (n := "of") (d := "(II)I") (r := (some .int)) (by decide) rfl (by first | decide | exact Nat.le_of_ble_eq_true rfl) ?_
  intro p e s m below meth c ls F hr hlk hW hS hl
  have hl : lv_has ls 3 [(0, .ref (xa E 186)), (1, .int a1), (2, .int a2)] := hl
  obtain ⟨hx, hb, hml, hown, hts⟩ := id F.1
  have hK := F.2.1.1
  unfold fX13_of at h
  refine lv_aload_n hx hb dX13_of_0 rfl (lv_at hl 0 rfl) ?_
  refine lv_iload_n hx hb dX13_of_1 rfl (lv_at hl 1 rfl) ?_
  cases g1 : fX13_isBell σ a1 with
  | none => rw [g1] at h; cases h
  | some r2 =>
    rw [g1, Option.bind_some] at h
    refine x_backi (va_runV (C := RX13) (b := (xa E 186)) (As := [.int a1]) (rest := []) F.1 (mX13_isBell l E σ a1 r2 g1) (cwV 1 hts (lw_V q1322 q1324 qs55 q115 q1325) rfl rfl rfl (by decide +kernel) ⟨Nat.le_of_ble_eq_true rfl, Nat.le_of_ble_eq_true rfl⟩) ⟨xPc.blind, va_recv hK (xO_M hW) (ci := 13) (q0 := 0) rfl rfl, F.pre hW hS (.ref (xa E 186) :: [.int a1])⟩ rfl rfl hl.1 rfl (lv_room (Nat.le_of_ble_eq_true rfl)) dX13_of_2 ⟨Nat.le_refl _, Nat.le_refl _⟩) hS (fun H locs hW hS => ?_)
    refine lv_if_eq (tgt := 18) hx hb dX13_of_5 (by decide) (fun c3 => ?_) (fun c3 => ?_)
    · rw [if_pos c3] at h
      refine lv_aload_n hx hb dX13_of_18 rfl (lv_at hl 0 rfl) ?_
      refine lv_ldc (v := (-1000001)) hx hb hown (hts _ q1279) dX13_of_19 ?_
      cases g4 : fX13_finding σ (-1000001) with
      | none => rw [g4] at h; cases h
      | some r5 =>
        rw [g4, Option.bind_some] at h
        refine x_backi (va_runV (C := RX13) (b := (xa E 186)) (As := [.int (-1000001)]) (rest := []) F.1 (mX13_finding l E σ (-1000001) r5.1 r5.2 g4) (cwV 1 hts (lw_V q1280 q1282 qs52 q115 q1283) rfl rfl rfl (by decide +kernel) ⟨Nat.le_of_ble_eq_true rfl, Nat.le_of_ble_eq_true rfl⟩) ⟨xPc.blind, va_recv hK (xO_M hW) (ci := 13) (q0 := 0) rfl rfl, F.pre hW hS (.ref (xa E 186) :: [.int (-1000001)])⟩ rfl rfl hl.1 rfl (lv_room (Nat.le_of_ble_eq_true rfl)) dX13_of_21 ⟨Nat.le_refl _, Nat.le_refl _⟩) hS (fun H locs hW hS => ?_)
        obtain ⟨h1, h2⟩ := Prod.mk.inj (Option.some.inj h); subst h1; subst h2
        exact x_iret F hr hlk hW hS dX13_of_24
    · rw [if_neg c3] at h
      refine lv_iload_n hx hb dX13_of_8 rfl (lv_at hl 2 rfl) ?_
      refine lv_iconst (v := 0) hx hb dX13_of_9 (by decide) ?_
      refine lv_bipush (v := 6) hx hb dX13_of_10 (by decide) ?_
      refine x_backi (va_runS (As := [.int a2, .int 0, .int 6]) (rest := []) F.1 (mX13_within l E σ a2 0 6) (va_cwS 3 hts (lw_S q1276 q1277 q115 q1278) rfl rfl rfl (by decide +kernel) ⟨Nat.le_of_ble_eq_true rfl, Nat.le_of_ble_eq_true rfl⟩) ⟨xPc.blind, F.pre hW hS [.int a2, .int 0, .int 6]⟩ rfl rfl hl.1 rfl (lv_room (Nat.le_of_ble_eq_true rfl)) dX13_of_12 ⟨Nat.le_refl _, Nat.le_refl _⟩) hS (fun H locs hW hS => ?_)
      refine lv_if_ne (tgt := 25) hx hb dX13_of_15 (by decide) (fun c6 => ?_) (fun c6 => ?_)
      · rw [if_neg c6] at h
        refine lv_iload_n hx hb dX13_of_25 rfl (lv_at hl 2 rfl) ?_
        refine lv_iconst (v := 5) hx hb dX13_of_26 (by decide) ?_
        refine lv_icmp_ge (tgt := 39) hx hb dX13_of_27 (by decide) (fun c7 => ?_) (fun c7 => ?_)
        · rw [if_pos c7] at h
          refine lv_iload_n hx hb dX13_of_39 rfl (lv_at hl 2 rfl) ?_
          refine lv_iconst (v := 5) hx hb dX13_of_40 (by decide) ?_
          refine lv_icmp_ne (tgt := 52) hx hb dX13_of_41 (by decide) (fun c8 => ?_) (fun c8 => ?_)
          · rw [if_neg c8] at h
            refine lv_aload_n hx hb dX13_of_52 rfl (lv_at hl 0 rfl) ?_
            refine lv_iload_n hx hb dX13_of_53 rfl (lv_at hl 1 rfl) ?_
            refine lv_aload_n hx hb dX13_of_54 rfl (lv_at hl 0 rfl) ?_
            refine lv_iload_n hx hb dX13_of_55 rfl (lv_at hl 1 rfl) ?_
            refine lv_iconst (v := 1) hx hb dX13_of_56 (by decide) ?_
            cases g9 : fX13_bellIs σ a1 1 with
            | none => rw [g9] at h; cases h
            | some r10 =>
              rw [g9, Option.bind_some] at h
              refine x_backi (va_runV (C := RX13) (b := (xa E 186)) (As := [.int a1, .int 1]) (rest := [.int a1, .ref (xa E 186)]) F.1 (mX13_bellIs l E σ a1 1 r10 g9) (cwV 2 hts (lw_V q1326 q1328 qs56 q115 q1329) rfl rfl rfl (by decide +kernel) ⟨Nat.le_of_ble_eq_true rfl, Nat.le_of_ble_eq_true rfl⟩) ⟨xPc.blind, va_recv hK (xO_M hW) (ci := 13) (q0 := 0) rfl rfl, F.pre hW hS (.ref (xa E 186) :: [.int a1, .int 1])⟩ rfl rfl hl.1 rfl (lv_room (Nat.le_of_ble_eq_true rfl)) dX13_of_57 ⟨Nat.le_refl _, Nat.le_refl _⟩) hS (fun H locs hW hS => ?_)
              cases g11 : fX13_worthOf σ a1 r10 with
              | none => rw [g11] at h; cases h
              | some r12 =>
                rw [g11, Option.bind_some] at h
                refine x_backi (va_runV (C := RX13) (b := (xa E 186)) (As := [.int a1, .int r10]) (rest := []) F.1 (mX13_worthOf l E σ a1 r10 r12 g11) (cwV 2 hts (lw_V q1334 q1336 qs58 q115 q1337) rfl rfl rfl (by decide +kernel) ⟨Nat.le_of_ble_eq_true rfl, Nat.le_of_ble_eq_true rfl⟩) ⟨xPc.blind, va_recv hK (xO_M hW) (ci := 13) (q0 := 0) rfl rfl, F.pre hW hS (.ref (xa E 186) :: [.int a1, .int r10])⟩ rfl rfl hl.1 rfl (lv_room (Nat.le_of_ble_eq_true rfl)) dX13_of_60 ⟨Nat.le_refl _, Nat.le_refl _⟩) hS (fun H locs hW hS => ?_)
                obtain ⟨h1, h2⟩ := Prod.mk.inj (Option.some.inj h); subst h1; subst h2
                exact x_iret F hr hlk hW hS dX13_of_63
          · rw [if_pos c8] at h
            refine lv_aload_n hx hb dX13_of_44 rfl (lv_at hl 0 rfl) ?_
            refine lv_iload_n hx hb dX13_of_45 rfl (lv_at hl 1 rfl) ?_
            cases g13 : fX13_nextOf σ a1 with
            | none => rw [g13] at h; cases h
            | some r14 =>
              rw [g13, Option.bind_some] at h
              refine x_backi (va_runV (C := RX13) (b := (xa E 186)) (As := [.int a1]) (rest := []) F.1 (mX13_nextOf l E σ a1 r14 g13) (cwV 1 hts (lw_V q1330 q1332 qs57 q115 q1333) rfl rfl rfl (by decide +kernel) ⟨Nat.le_of_ble_eq_true rfl, Nat.le_of_ble_eq_true rfl⟩) ⟨xPc.blind, va_recv hK (xO_M hW) (ci := 13) (q0 := 0) rfl rfl, F.pre hW hS (.ref (xa E 186) :: [.int a1])⟩ rfl rfl hl.1 rfl (lv_room (Nat.le_of_ble_eq_true rfl)) dX13_of_46 ⟨Nat.le_refl _, Nat.le_refl _⟩) hS (fun H locs hW hS => ?_)
              refine lv_goto (tgt := 63) hx hb dX13_of_49 (by decide) ?_
              obtain ⟨h1, h2⟩ := Prod.mk.inj (Option.some.inj h); subst h1; subst h2
              exact x_iret F hr hlk hW hS dX13_of_63
        · rw [if_neg c7] at h
          refine lv_aload_n hx hb dX13_of_30 rfl (lv_at hl 0 rfl) ?_
          refine lv_iload_n hx hb dX13_of_31 rfl (lv_at hl 1 rfl) ?_
          refine lv_iload_n hx hb dX13_of_32 rfl (lv_at hl 2 rfl) ?_
          cases g15 : fX13_bellIs σ a1 a2 with
          | none => rw [g15] at h; cases h
          | some r16 =>
            rw [g15, Option.bind_some] at h
            refine x_backi (va_runV (C := RX13) (b := (xa E 186)) (As := [.int a1, .int a2]) (rest := []) F.1 (mX13_bellIs l E σ a1 a2 r16 g15) (cwV 2 hts (lw_V q1326 q1328 qs56 q115 q1329) rfl rfl rfl (by decide +kernel) ⟨Nat.le_of_ble_eq_true rfl, Nat.le_of_ble_eq_true rfl⟩) ⟨xPc.blind, va_recv hK (xO_M hW) (ci := 13) (q0 := 0) rfl rfl, F.pre hW hS (.ref (xa E 186) :: [.int a1, .int a2])⟩ rfl rfl hl.1 rfl (lv_room (Nat.le_of_ble_eq_true rfl)) dX13_of_33 ⟨Nat.le_refl _, Nat.le_refl _⟩) hS (fun H locs hW hS => ?_)
            refine lv_goto (tgt := 63) hx hb dX13_of_36 (by decide) ?_
            obtain ⟨h1, h2⟩ := Prod.mk.inj (Option.some.inj h); subst h1; subst h2
            exact x_iret F hr hlk hW hS dX13_of_63
      · rw [if_pos c6] at h
        refine lv_aload_n hx hb dX13_of_18 rfl (lv_at hl 0 rfl) ?_
        refine lv_ldc (v := (-1000001)) hx hb hown (hts _ q1279) dX13_of_19 ?_
        cases g17 : fX13_finding σ (-1000001) with
        | none => rw [g17] at h; cases h
        | some r18 =>
          rw [g17, Option.bind_some] at h
          refine x_backi (va_runV (C := RX13) (b := (xa E 186)) (As := [.int (-1000001)]) (rest := []) F.1 (mX13_finding l E σ (-1000001) r18.1 r18.2 g17) (cwV 1 hts (lw_V q1280 q1282 qs52 q115 q1283) rfl rfl rfl (by decide +kernel) ⟨Nat.le_of_ble_eq_true rfl, Nat.le_of_ble_eq_true rfl⟩) ⟨xPc.blind, va_recv hK (xO_M hW) (ci := 13) (q0 := 0) rfl rfl, F.pre hW hS (.ref (xa E 186) :: [.int (-1000001)])⟩ rfl rfl hl.1 rfl (lv_room (Nat.le_of_ble_eq_true rfl)) dX13_of_21 ⟨Nat.le_refl _, Nat.le_refl _⟩) hS (fun H locs hW hS => ?_)
          obtain ⟨h1, h2⟩ := Prod.mk.inj (Option.some.inj h); subst h1; subst h2
          exact x_iret F hr hlk hW hS dX13_of_24
/-! WildBellsModel.mayBe(II)Z -/
def fX13_mayBe (a0 : Int32) (a1 : Int32) : Int32 :=
  (if a0 = 0 then (fX13_isKind a1) else (if a0 = 1 then (fX13_isCell a1) else (if a0 = 2 then (fX13_within a1 0 11) else (if a0 = 3 then (fX13_within a1 1 99) else (if a0 = 4 then (fX13_within a1 0 1) else 0)))))
theorem bX13_mayBe (a0 a1 : Int32) : narrow .boolean (.int (fX13_mayBe a0 a1)) = .int (fX13_mayBe a0 a1) := by
  unfold fX13_mayBe
  first
    | (repeat' split) <;> rfl
    | exact bX0_in _ _ _
    | exact bX13_within _ _ _
    | ((repeat' split) <;> first | rfl | exact bX0_in _ _ _ | exact bX0_isKind _ | exact bX0_isCell _ | exact bX0_isWeight _)
    | ((repeat' split) <;> first | rfl | exact bX13_within _ _ _ | exact bX13_isKind _ | exact bX13_isCell _)
set_option maxHeartbeats 4000000 in
theorem mX13_mayBe (l : Launch) (E : xE) (σ : xM) (a0 : Int32) (a1 : Int32) : Met l yX13_mayBe (ws_ yX13_mayBe cX13_mayBe 2 (some .boolean)) ({ frames := 2, cells := 0, slots := 0, locals := 42 } : Room) (xPc E σ [.int a0, .int a1]) (xQc E (.returned (some (.int (fX13_mayBe a0 a1)))) σ) 0 0 (xA E) := by
  refine x_of (C := RX13) (n := "mayBe") (d := "(II)Z") (r := (some .boolean)) (by decide) rfl (by first | decide | exact Nat.le_of_ble_eq_true rfl) ?_
  intro p e s m below meth c ls F hr hlk hW hS hl
  have hl : lv_has ls 2 [(0, .int a0), (1, .int a1)] := hl
  obtain ⟨hx, hb, hml, hown, hts⟩ := id F.1
  have hK := F.2.1.1
  obtain ⟨r, h⟩ : ∃ r, fX13_mayBe a0 a1 = r := ⟨_, rfl⟩
  rw [h]
  unfold fX13_mayBe at h
  refine lv_iload_n hx hb dX13_mayBe_0 rfl (lv_at hl 0 rfl) ?_
  by_cases c1 : a0 = 0
  · rw [if_pos c1] at h
    refine lv_tableIn (tgt := 36) hx hb dX13_mayBe_1 (by rw [c1]; decide) (by rw [c1]; decide) (by rw [c1]; rfl) (by decide) ?_
    refine lv_iload_n hx hb dX13_mayBe_36 rfl (lv_at hl 1 rfl) ?_
    refine x_backi (va_runS (As := [.int a1]) (rest := []) F.1 (mX13_isKind l E σ a1) (va_cwS 1 hts (lw_S q1307 q1308 q115 q1309) rfl rfl rfl (by decide +kernel) ⟨Nat.le_of_ble_eq_true rfl, Nat.le_of_ble_eq_true rfl⟩) ⟨xPc.blind, F.pre hW hS [.int a1]⟩ rfl rfl hl.1 rfl (lv_room (Nat.le_of_ble_eq_true rfl)) dX13_mayBe_37 ⟨Nat.le_refl _, Nat.le_refl _⟩) hS (fun H locs hW hS => ?_)
    subst h
    exact x_zret F hr hlk hW hS (by first | exact bX13_isKind _ | rfl) dX13_mayBe_40
  · rw [if_neg c1] at h
    by_cases c2 : a0 = 1
    · rw [if_pos c2] at h
      refine lv_tableIn (tgt := 41) hx hb dX13_mayBe_1 (by rw [c2]; decide) (by rw [c2]; decide) (by rw [c2]; rfl) (by decide) ?_
      refine lv_iload_n hx hb dX13_mayBe_41 rfl (lv_at hl 1 rfl) ?_
      refine x_backi (va_runS (As := [.int a1]) (rest := []) F.1 (mX13_isCell l E σ a1) (va_cwS 1 hts (lw_S q1273 q1274 q115 q1275) rfl rfl rfl (by decide +kernel) ⟨Nat.le_of_ble_eq_true rfl, Nat.le_of_ble_eq_true rfl⟩) ⟨xPc.blind, F.pre hW hS [.int a1]⟩ rfl rfl hl.1 rfl (lv_room (Nat.le_of_ble_eq_true rfl)) dX13_mayBe_42 ⟨Nat.le_refl _, Nat.le_refl _⟩) hS (fun H locs hW hS => ?_)
      subst h
      exact x_zret F hr hlk hW hS (by first | exact bX13_isCell _ | rfl) dX13_mayBe_45
    · rw [if_neg c2] at h
      by_cases c3 : a0 = 2
      · rw [if_pos c3] at h
        refine lv_tableIn (tgt := 46) hx hb dX13_mayBe_1 (by rw [c3]; decide) (by rw [c3]; decide) (by rw [c3]; rfl) (by decide) ?_
        refine lv_iload_n hx hb dX13_mayBe_46 rfl (lv_at hl 1 rfl) ?_
        refine lv_iconst (v := 0) hx hb dX13_mayBe_47 (by decide) ?_
        refine lv_bipush (v := 11) hx hb dX13_mayBe_48 (by decide) ?_
        refine x_backi (va_runS (As := [.int a1, .int 0, .int 11]) (rest := []) F.1 (mX13_within l E σ a1 0 11) (va_cwS 3 hts (lw_S q1276 q1277 q115 q1278) rfl rfl rfl (by decide +kernel) ⟨Nat.le_of_ble_eq_true rfl, Nat.le_of_ble_eq_true rfl⟩) ⟨xPc.blind, F.pre hW hS [.int a1, .int 0, .int 11]⟩ rfl rfl hl.1 rfl (lv_room (Nat.le_of_ble_eq_true rfl)) dX13_mayBe_50 ⟨Nat.le_refl _, Nat.le_refl _⟩) hS (fun H locs hW hS => ?_)
        subst h
        exact x_zret F hr hlk hW hS (by first | exact bX13_within _ _ _ | rfl) dX13_mayBe_53
      · rw [if_neg c3] at h
        by_cases c4 : a0 = 3
        · rw [if_pos c4] at h
          refine lv_tableIn (tgt := 54) hx hb dX13_mayBe_1 (by rw [c4]; decide) (by rw [c4]; decide) (by rw [c4]; rfl) (by decide) ?_
          refine lv_iload_n hx hb dX13_mayBe_54 rfl (lv_at hl 1 rfl) ?_
          refine lv_iconst (v := 1) hx hb dX13_mayBe_55 (by decide) ?_
          refine lv_bipush (v := 99) hx hb dX13_mayBe_56 (by decide) ?_
          refine x_backi (va_runS (As := [.int a1, .int 1, .int 99]) (rest := []) F.1 (mX13_within l E σ a1 1 99) (va_cwS 3 hts (lw_S q1276 q1277 q115 q1278) rfl rfl rfl (by decide +kernel) ⟨Nat.le_of_ble_eq_true rfl, Nat.le_of_ble_eq_true rfl⟩) ⟨xPc.blind, F.pre hW hS [.int a1, .int 1, .int 99]⟩ rfl rfl hl.1 rfl (lv_room (Nat.le_of_ble_eq_true rfl)) dX13_mayBe_58 ⟨Nat.le_refl _, Nat.le_refl _⟩) hS (fun H locs hW hS => ?_)
          subst h
          exact x_zret F hr hlk hW hS (by first | exact bX13_within _ _ _ | rfl) dX13_mayBe_61
        · rw [if_neg c4] at h
          by_cases c5 : a0 = 4
          · rw [if_pos c5] at h
            refine lv_tableIn (tgt := 62) hx hb dX13_mayBe_1 (by rw [c5]; decide) (by rw [c5]; decide) (by rw [c5]; rfl) (by decide) ?_
            refine lv_iload_n hx hb dX13_mayBe_62 rfl (lv_at hl 1 rfl) ?_
            refine lv_iconst (v := 0) hx hb dX13_mayBe_63 (by decide) ?_
            refine lv_iconst (v := 1) hx hb dX13_mayBe_64 (by decide) ?_
            refine x_backi (va_runS (As := [.int a1, .int 0, .int 1]) (rest := []) F.1 (mX13_within l E σ a1 0 1) (va_cwS 3 hts (lw_S q1276 q1277 q115 q1278) rfl rfl rfl (by decide +kernel) ⟨Nat.le_of_ble_eq_true rfl, Nat.le_of_ble_eq_true rfl⟩) ⟨xPc.blind, F.pre hW hS [.int a1, .int 0, .int 1]⟩ rfl rfl hl.1 rfl (lv_room (Nat.le_of_ble_eq_true rfl)) dX13_mayBe_65 ⟨Nat.le_refl _, Nat.le_refl _⟩) hS (fun H locs hW hS => ?_)
            subst h
            exact x_zret F hr hlk hW hS (by first | exact bX13_within _ _ _ | rfl) dX13_mayBe_68
          · rw [if_neg c5] at h
            refine lv_tableOut (tgt := 69) hx hb dX13_mayBe_1 (by have := lv_neT (a := 0) c1 rfl; have := lv_neT (a := 1) c2 rfl; have := lv_neT (a := 2) c3 rfl; have := lv_neT (a := 3) c4 rfl; have := lv_neT (a := 4) c5 rfl; omega) (by decide) ?_
            refine lv_iconst (v := 0) hx hb dX13_mayBe_69 (by decide) ?_
            subst h
            exact x_zret F hr hlk hW hS rfl dX13_mayBe_70
/-! WildBellsModel.change(III)I -/
def fX13_change (σ : xM) (a1 : Int32) (a2 : Int32) (a3 : Int32) : Option (Int32 × xM) :=
  (fX13_isBell σ a1).bind (fun r2 => if r2 = 0 then ((fX13_finding σ (-1000001)).bind (fun r5 => some (r5.1, r5.2))) else (if (fX13_mayBe a2 a3) = 0 then ((fX13_finding σ (-1000001)).bind (fun r8 => some (r8.1, r8.2))) else ((fX13_become σ (fX13_at a1 a2) a3).bind (fun r10 => some (r10.1, r10.2)))))
set_option maxHeartbeats 4000000 in
theorem mX13_change (l : Launch) (E : xE) (σ : xM) (a1 : Int32) (a2 : Int32) (a3 : Int32) (r : Int32) (σ' : xM) (h : fX13_change σ a1 a2 a3 = some (r, σ')) : Met l yX13_change (ws_ yX13_change cX13_change 4 (some .int)) ({ frames := 3, cells := 0, slots := 0, locals := 63 } : Room) (xPc E σ [.ref (xa E 186), .int a1, .int a2, .int a3]) (xQc E (.returned (some (.int r))) σ') 0 0 (xA E) := by
  refine x_of (C := RX13) (n := "change") (d := "(III)I") (r := (some .int)) (by decide) rfl (by first | decide | exact Nat.le_of_ble_eq_true rfl) ?_
  intro p e s m below meth c ls F hr hlk hW hS hl
  have hl : lv_has ls 4 [(0, .ref (xa E 186)), (1, .int a1), (2, .int a2), (3, .int a3)] := hl
  obtain ⟨hx, hb, hml, hown, hts⟩ := id F.1
  have hK := F.2.1.1
  unfold fX13_change at h
  refine lv_aload_n hx hb dX13_change_0 rfl (lv_at hl 0 rfl) ?_
  refine lv_iload_n hx hb dX13_change_1 rfl (lv_at hl 1 rfl) ?_
  cases g1 : fX13_isBell σ a1 with
  | none => rw [g1] at h; cases h
  | some r2 =>
    rw [g1, Option.bind_some] at h
    refine x_backi (va_runV (C := RX13) (b := (xa E 186)) (As := [.int a1]) (rest := []) F.1 (mX13_isBell l E σ a1 r2 g1) (cwV 1 hts (lw_V q1322 q1324 qs55 q115 q1325) rfl rfl rfl (by decide +kernel) ⟨Nat.le_of_ble_eq_true rfl, Nat.le_of_ble_eq_true rfl⟩) ⟨xPc.blind, va_recv hK (xO_M hW) (ci := 13) (q0 := 0) rfl rfl, F.pre hW hS (.ref (xa E 186) :: [.int a1])⟩ rfl rfl hl.1 rfl (lv_room (Nat.le_of_ble_eq_true rfl)) dX13_change_2 ⟨Nat.le_refl _, Nat.le_refl _⟩) hS (fun H locs hW hS => ?_)
    refine lv_if_eq (tgt := 29) hx hb dX13_change_5 (by decide) (fun c3 => ?_) (fun c3 => ?_)
    · rw [if_pos c3] at h
      refine lv_aload_n hx hb dX13_change_29 rfl (lv_at hl 0 rfl) ?_
      refine lv_ldc (v := (-1000001)) hx hb hown (hts _ q1279) dX13_change_30 ?_
      cases g4 : fX13_finding σ (-1000001) with
      | none => rw [g4] at h; cases h
      | some r5 =>
        rw [g4, Option.bind_some] at h
        refine x_backi (va_runV (C := RX13) (b := (xa E 186)) (As := [.int (-1000001)]) (rest := []) F.1 (mX13_finding l E σ (-1000001) r5.1 r5.2 g4) (cwV 1 hts (lw_V q1280 q1282 qs52 q115 q1283) rfl rfl rfl (by decide +kernel) ⟨Nat.le_of_ble_eq_true rfl, Nat.le_of_ble_eq_true rfl⟩) ⟨xPc.blind, va_recv hK (xO_M hW) (ci := 13) (q0 := 0) rfl rfl, F.pre hW hS (.ref (xa E 186) :: [.int (-1000001)])⟩ rfl rfl hl.1 rfl (lv_room (Nat.le_of_ble_eq_true rfl)) dX13_change_32 ⟨Nat.le_refl _, Nat.le_refl _⟩) hS (fun H locs hW hS => ?_)
        obtain ⟨h1, h2⟩ := Prod.mk.inj (Option.some.inj h); subst h1; subst h2
        exact x_iret F hr hlk hW hS dX13_change_35
    · rw [if_neg c3] at h
      refine lv_iload_n hx hb dX13_change_8 rfl (lv_at hl 2 rfl) ?_
      refine lv_iload_n hx hb dX13_change_9 rfl (lv_at hl 3 rfl) ?_
      refine x_backi (va_runS (As := [.int a2, .int a3]) (rest := []) F.1 (mX13_mayBe l E σ a2 a3) (va_cwS 2 hts (lw_S q1366 q1367 q115 q1368) rfl rfl rfl (by decide +kernel) ⟨Nat.le_of_ble_eq_true rfl, Nat.le_of_ble_eq_true rfl⟩) ⟨xPc.blind, F.pre hW hS [.int a2, .int a3]⟩ rfl rfl hl.1 rfl (lv_room (Nat.le_of_ble_eq_true rfl)) dX13_change_10 ⟨Nat.le_refl _, Nat.le_refl _⟩) hS (fun H locs hW hS => ?_)
      refine lv_if_eq (tgt := 29) hx hb dX13_change_13 (by decide) (fun c6 => ?_) (fun c6 => ?_)
      · rw [if_pos c6] at h
        refine lv_aload_n hx hb dX13_change_29 rfl (lv_at hl 0 rfl) ?_
        refine lv_ldc (v := (-1000001)) hx hb hown (hts _ q1279) dX13_change_30 ?_
        cases g7 : fX13_finding σ (-1000001) with
        | none => rw [g7] at h; cases h
        | some r8 =>
          rw [g7, Option.bind_some] at h
          refine x_backi (va_runV (C := RX13) (b := (xa E 186)) (As := [.int (-1000001)]) (rest := []) F.1 (mX13_finding l E σ (-1000001) r8.1 r8.2 g7) (cwV 1 hts (lw_V q1280 q1282 qs52 q115 q1283) rfl rfl rfl (by decide +kernel) ⟨Nat.le_of_ble_eq_true rfl, Nat.le_of_ble_eq_true rfl⟩) ⟨xPc.blind, va_recv hK (xO_M hW) (ci := 13) (q0 := 0) rfl rfl, F.pre hW hS (.ref (xa E 186) :: [.int (-1000001)])⟩ rfl rfl hl.1 rfl (lv_room (Nat.le_of_ble_eq_true rfl)) dX13_change_32 ⟨Nat.le_refl _, Nat.le_refl _⟩) hS (fun H locs hW hS => ?_)
          obtain ⟨h1, h2⟩ := Prod.mk.inj (Option.some.inj h); subst h1; subst h2
          exact x_iret F hr hlk hW hS dX13_change_35
      · rw [if_neg c6] at h
        refine lv_aload_n hx hb dX13_change_16 rfl (lv_at hl 0 rfl) ?_
        refine lv_iload_n hx hb dX13_change_17 rfl (lv_at hl 1 rfl) ?_
        refine lv_iload_n hx hb dX13_change_18 rfl (lv_at hl 2 rfl) ?_
        refine x_backi (va_runS (As := [.int a1, .int a2]) (rest := [.ref (xa E 186)]) F.1 (mX13_at l E σ a1 a2) (va_cwS 2 hts (lw_S q1315 q1316 q115 q1317) rfl rfl rfl (by decide +kernel) ⟨Nat.le_of_ble_eq_true rfl, Nat.le_of_ble_eq_true rfl⟩) ⟨xPc.blind, F.pre hW hS [.int a1, .int a2]⟩ rfl rfl hl.1 rfl (lv_room (Nat.le_of_ble_eq_true rfl)) dX13_change_19 ⟨Nat.le_refl _, Nat.le_refl _⟩) hS (fun H locs hW hS => ?_)
        refine lv_iload_n hx hb dX13_change_22 rfl (lv_at hl 3 rfl) ?_
        cases g9 : fX13_become σ (fX13_at a1 a2) a3 with
        | none => rw [g9] at h; cases h
        | some r10 =>
          rw [g9, Option.bind_some] at h
          refine x_backi (va_runV (C := RX13) (b := (xa E 186)) (As := [.int (fX13_at a1 a2), .int a3]) (rest := []) F.1 (mX13_become l E σ (fX13_at a1 a2) a3 r10.1 r10.2 g9) (cwV 2 hts (lw_V q1284 q1286 qs53 q115 q1287) rfl rfl rfl (by decide +kernel) ⟨Nat.le_of_ble_eq_true rfl, Nat.le_of_ble_eq_true rfl⟩) ⟨xPc.blind, va_recv hK (xO_M hW) (ci := 13) (q0 := 0) rfl rfl, F.pre hW hS (.ref (xa E 186) :: [.int (fX13_at a1 a2), .int a3])⟩ rfl rfl hl.1 rfl (lv_room (Nat.le_of_ble_eq_true rfl)) dX13_change_23 ⟨Nat.le_refl _, Nat.le_refl _⟩) hS (fun H locs hW hS => ?_)
          refine lv_goto (tgt := 35) hx hb dX13_change_26 (by decide) ?_
          obtain ⟨h1, h2⟩ := Prod.mk.inj (Option.some.inj h); subst h1; subst h2
          exact x_iret F hr hlk hW hS dX13_change_35
/-! WildBellsModel.worth(II)I -/
def fX13_worth (σ : xM) (a1 : Int32) (a2 : Int32) : Option (Int32 × xM) :=
  (fX13_isBell σ a1).bind (fun r2 => if r2 = 0 then ((fX13_finding σ (-1000001)).bind (fun r5 => some (r5.1, r5.2))) else (if (fX13_isCell a2) = 0 then ((fX13_finding σ (-1000001)).bind (fun r8 => some (r8.1, r8.2))) else ((fX13_worthOf σ a1 a2).bind (fun r10 => some (r10, σ)))))
set_option maxHeartbeats 4000000 in
theorem mX13_worth (l : Launch) (E : xE) (σ : xM) (a1 : Int32) (a2 : Int32) (r : Int32) (σ' : xM) (h : fX13_worth σ a1 a2 = some (r, σ')) : Met l yX13_worth (ws_ yX13_worth cX13_worth 3 (some .int)) ({ frames := 5, cells := 0, slots := 0, locals := 119 } : Room) (xPc E σ [.ref (xa E 186), .int a1, .int a2]) (xQc E (.returned (some (.int r))) σ') 0 0 (xA E) := by
  refine x_of (C := RX13) (n := "worth") (d := "(II)I") (r := (some .int)) (by decide) rfl (by first | decide | exact Nat.le_of_ble_eq_true rfl) ?_
  intro p e s m below meth c ls F hr hlk hW hS hl
  have hl : lv_has ls 3 [(0, .ref (xa E 186)), (1, .int a1), (2, .int a2)] := hl
  obtain ⟨hx, hb, hml, hown, hts⟩ := id F.1
  have hK := F.2.1.1
  unfold fX13_worth at h
  refine lv_aload_n hx hb dX13_worth_0 rfl (lv_at hl 0 rfl) ?_
  refine lv_iload_n hx hb dX13_worth_1 rfl (lv_at hl 1 rfl) ?_
  cases g1 : fX13_isBell σ a1 with
  | none => rw [g1] at h; cases h
  | some r2 =>
    rw [g1, Option.bind_some] at h
    refine x_backi (va_runV (C := RX13) (b := (xa E 186)) (As := [.int a1]) (rest := []) F.1 (mX13_isBell l E σ a1 r2 g1) (cwV 1 hts (lw_V q1322 q1324 qs55 q115 q1325) rfl rfl rfl (by decide +kernel) ⟨Nat.le_of_ble_eq_true rfl, Nat.le_of_ble_eq_true rfl⟩) ⟨xPc.blind, va_recv hK (xO_M hW) (ci := 13) (q0 := 0) rfl rfl, F.pre hW hS (.ref (xa E 186) :: [.int a1])⟩ rfl rfl hl.1 rfl (lv_room (Nat.le_of_ble_eq_true rfl)) dX13_worth_2 ⟨Nat.le_refl _, Nat.le_refl _⟩) hS (fun H locs hW hS => ?_)
    refine lv_if_eq (tgt := 24) hx hb dX13_worth_5 (by decide) (fun c3 => ?_) (fun c3 => ?_)
    · rw [if_pos c3] at h
      refine lv_aload_n hx hb dX13_worth_24 rfl (lv_at hl 0 rfl) ?_
      refine lv_ldc (v := (-1000001)) hx hb hown (hts _ q1279) dX13_worth_25 ?_
      cases g4 : fX13_finding σ (-1000001) with
      | none => rw [g4] at h; cases h
      | some r5 =>
        rw [g4, Option.bind_some] at h
        refine x_backi (va_runV (C := RX13) (b := (xa E 186)) (As := [.int (-1000001)]) (rest := []) F.1 (mX13_finding l E σ (-1000001) r5.1 r5.2 g4) (cwV 1 hts (lw_V q1280 q1282 qs52 q115 q1283) rfl rfl rfl (by decide +kernel) ⟨Nat.le_of_ble_eq_true rfl, Nat.le_of_ble_eq_true rfl⟩) ⟨xPc.blind, va_recv hK (xO_M hW) (ci := 13) (q0 := 0) rfl rfl, F.pre hW hS (.ref (xa E 186) :: [.int (-1000001)])⟩ rfl rfl hl.1 rfl (lv_room (Nat.le_of_ble_eq_true rfl)) dX13_worth_27 ⟨Nat.le_refl _, Nat.le_refl _⟩) hS (fun H locs hW hS => ?_)
        obtain ⟨h1, h2⟩ := Prod.mk.inj (Option.some.inj h); subst h1; subst h2
        exact x_iret F hr hlk hW hS dX13_worth_30
    · rw [if_neg c3] at h
      refine lv_iload_n hx hb dX13_worth_8 rfl (lv_at hl 2 rfl) ?_
      refine x_backi (va_runS (As := [.int a2]) (rest := []) F.1 (mX13_isCell l E σ a2) (va_cwS 1 hts (lw_S q1273 q1274 q115 q1275) rfl rfl rfl (by decide +kernel) ⟨Nat.le_of_ble_eq_true rfl, Nat.le_of_ble_eq_true rfl⟩) ⟨xPc.blind, F.pre hW hS [.int a2]⟩ rfl rfl hl.1 rfl (lv_room (Nat.le_of_ble_eq_true rfl)) dX13_worth_9 ⟨Nat.le_refl _, Nat.le_refl _⟩) hS (fun H locs hW hS => ?_)
      refine lv_if_eq (tgt := 24) hx hb dX13_worth_12 (by decide) (fun c6 => ?_) (fun c6 => ?_)
      · rw [if_pos c6] at h
        refine lv_aload_n hx hb dX13_worth_24 rfl (lv_at hl 0 rfl) ?_
        refine lv_ldc (v := (-1000001)) hx hb hown (hts _ q1279) dX13_worth_25 ?_
        cases g7 : fX13_finding σ (-1000001) with
        | none => rw [g7] at h; cases h
        | some r8 =>
          rw [g7, Option.bind_some] at h
          refine x_backi (va_runV (C := RX13) (b := (xa E 186)) (As := [.int (-1000001)]) (rest := []) F.1 (mX13_finding l E σ (-1000001) r8.1 r8.2 g7) (cwV 1 hts (lw_V q1280 q1282 qs52 q115 q1283) rfl rfl rfl (by decide +kernel) ⟨Nat.le_of_ble_eq_true rfl, Nat.le_of_ble_eq_true rfl⟩) ⟨xPc.blind, va_recv hK (xO_M hW) (ci := 13) (q0 := 0) rfl rfl, F.pre hW hS (.ref (xa E 186) :: [.int (-1000001)])⟩ rfl rfl hl.1 rfl (lv_room (Nat.le_of_ble_eq_true rfl)) dX13_worth_27 ⟨Nat.le_refl _, Nat.le_refl _⟩) hS (fun H locs hW hS => ?_)
          obtain ⟨h1, h2⟩ := Prod.mk.inj (Option.some.inj h); subst h1; subst h2
          exact x_iret F hr hlk hW hS dX13_worth_30
      · rw [if_neg c6] at h
        refine lv_aload_n hx hb dX13_worth_15 rfl (lv_at hl 0 rfl) ?_
        refine lv_iload_n hx hb dX13_worth_16 rfl (lv_at hl 1 rfl) ?_
        refine lv_iload_n hx hb dX13_worth_17 rfl (lv_at hl 2 rfl) ?_
        cases g9 : fX13_worthOf σ a1 a2 with
        | none => rw [g9] at h; cases h
        | some r10 =>
          rw [g9, Option.bind_some] at h
          refine x_backi (va_runV (C := RX13) (b := (xa E 186)) (As := [.int a1, .int a2]) (rest := []) F.1 (mX13_worthOf l E σ a1 a2 r10 g9) (cwV 2 hts (lw_V q1334 q1336 qs58 q115 q1337) rfl rfl rfl (by decide +kernel) ⟨Nat.le_of_ble_eq_true rfl, Nat.le_of_ble_eq_true rfl⟩) ⟨xPc.blind, va_recv hK (xO_M hW) (ci := 13) (q0 := 0) rfl rfl, F.pre hW hS (.ref (xa E 186) :: [.int a1, .int a2])⟩ rfl rfl hl.1 rfl (lv_room (Nat.le_of_ble_eq_true rfl)) dX13_worth_18 ⟨Nat.le_refl _, Nat.le_refl _⟩) hS (fun H locs hW hS => ?_)
          refine lv_goto (tgt := 30) hx hb dX13_worth_21 (by decide) ?_
          obtain ⟨h1, h2⟩ := Prod.mk.inj (Option.some.inj h); subst h1; subst h2
          exact x_iret F hr hlk hW hS dX13_worth_30
/-! WildBellsModel.loudOf(III)I -/
def fX13_loudOf (a1 : Int32) (a2 : Int32) (a3 : Int32) : Int32 :=
  (fJ3_max 0 (a1 - (3 * (fX13_apart a2 a3))))
set_option maxHeartbeats 4000000 in
theorem mX13_loudOf (l : Launch) (E : xE) (σ : xM) (a1 : Int32) (a2 : Int32) (a3 : Int32) : Met l yX13_loudOf (ws_ yX13_loudOf cX13_loudOf 4 (some .int)) ({ frames := 2, cells := 0, slots := 0, locals := 41 } : Room) (xPc E σ [.ref (xa E 186), .int a1, .int a2, .int a3]) (xQc E (.returned (some (.int (fX13_loudOf a1 a2 a3)))) σ) 0 0 (xA E) := by
  refine x_of (C := RX13) (n := "loudOf") (d := "(III)I") (r := (some .int)) (by decide) rfl (by first | decide | exact Nat.le_of_ble_eq_true rfl) ?_
  intro p e s m below meth c ls F hr hlk hW hS hl
  have hl : lv_has ls 4 [(0, .ref (xa E 186)), (1, .int a1), (2, .int a2), (3, .int a3)] := hl
  obtain ⟨hx, hb, hml, hown, hts⟩ := id F.1
  have hK := F.2.1.1
  obtain ⟨r, h⟩ : ∃ r, fX13_loudOf a1 a2 a3 = r := ⟨_, rfl⟩
  rw [h]
  unfold fX13_loudOf at h
  refine lv_iconst (v := 0) hx hb dX13_loudOf_0 (by decide) ?_
  refine lv_iload_n hx hb dX13_loudOf_1 rfl (lv_at hl 1 rfl) ?_
  refine lv_iconst (v := 3) hx hb dX13_loudOf_2 (by decide) ?_
  refine lv_iload_n hx hb dX13_loudOf_3 rfl (lv_at hl 2 rfl) ?_
  refine lv_iload_n hx hb dX13_loudOf_4 rfl (lv_at hl 3 rfl) ?_
  refine x_backi (va_runS (As := [.int a2, .int a3]) (rest := [.int 3, .int a1, .int 0]) F.1 (mX13_apart l E σ a2 a3) (va_cwS 2 hts (lw_S q1338 q1339 q115 q1340) rfl rfl rfl (by decide +kernel) ⟨Nat.le_of_ble_eq_true rfl, Nat.le_of_ble_eq_true rfl⟩) ⟨xPc.blind, F.pre hW hS [.int a2, .int a3]⟩ rfl rfl hl.1 rfl (lv_room (Nat.le_of_ble_eq_true rfl)) dX13_loudOf_5 ⟨Nat.le_refl _, Nat.le_refl _⟩) hS (fun H locs hW hS => ?_)
  refine lv_imul hx hb dX13_loudOf_8 ?_
  refine lv_isub hx hb dX13_loudOf_9 ?_
  refine x_backi (va_runS (As := [.int 0, .int (a1 - (3 * (fX13_apart a2 a3)))]) (rest := []) F.1 (mJ3_max l E σ 0 (a1 - (3 * (fX13_apart a2 a3)))) (va_cwS 2 hts (lw_S q1357 q504 q116 q505) rfl rfl rfl (by decide +kernel) ⟨Nat.le_of_ble_eq_true rfl, Nat.le_of_ble_eq_true rfl⟩) ⟨xPc.blind, F.pre hW hS [.int 0, .int (a1 - (3 * (fX13_apart a2 a3)))]⟩ rfl rfl hl.1 rfl (lv_room (Nat.le_of_ble_eq_true rfl)) dX13_loudOf_10 ⟨Nat.le_refl _, Nat.le_refl _⟩) hS (fun H locs hW hS => ?_)
  subst h
  exact x_iret F hr hlk hW hS dX13_loudOf_13
/-! WildBellsModel.loudAt(II)I -/
def fX13_loudAt (σ : xM) (a1 : Int32) (a2 : Int32) : Option Int32 :=
  (fX13_bellIs σ a1 3).bind (fun r2 => (fX13_bellIs σ a1 1).bind (fun r4 => some (fX13_loudOf r2 r4 a2)))
set_option maxHeartbeats 4000000 in
theorem mX13_loudAt (l : Launch) (E : xE) (σ : xM) (a1 : Int32) (a2 : Int32) (r : Int32) (h : fX13_loudAt σ a1 a2 = some r) : Met l yX13_loudAt (ws_ yX13_loudAt cX13_loudAt 3 (some .int)) ({ frames := 3, cells := 0, slots := 0, locals := 64 } : Room) (xPc E σ [.ref (xa E 186), .int a1, .int a2]) (xQc E (.returned (some (.int r))) σ) 0 0 (xA E) := by
  refine x_of (C := RX13) (n := "loudAt") (d := "(II)I") (r := (some .int)) (by decide) rfl (by first | decide | exact Nat.le_of_ble_eq_true rfl) ?_
  intro p e s m below meth c ls F hr hlk hW hS hl
  have hl : lv_has ls 3 [(0, .ref (xa E 186)), (1, .int a1), (2, .int a2)] := hl
  obtain ⟨hx, hb, hml, hown, hts⟩ := id F.1
  have hK := F.2.1.1
  unfold fX13_loudAt at h
  refine lv_aload_n hx hb dX13_loudAt_0 rfl (lv_at hl 0 rfl) ?_
  refine lv_aload_n hx hb dX13_loudAt_1 rfl (lv_at hl 0 rfl) ?_
  refine lv_iload_n hx hb dX13_loudAt_2 rfl (lv_at hl 1 rfl) ?_
  refine lv_iconst (v := 3) hx hb dX13_loudAt_3 (by decide) ?_
  cases g1 : fX13_bellIs σ a1 3 with
  | none => rw [g1] at h; cases h
  | some r2 =>
    rw [g1, Option.bind_some] at h
    refine x_backi (va_runV (C := RX13) (b := (xa E 186)) (As := [.int a1, .int 3]) (rest := [.ref (xa E 186)]) F.1 (mX13_bellIs l E σ a1 3 r2 g1) (cwV 2 hts (lw_V q1326 q1328 qs56 q115 q1329) rfl rfl rfl (by decide +kernel) ⟨Nat.le_of_ble_eq_true rfl, Nat.le_of_ble_eq_true rfl⟩) ⟨xPc.blind, va_recv hK (xO_M hW) (ci := 13) (q0 := 0) rfl rfl, F.pre hW hS (.ref (xa E 186) :: [.int a1, .int 3])⟩ rfl rfl hl.1 rfl (lv_room (Nat.le_of_ble_eq_true rfl)) dX13_loudAt_4 ⟨Nat.le_refl _, Nat.le_refl _⟩) hS (fun H locs hW hS => ?_)
    refine lv_aload_n hx hb dX13_loudAt_7 rfl (lv_at hl 0 rfl) ?_
    refine lv_iload_n hx hb dX13_loudAt_8 rfl (lv_at hl 1 rfl) ?_
    refine lv_iconst (v := 1) hx hb dX13_loudAt_9 (by decide) ?_
    cases g3 : fX13_bellIs σ a1 1 with
    | none => rw [g3] at h; cases h
    | some r4 =>
      rw [g3, Option.bind_some] at h
      refine x_backi (va_runV (C := RX13) (b := (xa E 186)) (As := [.int a1, .int 1]) (rest := [.int r2, .ref (xa E 186)]) F.1 (mX13_bellIs l E σ a1 1 r4 g3) (cwV 2 hts (lw_V q1326 q1328 qs56 q115 q1329) rfl rfl rfl (by decide +kernel) ⟨Nat.le_of_ble_eq_true rfl, Nat.le_of_ble_eq_true rfl⟩) ⟨xPc.blind, va_recv hK (xO_M hW) (ci := 13) (q0 := 0) rfl rfl, F.pre hW hS (.ref (xa E 186) :: [.int a1, .int 1])⟩ rfl rfl hl.1 rfl (lv_room (Nat.le_of_ble_eq_true rfl)) dX13_loudAt_10 ⟨Nat.le_refl _, Nat.le_refl _⟩) hS (fun H locs hW hS => ?_)
      refine lv_iload_n hx hb dX13_loudAt_13 rfl (lv_at hl 2 rfl) ?_
      refine x_backi (va_runV (C := RX13) (b := (xa E 186)) (As := [.int r2, .int r4, .int a2]) (rest := []) F.1 (mX13_loudOf l E σ r2 r4 a2) (cwV 3 hts (lw_V q1385 q1387 qs64 q115 q1388) rfl rfl rfl (by decide +kernel) ⟨Nat.le_of_ble_eq_true rfl, Nat.le_of_ble_eq_true rfl⟩) ⟨xPc.blind, va_recv hK (xO_M hW) (ci := 13) (q0 := 0) rfl rfl, F.pre hW hS (.ref (xa E 186) :: [.int r2, .int r4, .int a2])⟩ rfl rfl hl.1 rfl (lv_room (Nat.le_of_ble_eq_true rfl)) dX13_loudAt_14 ⟨Nat.le_refl _, Nat.le_refl _⟩) hS (fun H locs hW hS => ?_)
      have h := Option.some.inj h; subst h
      exact x_iret F hr hlk hW hS dX13_loudAt_17
/-! WildBellsModel.heardAt(I)I -/
def gX13_heardAt_4 (σ : xM) (b1 : Int32) : Nat → Int32 → Int32 → Option (Int32 × Int32)
  | 0, _, _ => none
  | n + 1, x2, x3 => if (σ 20 ((2 : Int32).toNatClampNeg)) ≤ x3 then (some (x2, x3)) else ((fX13_isCaught σ x3).bind (fun r3 => if r3 = 0 then ((fX13_loudAt σ x3 b1).bind (fun r6 => gX13_heardAt_4 σ b1 n (fJ3_max x2 r6) (x3 + 1))) else (gX13_heardAt_4 σ b1 n x2 (x3 + 1))))
def fX13_heardAt (σ : xM) (a1 : Int32) : Option Int32 :=
  (gX13_heardAt_4 σ a1 xfu 0 0).bind (fun q8 => some q8.1)
set_option maxHeartbeats 4000000 in
theorem lX13_heardAt_4 {p : Program} {l : Launch} {e : Env} {s : State} {m : MethodId} {av : Array Value} {below : List Frame} {meth : Method} {c : Code} {Q : State → Prop} {E : xE} {σ : xM} {b1 : Int32} (F : xFx p m c cX13_heardAt 4 s av RX13 E) : ∀ (n : Nat) (x2 : Int32) (x3 : Int32) (q : (Int32 × Int32)), gX13_heardAt_4 σ b1 n x2 x3 = some q → ∀ (H : Heap) (locs : List Loc) (ls : Array Slot), xW E σ H → va_S (xA E) s.heap H locs → lv_has ls 4 [(3, .int x3), (2, .int x2), (0, .ref (xa E 186)), (1, .int b1)] → (∀ (H : Heap) (locs : List Loc) (ls : Array Slot), xW E σ H → va_S (xA E) s.heap H locs → lv_has ls 4 [(3, .int q.2), (2, .int q.1), (0, .ref (xa E 186)), (1, .int b1)] → W p l e ({ frames := 4, cells := 0, slots := 0, locals := 86 } : Room) s m av below meth c H locs 0 0 Q (F0 m 43 ls [])) → W p l e ({ frames := 4, cells := 0, slots := 0, locals := 86 } : Room) s m av below meth c H locs 0 0 Q (F0 m 4 ls []) := by
  obtain ⟨hx, hb, hml, hown, hts⟩ := id F.1
  have hK := F.2.1.1
  intro n
  induction n with
  | zero =>
    intro x2 x3 q h
    cases h
  | succ n ih =>
    intro x2 x3 q h H locs ls hW hS hl kk
    rw [gX13_heardAt_4] at h
    refine lv_iload_n hx hb dX13_heardAt_4 rfl (lv_at hl 0 rfl) ?_
    refine lv_aload_n hx hb dX13_heardAt_5 rfl (lv_at hl 2 rfl) ?_
    refine va_get (D := xD E) (ci := 13) (v := .ref (xa E 187)) (C := RX13) (T := TX13) (N := 24) hx hb hts in_X13 hown hK (xO_M hW) 0 rfl rfl 0 (by decide) (hts _ q1196) (fun _ h9 => h9) rfl dX13_heardAt_6 ?_
    refine lv_iconst (v := 2) hx hb dX13_heardAt_9 (by decide) ?_
    refine va_iald hx hb hK (xV_p hW xp_187) 0 0 rfl rfl (x_lit (by decide)) dX13_heardAt_10 ?_
    refine lv_icmp_ge (tgt := 43) hx hb dX13_heardAt_11 (by decide) (fun c1 => ?_) (fun c1 => ?_)
    · rw [if_pos c1] at h
      have h := Option.some.inj h; subst h
      exact kk _ _ _ hW hS (lv_sub hl [0, 1, 2, 3] rfl)
    · rw [if_neg c1] at h
      refine lv_aload_n hx hb dX13_heardAt_14 rfl (lv_at hl 2 rfl) ?_
      refine lv_iload_n hx hb dX13_heardAt_15 rfl (lv_at hl 0 rfl) ?_
      cases g2 : fX13_isCaught σ x3 with
      | none => rw [g2] at h; cases h
      | some r3 =>
        rw [g2, Option.bind_some] at h
        refine x_backi (va_runV (C := RX13) (b := (xa E 186)) (As := [.int x3]) (rest := []) F.1 (mX13_isCaught l E σ x3 r3 g2) (cwV 1 hts (lw_V q1353 q1355 qs60 q115 q1356) rfl rfl rfl (by decide +kernel) ⟨Nat.le_of_ble_eq_true rfl, Nat.le_of_ble_eq_true rfl⟩) ⟨xPc.blind, va_recv hK (xO_M hW) (ci := 13) (q0 := 0) rfl rfl, F.pre hW hS (.ref (xa E 186) :: [.int x3])⟩ rfl rfl hl.1 rfl (lv_room (Nat.le_of_ble_eq_true rfl)) dX13_heardAt_16 ⟨Nat.le_refl _, Nat.le_refl _⟩) hS (fun H locs hW hS => ?_)
        refine lv_if_eq (tgt := 26) hx hb dX13_heardAt_19 (by decide) (fun c4 => ?_) (fun c4 => ?_)
        · rw [if_pos c4] at h
          refine lv_iload_n hx hb dX13_heardAt_26 rfl (lv_at hl 1 rfl) ?_
          refine lv_aload_n hx hb dX13_heardAt_27 rfl (lv_at hl 2 rfl) ?_
          refine lv_iload_n hx hb dX13_heardAt_28 rfl (lv_at hl 0 rfl) ?_
          refine lv_iload_n hx hb dX13_heardAt_29 rfl (lv_at hl 3 rfl) ?_
          cases g5 : fX13_loudAt σ x3 b1 with
          | none => rw [g5] at h; cases h
          | some r6 =>
            rw [g5, Option.bind_some] at h
            refine x_backi (va_runV (C := RX13) (b := (xa E 186)) (As := [.int x3, .int b1]) (rest := [.int x2]) F.1 (mX13_loudAt l E σ x3 b1 r6 g5) (cwV 2 hts (lw_V q1381 q1383 qs63 q115 q1384) rfl rfl rfl (by decide +kernel) ⟨Nat.le_of_ble_eq_true rfl, Nat.le_of_ble_eq_true rfl⟩) ⟨xPc.blind, va_recv hK (xO_M hW) (ci := 13) (q0 := 0) rfl rfl, F.pre hW hS (.ref (xa E 186) :: [.int x3, .int b1])⟩ rfl rfl hl.1 rfl (lv_room (Nat.le_of_ble_eq_true rfl)) dX13_heardAt_30 ⟨Nat.le_refl _, Nat.le_refl _⟩) hS (fun H locs hW hS => ?_)
            refine x_backi (va_runS (As := [.int x2, .int r6]) (rest := []) F.1 (mJ3_max l E σ x2 r6) (va_cwS 2 hts (lw_S q1357 q504 q116 q505) rfl rfl rfl (by decide +kernel) ⟨Nat.le_of_ble_eq_true rfl, Nat.le_of_ble_eq_true rfl⟩) ⟨xPc.blind, F.pre hW hS [.int x2, .int r6]⟩ rfl rfl hl.1 rfl (lv_room (Nat.le_of_ble_eq_true rfl)) dX13_heardAt_33 ⟨Nat.le_refl _, Nat.le_refl _⟩) hS (fun H locs hW hS => ?_)
            refine lv_istore_n (lv' := [(2, .int (fJ3_max x2 r6)), (3, .int x3), (0, .ref (xa E 186)), (1, .int b1)]) hx hb dX13_heardAt_36 rfl hl (by decide) rfl (fun ls hl => ?_)
            refine lv_iinc (k := 1) (v := (x3 + 1)) (lv' := [(3, .int (x3 + 1)), (2, .int (fJ3_max x2 r6)), (0, .ref (xa E 186)), (1, .int b1)]) hx hb dX13_heardAt_37 hl rfl rfl (by decide) rfl (fun ls hl => ?_)
            refine lv_goto (tgt := 4) hx hb dX13_heardAt_40 (by decide) ?_
            exact ih (fJ3_max x2 r6) (x3 + 1) _ h _ _ _ hW hS (lv_sub hl [0, 1, 2, 3] rfl) kk
        · rw [if_neg c4] at h
          refine lv_iload_n hx hb dX13_heardAt_22 rfl (lv_at hl 1 rfl) ?_
          refine lv_goto (tgt := 36) hx hb dX13_heardAt_23 (by decide) ?_
          refine lv_istore_n (lv' := [(2, .int x2), (3, .int x3), (0, .ref (xa E 186)), (1, .int b1)]) hx hb dX13_heardAt_36 rfl hl (by decide) rfl (fun ls hl => ?_)
          refine lv_iinc (k := 1) (v := (x3 + 1)) (lv' := [(3, .int (x3 + 1)), (2, .int x2), (0, .ref (xa E 186)), (1, .int b1)]) hx hb dX13_heardAt_37 hl rfl rfl (by decide) rfl (fun ls hl => ?_)
          refine lv_goto (tgt := 4) hx hb dX13_heardAt_40 (by decide) ?_
          exact ih x2 (x3 + 1) _ h _ _ _ hW hS (lv_sub hl [0, 1, 2, 3] rfl) kk
set_option maxHeartbeats 4000000 in
theorem mX13_heardAt (l : Launch) (E : xE) (σ : xM) (a1 : Int32) (r : Int32) (h : fX13_heardAt σ a1 = some r) : Met l yX13_heardAt (ws_ yX13_heardAt cX13_heardAt 4 (some .int)) ({ frames := 4, cells := 0, slots := 0, locals := 86 } : Room) (xPc E σ [.ref (xa E 186), .int a1]) (xQc E (.returned (some (.int r))) σ) 0 0 (xA E) := by
  refine x_of (C := RX13) (n := "heardAt") (d := "(I)I") (r := (some .int)) (by decide) rfl (by first | decide | exact Nat.le_of_ble_eq_true rfl) ?_
  intro p e s m below meth c ls F hr hlk hW hS hl
  have hl : lv_has ls 4 [(0, .ref (xa E 186)), (1, .int a1)] := hl
  obtain ⟨hx, hb, hml, hown, hts⟩ := id F.1
  have hK := F.2.1.1
  unfold fX13_heardAt at h
  refine lv_iconst (v := 0) hx hb dX13_heardAt_0 (by decide) ?_
  refine lv_istore_n (lv' := [(2, .int 0), (0, .ref (xa E 186)), (1, .int a1)]) hx hb dX13_heardAt_1 rfl hl (by decide) rfl (fun ls hl => ?_)
  refine lv_iconst (v := 0) hx hb dX13_heardAt_2 (by decide) ?_
  refine lv_istore_n (lv' := [(3, .int 0), (2, .int 0), (0, .ref (xa E 186)), (1, .int a1)]) hx hb dX13_heardAt_3 rfl hl (by decide) rfl (fun ls hl => ?_)
  cases g7 : gX13_heardAt_4 σ a1 xfu 0 0 with
  | none => rw [g7] at h; cases h
  | some q8 =>
    rw [g7, Option.bind_some] at h
    refine lX13_heardAt_4 F xfu 0 0 q8 g7 _ _ _ hW hS (lv_sub hl [0, 1, 2, 3] rfl) (fun H locs ls hW hS hl => ?_)
    refine lv_iload_n hx hb dX13_heardAt_43 rfl (lv_at hl 1 rfl) ?_
    have h := Option.some.inj h; subst h
    exact x_iret F hr hlk hW hS dX13_heardAt_44
/-! WildBellsModel.manyAt(I)I -/
def gX13_manyAt_4 (σ : xM) (b1 : Int32) : Nat → Int32 → Int32 → Option (Int32 × Int32)
  | 0, _, _ => none
  | n + 1, x2, x3 => if (σ 20 ((2 : Int32).toNatClampNeg)) ≤ x3 then (some (x2, x3)) else ((fX13_bellIs σ x3 1).bind (fun r3 => if r3 = b1 then (gX13_manyAt_4 σ b1 n (x2 + 1) (x3 + 1)) else (gX13_manyAt_4 σ b1 n (x2 + 0) (x3 + 1))))
def fX13_manyAt (σ : xM) (a1 : Int32) : Option Int32 :=
  (gX13_manyAt_4 σ a1 xfu 0 0).bind (fun q6 => some q6.1)
set_option maxHeartbeats 4000000 in
theorem lX13_manyAt_4 {p : Program} {l : Launch} {e : Env} {s : State} {m : MethodId} {av : Array Value} {below : List Frame} {meth : Method} {c : Code} {Q : State → Prop} {E : xE} {σ : xM} {b1 : Int32} (F : xFx p m c cX13_manyAt 4 s av RX13 E) : ∀ (n : Nat) (x2 : Int32) (x3 : Int32) (q : (Int32 × Int32)), gX13_manyAt_4 σ b1 n x2 x3 = some q → ∀ (H : Heap) (locs : List Loc) (ls : Array Slot), xW E σ H → va_S (xA E) s.heap H locs → lv_has ls 4 [(3, .int x3), (2, .int x2), (0, .ref (xa E 186)), (1, .int b1)] → (∀ (H : Heap) (locs : List Loc) (ls : Array Slot), xW E σ H → va_S (xA E) s.heap H locs → lv_has ls 4 [(3, .int q.2), (2, .int q.1), (0, .ref (xa E 186)), (1, .int b1)] → W p l e ({ frames := 2, cells := 0, slots := 0, locals := 43 } : Room) s m av below meth c H locs 0 0 Q (F0 m 38 ls [])) → W p l e ({ frames := 2, cells := 0, slots := 0, locals := 43 } : Room) s m av below meth c H locs 0 0 Q (F0 m 4 ls []) := by
  obtain ⟨hx, hb, hml, hown, hts⟩ := id F.1
  have hK := F.2.1.1
  intro n
  induction n with
  | zero =>
    intro x2 x3 q h
    cases h
  | succ n ih =>
    intro x2 x3 q h H locs ls hW hS hl kk
    rw [gX13_manyAt_4] at h
    refine lv_iload_n hx hb dX13_manyAt_4 rfl (lv_at hl 0 rfl) ?_
    refine lv_aload_n hx hb dX13_manyAt_5 rfl (lv_at hl 2 rfl) ?_
    refine va_get (D := xD E) (ci := 13) (v := .ref (xa E 187)) (C := RX13) (T := TX13) (N := 24) hx hb hts in_X13 hown hK (xO_M hW) 0 rfl rfl 0 (by decide) (hts _ q1196) (fun _ h9 => h9) rfl dX13_manyAt_6 ?_
    refine lv_iconst (v := 2) hx hb dX13_manyAt_9 (by decide) ?_
    refine va_iald hx hb hK (xV_p hW xp_187) 0 0 rfl rfl (x_lit (by decide)) dX13_manyAt_10 ?_
    refine lv_icmp_ge (tgt := 38) hx hb dX13_manyAt_11 (by decide) (fun c1 => ?_) (fun c1 => ?_)
    · rw [if_pos c1] at h
      have h := Option.some.inj h; subst h
      exact kk _ _ _ hW hS (lv_sub hl [0, 1, 2, 3] rfl)
    · rw [if_neg c1] at h
      refine lv_iload_n hx hb dX13_manyAt_14 rfl (lv_at hl 1 rfl) ?_
      refine lv_aload_n hx hb dX13_manyAt_15 rfl (lv_at hl 2 rfl) ?_
      refine lv_iload_n hx hb dX13_manyAt_16 rfl (lv_at hl 0 rfl) ?_
      refine lv_iconst (v := 1) hx hb dX13_manyAt_17 (by decide) ?_
      cases g2 : fX13_bellIs σ x3 1 with
      | none => rw [g2] at h; cases h
      | some r3 =>
        rw [g2, Option.bind_some] at h
        refine x_backi (va_runV (C := RX13) (b := (xa E 186)) (As := [.int x3, .int 1]) (rest := [.int x2]) F.1 (mX13_bellIs l E σ x3 1 r3 g2) (cwV 2 hts (lw_V q1326 q1328 qs56 q115 q1329) rfl rfl rfl (by decide +kernel) ⟨Nat.le_of_ble_eq_true rfl, Nat.le_of_ble_eq_true rfl⟩) ⟨xPc.blind, va_recv hK (xO_M hW) (ci := 13) (q0 := 0) rfl rfl, F.pre hW hS (.ref (xa E 186) :: [.int x3, .int 1])⟩ rfl rfl hl.1 rfl (lv_room (Nat.le_of_ble_eq_true rfl)) dX13_manyAt_18 ⟨Nat.le_refl _, Nat.le_refl _⟩) hS (fun H locs hW hS => ?_)
        refine lv_iload_n hx hb dX13_manyAt_21 rfl (lv_at hl 3 rfl) ?_
        refine lv_icmp_ne (tgt := 29) hx hb dX13_manyAt_22 (by decide) (fun c4 => ?_) (fun c4 => ?_)
        · rw [if_neg c4] at h
          refine lv_iconst (v := 0) hx hb dX13_manyAt_29 (by decide) ?_
          refine lv_iadd hx hb dX13_manyAt_30 ?_
          refine lv_istore_n (lv' := [(2, .int (x2 + 0)), (3, .int x3), (0, .ref (xa E 186)), (1, .int b1)]) hx hb dX13_manyAt_31 rfl hl (by decide) rfl (fun ls hl => ?_)
          refine lv_iinc (k := 1) (v := (x3 + 1)) (lv' := [(3, .int (x3 + 1)), (2, .int (x2 + 0)), (0, .ref (xa E 186)), (1, .int b1)]) hx hb dX13_manyAt_32 hl rfl rfl (by decide) rfl (fun ls hl => ?_)
          refine lv_goto (tgt := 4) hx hb dX13_manyAt_35 (by decide) ?_
          exact ih (x2 + 0) (x3 + 1) _ h _ _ _ hW hS (lv_sub hl [0, 1, 2, 3] rfl) kk
        · rw [if_pos c4] at h
          refine lv_iconst (v := 1) hx hb dX13_manyAt_25 (by decide) ?_
          refine lv_goto (tgt := 30) hx hb dX13_manyAt_26 (by decide) ?_
          refine lv_iadd hx hb dX13_manyAt_30 ?_
          refine lv_istore_n (lv' := [(2, .int (x2 + 1)), (3, .int x3), (0, .ref (xa E 186)), (1, .int b1)]) hx hb dX13_manyAt_31 rfl hl (by decide) rfl (fun ls hl => ?_)
          refine lv_iinc (k := 1) (v := (x3 + 1)) (lv' := [(3, .int (x3 + 1)), (2, .int (x2 + 1)), (0, .ref (xa E 186)), (1, .int b1)]) hx hb dX13_manyAt_32 hl rfl rfl (by decide) rfl (fun ls hl => ?_)
          refine lv_goto (tgt := 4) hx hb dX13_manyAt_35 (by decide) ?_
          exact ih (x2 + 1) (x3 + 1) _ h _ _ _ hW hS (lv_sub hl [0, 1, 2, 3] rfl) kk
set_option maxHeartbeats 4000000 in
theorem mX13_manyAt (l : Launch) (E : xE) (σ : xM) (a1 : Int32) (r : Int32) (h : fX13_manyAt σ a1 = some r) : Met l yX13_manyAt (ws_ yX13_manyAt cX13_manyAt 4 (some .int)) ({ frames := 2, cells := 0, slots := 0, locals := 43 } : Room) (xPc E σ [.ref (xa E 186), .int a1]) (xQc E (.returned (some (.int r))) σ) 0 0 (xA E) := by
  refine x_of (C := RX13) (n := "manyAt") (d := "(I)I") (r := (some .int)) (by decide) rfl (by first | decide | exact Nat.le_of_ble_eq_true rfl) ?_
  intro p e s m below meth c ls F hr hlk hW hS hl
  have hl : lv_has ls 4 [(0, .ref (xa E 186)), (1, .int a1)] := hl
  obtain ⟨hx, hb, hml, hown, hts⟩ := id F.1
  have hK := F.2.1.1
  unfold fX13_manyAt at h
  refine lv_iconst (v := 0) hx hb dX13_manyAt_0 (by decide) ?_
  refine lv_istore_n (lv' := [(2, .int 0), (0, .ref (xa E 186)), (1, .int a1)]) hx hb dX13_manyAt_1 rfl hl (by decide) rfl (fun ls hl => ?_)
  refine lv_iconst (v := 0) hx hb dX13_manyAt_2 (by decide) ?_
  refine lv_istore_n (lv' := [(3, .int 0), (2, .int 0), (0, .ref (xa E 186)), (1, .int a1)]) hx hb dX13_manyAt_3 rfl hl (by decide) rfl (fun ls hl => ?_)
  cases g5 : gX13_manyAt_4 σ a1 xfu 0 0 with
  | none => rw [g5] at h; cases h
  | some q6 =>
    rw [g5, Option.bind_some] at h
    refine lX13_manyAt_4 F xfu 0 0 q6 g5 _ _ _ hW hS (lv_sub hl [0, 1, 2, 3] rfl) (fun H locs ls hW hS hl => ?_)
    refine lv_iload_n hx hb dX13_manyAt_38 rfl (lv_at hl 1 rfl) ?_
    have h := Option.some.inj h; subst h
    exact x_iret F hr hlk hW hS dX13_manyAt_39
/-! WildBellsModel.cell(II)I -/
def fX13_cell (σ : xM) (a1 : Int32) (a2 : Int32) : Option (Int32 × xM) :=
  if (fX13_isCell a1) = 0 then ((fX13_finding σ (-1000001)).bind (fun r3 => some (r3.1, r3.2))) else (if (fX13_within a2 0 3) = 0 then ((fX13_finding σ (-1000001)).bind (fun r15 => some (r15.1, r15.2))) else (if a2 = 0 then (if xin (18 + a1) 186 then (some ((σ 20 ((18 + a1).toNatClampNeg)), σ)) else none) else (if a2 = 1 then (if xin (82 + a1) 186 then (some ((σ 20 ((82 + a1).toNatClampNeg)), σ)) else none) else (if a2 = 2 then ((fX13_heardAt σ a1).bind (fun r11 => some (r11, σ))) else ((fX13_manyAt σ a1).bind (fun r9 => some (r9, σ)))))))
set_option maxHeartbeats 4000000 in
theorem mX13_cell (l : Launch) (E : xE) (σ : xM) (a1 : Int32) (a2 : Int32) (r : Int32) (σ' : xM) (h : fX13_cell σ a1 a2 = some (r, σ')) : Met l yX13_cell (ws_ yX13_cell cX13_cell 3 (some .int)) ({ frames := 5, cells := 0, slots := 0, locals := 109 } : Room) (xPc E σ [.ref (xa E 186), .int a1, .int a2]) (xQc E (.returned (some (.int r))) σ') 0 0 (xA E) := by
  refine x_of (C := RX13) (n := "cell") (d := "(II)I") (r := (some .int)) (by decide) rfl (by first | decide | exact Nat.le_of_ble_eq_true rfl) ?_
  intro p e s m below meth c ls F hr hlk hW hS hl
  have hl : lv_has ls 3 [(0, .ref (xa E 186)), (1, .int a1), (2, .int a2)] := hl
  obtain ⟨hx, hb, hml, hown, hts⟩ := id F.1
  have hK := F.2.1.1
  unfold fX13_cell at h
  refine lv_iload_n hx hb dX13_cell_0 rfl (lv_at hl 1 rfl) ?_
  refine x_backi (va_runS (As := [.int a1]) (rest := []) F.1 (mX13_isCell l E σ a1) (va_cwS 1 hts (lw_S q1273 q1274 q115 q1275) rfl rfl rfl (by decide +kernel) ⟨Nat.le_of_ble_eq_true rfl, Nat.le_of_ble_eq_true rfl⟩) ⟨xPc.blind, F.pre hW hS [.int a1]⟩ rfl rfl hl.1 rfl (lv_room (Nat.le_of_ble_eq_true rfl)) dX13_cell_1 ⟨Nat.le_refl _, Nat.le_refl _⟩) hS (fun H locs hW hS => ?_)
  refine lv_if_eq (tgt := 16) hx hb dX13_cell_4 (by decide) (fun c1 => ?_) (fun c1 => ?_)
  · rw [if_pos c1] at h
    refine lv_aload_n hx hb dX13_cell_16 rfl (lv_at hl 0 rfl) ?_
    refine lv_ldc (v := (-1000001)) hx hb hown (hts _ q1279) dX13_cell_17 ?_
    cases g2 : fX13_finding σ (-1000001) with
    | none => rw [g2] at h; cases h
    | some r3 =>
      rw [g2, Option.bind_some] at h
      refine x_backi (va_runV (C := RX13) (b := (xa E 186)) (As := [.int (-1000001)]) (rest := []) F.1 (mX13_finding l E σ (-1000001) r3.1 r3.2 g2) (cwV 1 hts (lw_V q1280 q1282 qs52 q115 q1283) rfl rfl rfl (by decide +kernel) ⟨Nat.le_of_ble_eq_true rfl, Nat.le_of_ble_eq_true rfl⟩) ⟨xPc.blind, va_recv hK (xO_M hW) (ci := 13) (q0 := 0) rfl rfl, F.pre hW hS (.ref (xa E 186) :: [.int (-1000001)])⟩ rfl rfl hl.1 rfl (lv_room (Nat.le_of_ble_eq_true rfl)) dX13_cell_19 ⟨Nat.le_refl _, Nat.le_refl _⟩) hS (fun H locs hW hS => ?_)
      obtain ⟨h1, h2⟩ := Prod.mk.inj (Option.some.inj h); subst h1; subst h2
      exact x_iret F hr hlk hW hS dX13_cell_22
  · rw [if_neg c1] at h
    refine lv_iload_n hx hb dX13_cell_7 rfl (lv_at hl 2 rfl) ?_
    refine lv_iconst (v := 0) hx hb dX13_cell_8 (by decide) ?_
    refine lv_iconst (v := 3) hx hb dX13_cell_9 (by decide) ?_
    refine x_backi (va_runS (As := [.int a2, .int 0, .int 3]) (rest := []) F.1 (mX13_within l E σ a2 0 3) (va_cwS 3 hts (lw_S q1276 q1277 q115 q1278) rfl rfl rfl (by decide +kernel) ⟨Nat.le_of_ble_eq_true rfl, Nat.le_of_ble_eq_true rfl⟩) ⟨xPc.blind, F.pre hW hS [.int a2, .int 0, .int 3]⟩ rfl rfl hl.1 rfl (lv_room (Nat.le_of_ble_eq_true rfl)) dX13_cell_10 ⟨Nat.le_refl _, Nat.le_refl _⟩) hS (fun H locs hW hS => ?_)
    refine lv_if_ne (tgt := 23) hx hb dX13_cell_13 (by decide) (fun c4 => ?_) (fun c4 => ?_)
    · rw [if_neg c4] at h
      refine lv_iload_n hx hb dX13_cell_23 rfl (lv_at hl 2 rfl) ?_
      refine lv_if_ne (tgt := 39) hx hb dX13_cell_24 (by decide) (fun c5 => ?_) (fun c5 => ?_)
      · rw [if_neg c5] at h
        refine lv_iload_n hx hb dX13_cell_39 rfl (lv_at hl 2 rfl) ?_
        refine lv_iconst (v := 1) hx hb dX13_cell_40 (by decide) ?_
        refine lv_icmp_ne (tgt := 56) hx hb dX13_cell_41 (by decide) (fun c6 => ?_) (fun c6 => ?_)
        · rw [if_neg c6] at h
          refine lv_iload_n hx hb dX13_cell_56 rfl (lv_at hl 2 rfl) ?_
          refine lv_iconst (v := 2) hx hb dX13_cell_57 (by decide) ?_
          refine lv_icmp_ne (tgt := 69) hx hb dX13_cell_58 (by decide) (fun c7 => ?_) (fun c7 => ?_)
          · rw [if_neg c7] at h
            refine lv_aload_n hx hb dX13_cell_69 rfl (lv_at hl 0 rfl) ?_
            refine lv_iload_n hx hb dX13_cell_70 rfl (lv_at hl 1 rfl) ?_
            cases g8 : fX13_manyAt σ a1 with
            | none => rw [g8] at h; cases h
            | some r9 =>
              rw [g8, Option.bind_some] at h
              refine x_backi (va_runV (C := RX13) (b := (xa E 186)) (As := [.int a1]) (rest := []) F.1 (mX13_manyAt l E σ a1 r9 g8) (cwV 1 hts (lw_V q1389 q1391 qs65 q115 q1392) rfl rfl rfl (by decide +kernel) ⟨Nat.le_of_ble_eq_true rfl, Nat.le_of_ble_eq_true rfl⟩) ⟨xPc.blind, va_recv hK (xO_M hW) (ci := 13) (q0 := 0) rfl rfl, F.pre hW hS (.ref (xa E 186) :: [.int a1])⟩ rfl rfl hl.1 rfl (lv_room (Nat.le_of_ble_eq_true rfl)) dX13_cell_71 ⟨Nat.le_refl _, Nat.le_refl _⟩) hS (fun H locs hW hS => ?_)
              obtain ⟨h1, h2⟩ := Prod.mk.inj (Option.some.inj h); subst h1; subst h2
              exact x_iret F hr hlk hW hS dX13_cell_74
          · rw [if_pos c7] at h
            refine lv_aload_n hx hb dX13_cell_61 rfl (lv_at hl 0 rfl) ?_
            refine lv_iload_n hx hb dX13_cell_62 rfl (lv_at hl 1 rfl) ?_
            cases g10 : fX13_heardAt σ a1 with
            | none => rw [g10] at h; cases h
            | some r11 =>
              rw [g10, Option.bind_some] at h
              refine x_backi (va_runV (C := RX13) (b := (xa E 186)) (As := [.int a1]) (rest := []) F.1 (mX13_heardAt l E σ a1 r11 g10) (cwV 1 hts (lw_V q1377 q1379 qs62 q115 q1380) rfl rfl rfl (by decide +kernel) ⟨Nat.le_of_ble_eq_true rfl, Nat.le_of_ble_eq_true rfl⟩) ⟨xPc.blind, va_recv hK (xO_M hW) (ci := 13) (q0 := 0) rfl rfl, F.pre hW hS (.ref (xa E 186) :: [.int a1])⟩ rfl rfl hl.1 rfl (lv_room (Nat.le_of_ble_eq_true rfl)) dX13_cell_63 ⟨Nat.le_refl _, Nat.le_refl _⟩) hS (fun H locs hW hS => ?_)
              refine lv_goto (tgt := 74) hx hb dX13_cell_66 (by decide) ?_
              obtain ⟨h1, h2⟩ := Prod.mk.inj (Option.some.inj h); subst h1; subst h2
              exact x_iret F hr hlk hW hS dX13_cell_74
        · rw [if_pos c6] at h
          refine lv_aload_n hx hb dX13_cell_44 rfl (lv_at hl 0 rfl) ?_
          refine va_get (D := xD E) (ci := 13) (v := .ref (xa E 187)) (C := RX13) (T := TX13) (N := 24) hx hb hts in_X13 hown hK (xO_M hW) 0 rfl rfl 0 (by decide) (hts _ q1196) (fun _ h9 => h9) rfl dX13_cell_45 ?_
          refine lv_bipush (v := 82) hx hb dX13_cell_48 (by decide) ?_
          refine lv_iload_n hx hb dX13_cell_50 rfl (lv_at hl 1 rfl) ?_
          refine lv_iadd hx hb dX13_cell_51 ?_
          by_cases hi12 : xin (82 + a1) 186
          · rw [if_pos hi12] at h
            refine va_iald hx hb hK (xV_p hW xp_187) 0 0 rfl rfl hi12 dX13_cell_52 ?_
            refine lv_goto (tgt := 74) hx hb dX13_cell_53 (by decide) ?_
            obtain ⟨h1, h2⟩ := Prod.mk.inj (Option.some.inj h); subst h1; subst h2
            exact x_iret F hr hlk hW hS dX13_cell_74
          · rw [if_neg hi12] at h; cases h
      · rw [if_pos c5] at h
        refine lv_aload_n hx hb dX13_cell_27 rfl (lv_at hl 0 rfl) ?_
        refine va_get (D := xD E) (ci := 13) (v := .ref (xa E 187)) (C := RX13) (T := TX13) (N := 24) hx hb hts in_X13 hown hK (xO_M hW) 0 rfl rfl 0 (by decide) (hts _ q1196) (fun _ h9 => h9) rfl dX13_cell_28 ?_
        refine lv_bipush (v := 18) hx hb dX13_cell_31 (by decide) ?_
        refine lv_iload_n hx hb dX13_cell_33 rfl (lv_at hl 1 rfl) ?_
        refine lv_iadd hx hb dX13_cell_34 ?_
        by_cases hi13 : xin (18 + a1) 186
        · rw [if_pos hi13] at h
          refine va_iald hx hb hK (xV_p hW xp_187) 0 0 rfl rfl hi13 dX13_cell_35 ?_
          refine lv_goto (tgt := 74) hx hb dX13_cell_36 (by decide) ?_
          obtain ⟨h1, h2⟩ := Prod.mk.inj (Option.some.inj h); subst h1; subst h2
          exact x_iret F hr hlk hW hS dX13_cell_74
        · rw [if_neg hi13] at h; cases h
    · rw [if_pos c4] at h
      refine lv_aload_n hx hb dX13_cell_16 rfl (lv_at hl 0 rfl) ?_
      refine lv_ldc (v := (-1000001)) hx hb hown (hts _ q1279) dX13_cell_17 ?_
      cases g14 : fX13_finding σ (-1000001) with
      | none => rw [g14] at h; cases h
      | some r15 =>
        rw [g14, Option.bind_some] at h
        refine x_backi (va_runV (C := RX13) (b := (xa E 186)) (As := [.int (-1000001)]) (rest := []) F.1 (mX13_finding l E σ (-1000001) r15.1 r15.2 g14) (cwV 1 hts (lw_V q1280 q1282 qs52 q115 q1283) rfl rfl rfl (by decide +kernel) ⟨Nat.le_of_ble_eq_true rfl, Nat.le_of_ble_eq_true rfl⟩) ⟨xPc.blind, va_recv hK (xO_M hW) (ci := 13) (q0 := 0) rfl rfl, F.pre hW hS (.ref (xa E 186) :: [.int (-1000001)])⟩ rfl rfl hl.1 rfl (lv_room (Nat.le_of_ble_eq_true rfl)) dX13_cell_19 ⟨Nat.le_refl _, Nat.le_refl _⟩) hS (fun H locs hW hS => ?_)
        obtain ⟨h1, h2⟩ := Prod.mk.inj (Option.some.inj h); subst h1; subst h2
        exact x_iret F hr hlk hW hS dX13_cell_22
/-! WildBellsModel.caughtNow()I -/
def gX13_caughtNow_4 (σ : xM) : Nat → Int32 → Int32 → Option (Int32 × Int32)
  | 0, _, _ => none
  | n + 1, x1, x2 => if (σ 20 ((2 : Int32).toNatClampNeg)) ≤ x2 then (some (x1, x2)) else ((fX13_isCaught σ x2).bind (fun r3 => if r3 = 0 then (gX13_caughtNow_4 σ n (x1 ||| 0) (x2 + 1)) else (gX13_caughtNow_4 σ n (x1 ||| (1 <<< (x2 &&& 31))) (x2 + 1))))
def fX13_caughtNow (σ : xM) : Option Int32 :=
  (gX13_caughtNow_4 σ xfu 0 0).bind (fun q6 => some q6.1)
set_option maxHeartbeats 4000000 in
theorem lX13_caughtNow_4 {p : Program} {l : Launch} {e : Env} {s : State} {m : MethodId} {av : Array Value} {below : List Frame} {meth : Method} {c : Code} {Q : State → Prop} {E : xE} {σ : xM} (F : xFx p m c cX13_caughtNow 3 s av RX13 E) : ∀ (n : Nat) (x1 : Int32) (x2 : Int32) (q : (Int32 × Int32)), gX13_caughtNow_4 σ n x1 x2 = some q → ∀ (H : Heap) (locs : List Loc) (ls : Array Slot), xW E σ H → va_S (xA E) s.heap H locs → lv_has ls 3 [(2, .int x2), (1, .int x1), (0, .ref (xa E 186))] → (∀ (H : Heap) (locs : List Loc) (ls : Array Slot), xW E σ H → va_S (xA E) s.heap H locs → lv_has ls 3 [(2, .int q.2), (1, .int q.1), (0, .ref (xa E 186))] → W p l e ({ frames := 3, cells := 0, slots := 0, locals := 64 } : Room) s m av below meth c H locs 0 0 Q (F0 m 38 ls [])) → W p l e ({ frames := 3, cells := 0, slots := 0, locals := 64 } : Room) s m av below meth c H locs 0 0 Q (F0 m 4 ls []) := by
  obtain ⟨hx, hb, hml, hown, hts⟩ := id F.1
  have hK := F.2.1.1
  intro n
  induction n with
  | zero =>
    intro x1 x2 q h
    cases h
  | succ n ih =>
    intro x1 x2 q h H locs ls hW hS hl kk
    rw [gX13_caughtNow_4] at h
    refine lv_iload_n hx hb dX13_caughtNow_4 rfl (lv_at hl 0 rfl) ?_
    refine lv_aload_n hx hb dX13_caughtNow_5 rfl (lv_at hl 2 rfl) ?_
    refine va_get (D := xD E) (ci := 13) (v := .ref (xa E 187)) (C := RX13) (T := TX13) (N := 24) hx hb hts in_X13 hown hK (xO_M hW) 0 rfl rfl 0 (by decide) (hts _ q1196) (fun _ h9 => h9) rfl dX13_caughtNow_6 ?_
    refine lv_iconst (v := 2) hx hb dX13_caughtNow_9 (by decide) ?_
    refine va_iald hx hb hK (xV_p hW xp_187) 0 0 rfl rfl (x_lit (by decide)) dX13_caughtNow_10 ?_
    refine lv_icmp_ge (tgt := 38) hx hb dX13_caughtNow_11 (by decide) (fun c1 => ?_) (fun c1 => ?_)
    · rw [if_pos c1] at h
      have h := Option.some.inj h; subst h
      exact kk _ _ _ hW hS (lv_sub hl [0, 1, 2] rfl)
    · rw [if_neg c1] at h
      refine lv_iload_n hx hb dX13_caughtNow_14 rfl (lv_at hl 1 rfl) ?_
      refine lv_aload_n hx hb dX13_caughtNow_15 rfl (lv_at hl 2 rfl) ?_
      refine lv_iload_n hx hb dX13_caughtNow_16 rfl (lv_at hl 0 rfl) ?_
      cases g2 : fX13_isCaught σ x2 with
      | none => rw [g2] at h; cases h
      | some r3 =>
        rw [g2, Option.bind_some] at h
        refine x_backi (va_runV (C := RX13) (b := (xa E 186)) (As := [.int x2]) (rest := [.int x1]) F.1 (mX13_isCaught l E σ x2 r3 g2) (cwV 1 hts (lw_V q1353 q1355 qs60 q115 q1356) rfl rfl rfl (by decide +kernel) ⟨Nat.le_of_ble_eq_true rfl, Nat.le_of_ble_eq_true rfl⟩) ⟨xPc.blind, va_recv hK (xO_M hW) (ci := 13) (q0 := 0) rfl rfl, F.pre hW hS (.ref (xa E 186) :: [.int x2])⟩ rfl rfl hl.1 rfl (lv_room (Nat.le_of_ble_eq_true rfl)) dX13_caughtNow_17 ⟨Nat.le_refl _, Nat.le_refl _⟩) hS (fun H locs hW hS => ?_)
        refine lv_if_eq (tgt := 29) hx hb dX13_caughtNow_20 (by decide) (fun c4 => ?_) (fun c4 => ?_)
        · rw [if_pos c4] at h
          refine lv_iconst (v := 0) hx hb dX13_caughtNow_29 (by decide) ?_
          refine lv_ior hx hb dX13_caughtNow_30 ?_
          refine lv_istore_n (lv' := [(1, .int (x1 ||| 0)), (2, .int x2), (0, .ref (xa E 186))]) hx hb dX13_caughtNow_31 rfl hl (by decide) rfl (fun ls hl => ?_)
          refine lv_iinc (k := 1) (v := (x2 + 1)) (lv' := [(2, .int (x2 + 1)), (1, .int (x1 ||| 0)), (0, .ref (xa E 186))]) hx hb dX13_caughtNow_32 hl rfl rfl (by decide) rfl (fun ls hl => ?_)
          refine lv_goto (tgt := 4) hx hb dX13_caughtNow_35 (by decide) ?_
          exact ih (x1 ||| 0) (x2 + 1) _ h _ _ _ hW hS (lv_sub hl [0, 1, 2] rfl) kk
        · rw [if_neg c4] at h
          refine lv_iconst (v := 1) hx hb dX13_caughtNow_23 (by decide) ?_
          refine lv_iload_n hx hb dX13_caughtNow_24 rfl (lv_at hl 0 rfl) ?_
          refine lv_ishl hx hb dX13_caughtNow_25 ?_
          refine lv_goto (tgt := 30) hx hb dX13_caughtNow_26 (by decide) ?_
          refine lv_ior hx hb dX13_caughtNow_30 ?_
          refine lv_istore_n (lv' := [(1, .int (x1 ||| (1 <<< (x2 &&& 31)))), (2, .int x2), (0, .ref (xa E 186))]) hx hb dX13_caughtNow_31 rfl hl (by decide) rfl (fun ls hl => ?_)
          refine lv_iinc (k := 1) (v := (x2 + 1)) (lv' := [(2, .int (x2 + 1)), (1, .int (x1 ||| (1 <<< (x2 &&& 31)))), (0, .ref (xa E 186))]) hx hb dX13_caughtNow_32 hl rfl rfl (by decide) rfl (fun ls hl => ?_)
          refine lv_goto (tgt := 4) hx hb dX13_caughtNow_35 (by decide) ?_
          exact ih (x1 ||| (1 <<< (x2 &&& 31))) (x2 + 1) _ h _ _ _ hW hS (lv_sub hl [0, 1, 2] rfl) kk
set_option maxHeartbeats 4000000 in
theorem mX13_caughtNow (l : Launch) (E : xE) (σ : xM) (r : Int32) (h : fX13_caughtNow σ = some r) : Met l yX13_caughtNow (ws_ yX13_caughtNow cX13_caughtNow 3 (some .int)) ({ frames := 3, cells := 0, slots := 0, locals := 64 } : Room) (xPc E σ [.ref (xa E 186)]) (xQc E (.returned (some (.int r))) σ) 0 0 (xA E) := by
  refine x_of (C := RX13) (n := "caughtNow") (d := "()I") (r := (some .int)) (by decide) rfl (by first | decide | exact Nat.le_of_ble_eq_true rfl) ?_
  intro p e s m below meth c ls F hr hlk hW hS hl
  have hl : lv_has ls 3 [(0, .ref (xa E 186))] := hl
  obtain ⟨hx, hb, hml, hown, hts⟩ := id F.1
  have hK := F.2.1.1
  unfold fX13_caughtNow at h
  refine lv_iconst (v := 0) hx hb dX13_caughtNow_0 (by decide) ?_
  refine lv_istore_n (lv' := [(1, .int 0), (0, .ref (xa E 186))]) hx hb dX13_caughtNow_1 rfl hl (by decide) rfl (fun ls hl => ?_)
  refine lv_iconst (v := 0) hx hb dX13_caughtNow_2 (by decide) ?_
  refine lv_istore_n (lv' := [(2, .int 0), (1, .int 0), (0, .ref (xa E 186))]) hx hb dX13_caughtNow_3 rfl hl (by decide) rfl (fun ls hl => ?_)
  cases g5 : gX13_caughtNow_4 σ xfu 0 0 with
  | none => rw [g5] at h; cases h
  | some q6 =>
    rw [g5, Option.bind_some] at h
    refine lX13_caughtNow_4 F xfu 0 0 q6 g5 _ _ _ hW hS (lv_sub hl [0, 1, 2] rfl) (fun H locs ls hW hS hl => ?_)
    refine lv_iload_n hx hb dX13_caughtNow_38 rfl (lv_at hl 1 rfl) ?_
    have h := Option.some.inj h; subst h
    exact x_iret F hr hlk hW hS dX13_caughtNow_39
/-! WildBellsModel.hour()V -/
def gX13_hour_7  : Nat → Int32 → xM → Option (Int32 × xM)
  | 0, _, _ => none
  | n + 1, x1, σ => if (σ 20 ((2 : Int32).toNatClampNeg)) ≤ x1 then (some (x1, σ)) else ((fX13_isCaught σ x1).bind (fun r3 => if r3 = 0 then ((fX13_nextOf σ x1).bind (fun r6 => if (σ 24 1) = 0 then ((fX13_bellIs σ x1 1).bind (fun r15 => if r6 = r15 then ((fX13_hasNet σ r6).bind (fun r24 => if r24 = 0 then (if xin (fX13_at x1 1) 186 then ((fX13_hasNet (xup (xup σ 24 1 0) 20 ((fX13_at x1 1).toNatClampNeg) r6) r6).bind (fun r28 => if r28 = 0 then (if xin (fX13_at x1 4) 186 then (gX13_hour_7 n (x1 + 1) (xup (xup (xup σ 24 1 0) 20 ((fX13_at x1 1).toNatClampNeg) r6) 20 ((fX13_at x1 4).toNatClampNeg) 0)) else none) else (if xin (fX13_at x1 4) 186 then (gX13_hour_7 n (x1 + 1) (xup (xup (xup σ 24 1 0) 20 ((fX13_at x1 1).toNatClampNeg) r6) 20 ((fX13_at x1 4).toNatClampNeg) 1)) else none))) else none) else (if xin (fX13_at x1 1) 186 then ((fX13_hasNet (xup (xup σ 24 1 1) 20 ((fX13_at x1 1).toNatClampNeg) r6) r6).bind (fun r34 => if r34 = 0 then (if xin (fX13_at x1 4) 186 then (gX13_hour_7 n (x1 + 1) (xup (xup (xup σ 24 1 1) 20 ((fX13_at x1 1).toNatClampNeg) r6) 20 ((fX13_at x1 4).toNatClampNeg) 0)) else none) else (if xin (fX13_at x1 4) 186 then (gX13_hour_7 n (x1 + 1) (xup (xup (xup σ 24 1 1) 20 ((fX13_at x1 1).toNatClampNeg) r6) 20 ((fX13_at x1 4).toNatClampNeg) 1)) else none))) else none))) else (if xin (fX13_at x1 1) 186 then ((fX13_hasNet (xup (xup σ 24 1 1) 20 ((fX13_at x1 1).toNatClampNeg) r6) r6).bind (fun r19 => if r19 = 0 then (if xin (fX13_at x1 4) 186 then (gX13_hour_7 n (x1 + 1) (xup (xup (xup σ 24 1 1) 20 ((fX13_at x1 1).toNatClampNeg) r6) 20 ((fX13_at x1 4).toNatClampNeg) 0)) else none) else (if xin (fX13_at x1 4) 186 then (gX13_hour_7 n (x1 + 1) (xup (xup (xup σ 24 1 1) 20 ((fX13_at x1 1).toNatClampNeg) r6) 20 ((fX13_at x1 4).toNatClampNeg) 1)) else none))) else none))) else (if xin (fX13_at x1 1) 186 then ((fX13_hasNet (xup (xup σ 24 1 1) 20 ((fX13_at x1 1).toNatClampNeg) r6) r6).bind (fun r10 => if r10 = 0 then (if xin (fX13_at x1 4) 186 then (gX13_hour_7 n (x1 + 1) (xup (xup (xup σ 24 1 1) 20 ((fX13_at x1 1).toNatClampNeg) r6) 20 ((fX13_at x1 4).toNatClampNeg) 0)) else none) else (if xin (fX13_at x1 4) 186 then (gX13_hour_7 n (x1 + 1) (xup (xup (xup σ 24 1 1) 20 ((fX13_at x1 1).toNatClampNeg) r6) 20 ((fX13_at x1 4).toNatClampNeg) 1)) else none))) else none))) else (gX13_hour_7 n (x1 + 1) σ)))
def fX13_hour (σ : xM) : Option xM :=
  (gX13_hour_7 xfu 0 (xup σ 24 1 0)).bind (fun q39 => some (xup q39.2 20 ((0 : Int32).toNatClampNeg) ((q39.2 20 ((0 : Int32).toNatClampNeg)) + 1)))
set_option maxHeartbeats 4000000 in
theorem lX13_hour_7 {p : Program} {l : Launch} {e : Env} {s : State} {m : MethodId} {av : Array Value} {below : List Frame} {meth : Method} {c : Code} {Q : State → Prop} {E : xE} (F : xFx p m c cX13_hour 3 s av RX13 E) : ∀ (n : Nat) (x1 : Int32) (σ : xM) (q : (Int32 × xM)), gX13_hour_7 n x1 σ = some q → ∀ (H : Heap) (locs : List Loc) (ls : Array Slot), xW E σ H → va_S (xA E) s.heap H locs → lv_has ls 3 [(1, .int x1), (0, .ref (xa E 186))] → (∀ (H : Heap) (locs : List Loc) (ls : Array Slot), xW E q.2 H → va_S (xA E) s.heap H locs → lv_has ls 3 [(1, .int q.1), (0, .ref (xa E 186))] → W p l e ({ frames := 6, cells := 0, slots := 0, locals := 145 } : Room) s m av below meth c H locs 0 0 Q (F0 m 105 ls [])) → W p l e ({ frames := 6, cells := 0, slots := 0, locals := 145 } : Room) s m av below meth c H locs 0 0 Q (F0 m 7 ls []) := by
  obtain ⟨hx, hb, hml, hown, hts⟩ := id F.1
  have hK := F.2.1.1
  intro n
  induction n with
  | zero =>
    intro x1 σ q h
    cases h
  | succ n ih =>
    intro x1 σ q h H locs ls hW hS hl kk
    rw [gX13_hour_7] at h
    refine lv_iload_n hx hb dX13_hour_7 rfl (lv_at hl 0 rfl) ?_
    refine lv_aload_n hx hb dX13_hour_8 rfl (lv_at hl 1 rfl) ?_
    refine va_get (D := xD E) (ci := 13) (v := .ref (xa E 187)) (C := RX13) (T := TX13) (N := 24) hx hb hts in_X13 hown hK (xO_M hW) 0 rfl rfl 0 (by decide) (hts _ q1196) (fun _ h9 => h9) rfl dX13_hour_9 ?_
    refine lv_iconst (v := 2) hx hb dX13_hour_12 (by decide) ?_
    refine va_iald hx hb hK (xV_p hW xp_187) 0 0 rfl rfl (x_lit (by decide)) dX13_hour_13 ?_
    refine lv_icmp_ge (tgt := 105) hx hb dX13_hour_14 (by decide) (fun c1 => ?_) (fun c1 => ?_)
    · rw [if_pos c1] at h
      have h := Option.some.inj h; subst h
      exact kk _ _ _ hW hS (lv_sub hl [0, 1] rfl)
    · rw [if_neg c1] at h
      refine lv_aload_n hx hb dX13_hour_17 rfl (lv_at hl 1 rfl) ?_
      refine lv_iload_n hx hb dX13_hour_18 rfl (lv_at hl 0 rfl) ?_
      cases g2 : fX13_isCaught σ x1 with
      | none => rw [g2] at h; cases h
      | some r3 =>
        rw [g2, Option.bind_some] at h
        refine x_backi (va_runV (C := RX13) (b := (xa E 186)) (As := [.int x1]) (rest := []) F.1 (mX13_isCaught l E σ x1 r3 g2) (cwV 1 hts (lw_V q1353 q1355 qs60 q115 q1356) rfl rfl rfl (by decide +kernel) ⟨Nat.le_of_ble_eq_true rfl, Nat.le_of_ble_eq_true rfl⟩) ⟨xPc.blind, va_recv hK (xO_M hW) (ci := 13) (q0 := 0) rfl rfl, F.pre hW hS (.ref (xa E 186) :: [.int x1])⟩ rfl rfl hl.1 rfl (lv_room (Nat.le_of_ble_eq_true rfl)) dX13_hour_19 ⟨Nat.le_refl _, Nat.le_refl _⟩) hS (fun H locs hW hS => ?_)
        refine lv_if_ne (tgt := 99) hx hb dX13_hour_22 (by decide) (fun c4 => ?_) (fun c4 => ?_)
        · rw [if_neg c4] at h
          refine lv_iinc (k := 0) (v := (x1 + 1)) (lv' := [(1, .int (x1 + 1)), (0, .ref (xa E 186))]) hx hb dX13_hour_99 hl rfl rfl (by decide) rfl (fun ls hl => ?_)
          refine lv_goto (tgt := 7) hx hb dX13_hour_102 (by decide) ?_
          exact ih (x1 + 1) σ _ h _ _ _ hW hS (lv_sub hl [0, 1] rfl) kk
        · rw [if_pos c4] at h
          refine lv_aload_n hx hb dX13_hour_25 rfl (lv_at hl 1 rfl) ?_
          refine lv_iload_n hx hb dX13_hour_26 rfl (lv_at hl 0 rfl) ?_
          cases g5 : fX13_nextOf σ x1 with
          | none => rw [g5] at h; cases h
          | some r6 =>
            rw [g5, Option.bind_some] at h
            refine x_backi (va_runV (C := RX13) (b := (xa E 186)) (As := [.int x1]) (rest := []) F.1 (mX13_nextOf l E σ x1 r6 g5) (cwV 1 hts (lw_V q1330 q1332 qs57 q115 q1333) rfl rfl rfl (by decide +kernel) ⟨Nat.le_of_ble_eq_true rfl, Nat.le_of_ble_eq_true rfl⟩) ⟨xPc.blind, va_recv hK (xO_M hW) (ci := 13) (q0 := 0) rfl rfl, F.pre hW hS (.ref (xa E 186) :: [.int x1])⟩ rfl rfl hl.1 rfl (lv_room (Nat.le_of_ble_eq_true rfl)) dX13_hour_27 ⟨Nat.le_refl _, Nat.le_refl _⟩) hS (fun H locs hW hS => ?_)
            refine lv_istore_n (lv' := [(2, .int r6), (1, .int x1), (0, .ref (xa E 186))]) hx hb dX13_hour_30 rfl hl (by decide) rfl (fun ls hl => ?_)
            refine lv_aload_n hx hb dX13_hour_31 rfl (lv_at hl 2 rfl) ?_
            refine lv_aload_n hx hb dX13_hour_32 rfl (lv_at hl 2 rfl) ?_
            refine va_get (D := xD E) (ci := 13) (v := .int (σ 24 1)) (C := RX13) (T := TX13) (N := 24) hx hb hts in_X13 hown hK (xO_M hW) 0 rfl rfl 7 (by decide) (hts _ q1203) (fun _ h9 => h9) rfl dX13_hour_33 ?_
            refine lv_if_ne (tgt := 57) hx hb dX13_hour_36 (by decide) (fun c7 => ?_) (fun c7 => ?_)
            · rw [if_neg c7] at h
              refine lv_iconst (v := 1) hx hb dX13_hour_57 (by decide) ?_
              refine lv_goto (tgt := 62) hx hb dX13_hour_58 (by decide) ?_
              refine x_put (C := RX13) (T := TX13) (N := 24) (ci := 13) (ty := .boolean) F hW hS in_X13 tyX13 tyX13_ok nmX13 rfl 186 7 24 1 (by decide) rfl (by decide) rfl (by decide) (hts _ q1203) (fun _ h9 => h9) rfl (by decide +kernel) rfl rfl dX13_hour_62 (fun H locs hW hS => ?_)
              refine lv_aload_n hx hb dX13_hour_65 rfl (lv_at hl 2 rfl) ?_
              refine va_get (D := xD E) (ci := 13) (v := .ref (xa E 187)) (C := RX13) (T := TX13) (N := 24) hx hb hts in_X13 hown hK (xO_M hW) 0 rfl rfl 0 (by decide) (hts _ q1196) (fun _ h9 => h9) rfl dX13_hour_66 ?_
              refine lv_iload_n hx hb dX13_hour_69 rfl (lv_at hl 1 rfl) ?_
              refine lv_iconst (v := 1) hx hb dX13_hour_70 (by decide) ?_
              refine x_backi (va_runS (As := [.int x1, .int 1]) (rest := [.ref (xa E 187)]) F.1 (mX13_at l E (xup σ 24 1 1) x1 1) (va_cwS 2 hts (lw_S q1315 q1316 q115 q1317) rfl rfl rfl (by decide +kernel) ⟨Nat.le_of_ble_eq_true rfl, Nat.le_of_ble_eq_true rfl⟩) ⟨xPc.blind, F.pre hW hS [.int x1, .int 1]⟩ rfl rfl hl.1 rfl (lv_room (Nat.le_of_ble_eq_true rfl)) dX13_hour_71 ⟨Nat.le_refl _, Nat.le_refl _⟩) hS (fun H locs hW hS => ?_)
              refine lv_iload_n hx hb dX13_hour_74 rfl (lv_at hl 0 rfl) ?_
              by_cases hi8 : xin (fX13_at x1 1) 186
              · rw [if_pos hi8] at h
                refine x_iast F hW hS 187 186 20 (fun j => j) xp_187.1 xp_187.2.1 xp_187.2.2.1 xp_187.2.2.2 hi8 dX13_hour_75 (fun H locs hW hS => ?_)
                refine lv_aload_n hx hb dX13_hour_76 rfl (lv_at hl 2 rfl) ?_
                refine va_get (D := xD E) (ci := 13) (v := .ref (xa E 187)) (C := RX13) (T := TX13) (N := 24) hx hb hts in_X13 hown hK (xO_M hW) 0 rfl rfl 0 (by decide) (hts _ q1196) (fun _ h9 => h9) rfl dX13_hour_77 ?_
                refine lv_iload_n hx hb dX13_hour_80 rfl (lv_at hl 1 rfl) ?_
                refine lv_iconst (v := 4) hx hb dX13_hour_81 (by decide) ?_
                refine x_backi (va_runS (As := [.int x1, .int 4]) (rest := [.ref (xa E 187)]) F.1 (mX13_at l E (xup (xup σ 24 1 1) 20 ((fX13_at x1 1).toNatClampNeg) r6) x1 4) (va_cwS 2 hts (lw_S q1315 q1316 q115 q1317) rfl rfl rfl (by decide +kernel) ⟨Nat.le_of_ble_eq_true rfl, Nat.le_of_ble_eq_true rfl⟩) ⟨xPc.blind, F.pre hW hS [.int x1, .int 4]⟩ rfl rfl hl.1 rfl (lv_room (Nat.le_of_ble_eq_true rfl)) dX13_hour_82 ⟨Nat.le_refl _, Nat.le_refl _⟩) hS (fun H locs hW hS => ?_)
                refine lv_aload_n hx hb dX13_hour_85 rfl (lv_at hl 2 rfl) ?_
                refine lv_iload_n hx hb dX13_hour_86 rfl (lv_at hl 0 rfl) ?_
                cases g9 : fX13_hasNet (xup (xup σ 24 1 1) 20 ((fX13_at x1 1).toNatClampNeg) r6) r6 with
                | none => rw [g9] at h; cases h
                | some r10 =>
                  rw [g9, Option.bind_some] at h
                  refine x_backi (va_runV (C := RX13) (b := (xa E 186)) (As := [.int r6]) (rest := [.int (fX13_at x1 4), .ref (xa E 187)]) F.1 (mX13_hasNet l E (xup (xup σ 24 1 1) 20 ((fX13_at x1 1).toNatClampNeg) r6) r6 r10 g9) (cwV 1 hts (lw_V q1407 q1409 qs68 q115 q1410) rfl rfl rfl (by decide +kernel) ⟨Nat.le_of_ble_eq_true rfl, Nat.le_of_ble_eq_true rfl⟩) ⟨xPc.blind, va_recv hK (xO_M hW) (ci := 13) (q0 := 0) rfl rfl, F.pre hW hS (.ref (xa E 186) :: [.int r6])⟩ rfl rfl hl.1 rfl (lv_room (Nat.le_of_ble_eq_true rfl)) dX13_hour_87 ⟨Nat.le_refl _, Nat.le_refl _⟩) hS (fun H locs hW hS => ?_)
                  refine lv_if_eq (tgt := 97) hx hb dX13_hour_90 (by decide) (fun c11 => ?_) (fun c11 => ?_)
                  · rw [if_pos c11] at h
                    refine lv_iconst (v := 0) hx hb dX13_hour_97 (by decide) ?_
                    by_cases hi12 : xin (fX13_at x1 4) 186
                    · rw [if_pos hi12] at h
                      refine x_iast F hW hS 187 186 20 (fun j => j) xp_187.1 xp_187.2.1 xp_187.2.2.1 xp_187.2.2.2 hi12 dX13_hour_98 (fun H locs hW hS => ?_)
                      refine lv_iinc (k := 1) (v := (x1 + 1)) (lv' := [(1, .int (x1 + 1)), (2, .int r6), (0, .ref (xa E 186))]) hx hb dX13_hour_99 hl rfl rfl (by decide) rfl (fun ls hl => ?_)
                      refine lv_goto (tgt := 7) hx hb dX13_hour_102 (by decide) ?_
                      exact ih (x1 + 1) (xup (xup (xup σ 24 1 1) 20 ((fX13_at x1 1).toNatClampNeg) r6) 20 ((fX13_at x1 4).toNatClampNeg) 0) _ h _ _ _ hW hS (lv_sub hl [0, 2] rfl) kk
                    · rw [if_neg hi12] at h; cases h
                  · rw [if_neg c11] at h
                    refine lv_iconst (v := 1) hx hb dX13_hour_93 (by decide) ?_
                    refine lv_goto (tgt := 98) hx hb dX13_hour_94 (by decide) ?_
                    by_cases hi13 : xin (fX13_at x1 4) 186
                    · rw [if_pos hi13] at h
                      refine x_iast F hW hS 187 186 20 (fun j => j) xp_187.1 xp_187.2.1 xp_187.2.2.1 xp_187.2.2.2 hi13 dX13_hour_98 (fun H locs hW hS => ?_)
                      refine lv_iinc (k := 1) (v := (x1 + 1)) (lv' := [(1, .int (x1 + 1)), (2, .int r6), (0, .ref (xa E 186))]) hx hb dX13_hour_99 hl rfl rfl (by decide) rfl (fun ls hl => ?_)
                      refine lv_goto (tgt := 7) hx hb dX13_hour_102 (by decide) ?_
                      exact ih (x1 + 1) (xup (xup (xup σ 24 1 1) 20 ((fX13_at x1 1).toNatClampNeg) r6) 20 ((fX13_at x1 4).toNatClampNeg) 1) _ h _ _ _ hW hS (lv_sub hl [0, 2] rfl) kk
                    · rw [if_neg hi13] at h; cases h
              · rw [if_neg hi8] at h; cases h
            · rw [if_pos c7] at h
              refine lv_iload_n hx hb dX13_hour_39 rfl (lv_at hl 0 rfl) ?_
              refine lv_aload_n hx hb dX13_hour_40 rfl (lv_at hl 2 rfl) ?_
              refine lv_iload_n hx hb dX13_hour_41 rfl (lv_at hl 1 rfl) ?_
              refine lv_iconst (v := 1) hx hb dX13_hour_42 (by decide) ?_
              cases g14 : fX13_bellIs σ x1 1 with
              | none => rw [g14] at h; cases h
              | some r15 =>
                rw [g14, Option.bind_some] at h
                refine x_backi (va_runV (C := RX13) (b := (xa E 186)) (As := [.int x1, .int 1]) (rest := [.int r6, .ref (xa E 186)]) F.1 (mX13_bellIs l E σ x1 1 r15 g14) (cwV 2 hts (lw_V q1326 q1328 qs56 q115 q1329) rfl rfl rfl (by decide +kernel) ⟨Nat.le_of_ble_eq_true rfl, Nat.le_of_ble_eq_true rfl⟩) ⟨xPc.blind, va_recv hK (xO_M hW) (ci := 13) (q0 := 0) rfl rfl, F.pre hW hS (.ref (xa E 186) :: [.int x1, .int 1])⟩ rfl rfl hl.1 rfl (lv_room (Nat.le_of_ble_eq_true rfl)) dX13_hour_43 ⟨Nat.le_refl _, Nat.le_refl _⟩) hS (fun H locs hW hS => ?_)
                refine lv_icmp_ne (tgt := 57) hx hb dX13_hour_46 (by decide) (fun c16 => ?_) (fun c16 => ?_)
                · rw [if_neg c16] at h
                  refine lv_iconst (v := 1) hx hb dX13_hour_57 (by decide) ?_
                  refine lv_goto (tgt := 62) hx hb dX13_hour_58 (by decide) ?_
                  refine x_put (C := RX13) (T := TX13) (N := 24) (ci := 13) (ty := .boolean) F hW hS in_X13 tyX13 tyX13_ok nmX13 rfl 186 7 24 1 (by decide) rfl (by decide) rfl (by decide) (hts _ q1203) (fun _ h9 => h9) rfl (by decide +kernel) rfl rfl dX13_hour_62 (fun H locs hW hS => ?_)
                  refine lv_aload_n hx hb dX13_hour_65 rfl (lv_at hl 2 rfl) ?_
                  refine va_get (D := xD E) (ci := 13) (v := .ref (xa E 187)) (C := RX13) (T := TX13) (N := 24) hx hb hts in_X13 hown hK (xO_M hW) 0 rfl rfl 0 (by decide) (hts _ q1196) (fun _ h9 => h9) rfl dX13_hour_66 ?_
                  refine lv_iload_n hx hb dX13_hour_69 rfl (lv_at hl 1 rfl) ?_
                  refine lv_iconst (v := 1) hx hb dX13_hour_70 (by decide) ?_
                  refine x_backi (va_runS (As := [.int x1, .int 1]) (rest := [.ref (xa E 187)]) F.1 (mX13_at l E (xup σ 24 1 1) x1 1) (va_cwS 2 hts (lw_S q1315 q1316 q115 q1317) rfl rfl rfl (by decide +kernel) ⟨Nat.le_of_ble_eq_true rfl, Nat.le_of_ble_eq_true rfl⟩) ⟨xPc.blind, F.pre hW hS [.int x1, .int 1]⟩ rfl rfl hl.1 rfl (lv_room (Nat.le_of_ble_eq_true rfl)) dX13_hour_71 ⟨Nat.le_refl _, Nat.le_refl _⟩) hS (fun H locs hW hS => ?_)
                  refine lv_iload_n hx hb dX13_hour_74 rfl (lv_at hl 0 rfl) ?_
                  by_cases hi17 : xin (fX13_at x1 1) 186
                  · rw [if_pos hi17] at h
                    refine x_iast F hW hS 187 186 20 (fun j => j) xp_187.1 xp_187.2.1 xp_187.2.2.1 xp_187.2.2.2 hi17 dX13_hour_75 (fun H locs hW hS => ?_)
                    refine lv_aload_n hx hb dX13_hour_76 rfl (lv_at hl 2 rfl) ?_
                    refine va_get (D := xD E) (ci := 13) (v := .ref (xa E 187)) (C := RX13) (T := TX13) (N := 24) hx hb hts in_X13 hown hK (xO_M hW) 0 rfl rfl 0 (by decide) (hts _ q1196) (fun _ h9 => h9) rfl dX13_hour_77 ?_
                    refine lv_iload_n hx hb dX13_hour_80 rfl (lv_at hl 1 rfl) ?_
                    refine lv_iconst (v := 4) hx hb dX13_hour_81 (by decide) ?_
                    refine x_backi (va_runS (As := [.int x1, .int 4]) (rest := [.ref (xa E 187)]) F.1 (mX13_at l E (xup (xup σ 24 1 1) 20 ((fX13_at x1 1).toNatClampNeg) r6) x1 4) (va_cwS 2 hts (lw_S q1315 q1316 q115 q1317) rfl rfl rfl (by decide +kernel) ⟨Nat.le_of_ble_eq_true rfl, Nat.le_of_ble_eq_true rfl⟩) ⟨xPc.blind, F.pre hW hS [.int x1, .int 4]⟩ rfl rfl hl.1 rfl (lv_room (Nat.le_of_ble_eq_true rfl)) dX13_hour_82 ⟨Nat.le_refl _, Nat.le_refl _⟩) hS (fun H locs hW hS => ?_)
                    refine lv_aload_n hx hb dX13_hour_85 rfl (lv_at hl 2 rfl) ?_
                    refine lv_iload_n hx hb dX13_hour_86 rfl (lv_at hl 0 rfl) ?_
                    cases g18 : fX13_hasNet (xup (xup σ 24 1 1) 20 ((fX13_at x1 1).toNatClampNeg) r6) r6 with
                    | none => rw [g18] at h; cases h
                    | some r19 =>
                      rw [g18, Option.bind_some] at h
                      refine x_backi (va_runV (C := RX13) (b := (xa E 186)) (As := [.int r6]) (rest := [.int (fX13_at x1 4), .ref (xa E 187)]) F.1 (mX13_hasNet l E (xup (xup σ 24 1 1) 20 ((fX13_at x1 1).toNatClampNeg) r6) r6 r19 g18) (cwV 1 hts (lw_V q1407 q1409 qs68 q115 q1410) rfl rfl rfl (by decide +kernel) ⟨Nat.le_of_ble_eq_true rfl, Nat.le_of_ble_eq_true rfl⟩) ⟨xPc.blind, va_recv hK (xO_M hW) (ci := 13) (q0 := 0) rfl rfl, F.pre hW hS (.ref (xa E 186) :: [.int r6])⟩ rfl rfl hl.1 rfl (lv_room (Nat.le_of_ble_eq_true rfl)) dX13_hour_87 ⟨Nat.le_refl _, Nat.le_refl _⟩) hS (fun H locs hW hS => ?_)
                      refine lv_if_eq (tgt := 97) hx hb dX13_hour_90 (by decide) (fun c20 => ?_) (fun c20 => ?_)
                      · rw [if_pos c20] at h
                        refine lv_iconst (v := 0) hx hb dX13_hour_97 (by decide) ?_
                        by_cases hi21 : xin (fX13_at x1 4) 186
                        · rw [if_pos hi21] at h
                          refine x_iast F hW hS 187 186 20 (fun j => j) xp_187.1 xp_187.2.1 xp_187.2.2.1 xp_187.2.2.2 hi21 dX13_hour_98 (fun H locs hW hS => ?_)
                          refine lv_iinc (k := 1) (v := (x1 + 1)) (lv' := [(1, .int (x1 + 1)), (2, .int r6), (0, .ref (xa E 186))]) hx hb dX13_hour_99 hl rfl rfl (by decide) rfl (fun ls hl => ?_)
                          refine lv_goto (tgt := 7) hx hb dX13_hour_102 (by decide) ?_
                          exact ih (x1 + 1) (xup (xup (xup σ 24 1 1) 20 ((fX13_at x1 1).toNatClampNeg) r6) 20 ((fX13_at x1 4).toNatClampNeg) 0) _ h _ _ _ hW hS (lv_sub hl [0, 2] rfl) kk
                        · rw [if_neg hi21] at h; cases h
                      · rw [if_neg c20] at h
                        refine lv_iconst (v := 1) hx hb dX13_hour_93 (by decide) ?_
                        refine lv_goto (tgt := 98) hx hb dX13_hour_94 (by decide) ?_
                        by_cases hi22 : xin (fX13_at x1 4) 186
                        · rw [if_pos hi22] at h
                          refine x_iast F hW hS 187 186 20 (fun j => j) xp_187.1 xp_187.2.1 xp_187.2.2.1 xp_187.2.2.2 hi22 dX13_hour_98 (fun H locs hW hS => ?_)
                          refine lv_iinc (k := 1) (v := (x1 + 1)) (lv' := [(1, .int (x1 + 1)), (2, .int r6), (0, .ref (xa E 186))]) hx hb dX13_hour_99 hl rfl rfl (by decide) rfl (fun ls hl => ?_)
                          refine lv_goto (tgt := 7) hx hb dX13_hour_102 (by decide) ?_
                          exact ih (x1 + 1) (xup (xup (xup σ 24 1 1) 20 ((fX13_at x1 1).toNatClampNeg) r6) 20 ((fX13_at x1 4).toNatClampNeg) 1) _ h _ _ _ hW hS (lv_sub hl [0, 2] rfl) kk
                        · rw [if_neg hi22] at h; cases h
                  · rw [if_neg hi17] at h; cases h
                · rw [if_pos c16] at h
                  refine lv_aload_n hx hb dX13_hour_49 rfl (lv_at hl 2 rfl) ?_
                  refine lv_iload_n hx hb dX13_hour_50 rfl (lv_at hl 0 rfl) ?_
                  cases g23 : fX13_hasNet σ r6 with
                  | none => rw [g23] at h; cases h
                  | some r24 =>
                    rw [g23, Option.bind_some] at h
                    refine x_backi (va_runV (C := RX13) (b := (xa E 186)) (As := [.int r6]) (rest := [.ref (xa E 186)]) F.1 (mX13_hasNet l E σ r6 r24 g23) (cwV 1 hts (lw_V q1407 q1409 qs68 q115 q1410) rfl rfl rfl (by decide +kernel) ⟨Nat.le_of_ble_eq_true rfl, Nat.le_of_ble_eq_true rfl⟩) ⟨xPc.blind, va_recv hK (xO_M hW) (ci := 13) (q0 := 0) rfl rfl, F.pre hW hS (.ref (xa E 186) :: [.int r6])⟩ rfl rfl hl.1 rfl (lv_room (Nat.le_of_ble_eq_true rfl)) dX13_hour_51 ⟨Nat.le_refl _, Nat.le_refl _⟩) hS (fun H locs hW hS => ?_)
                    refine lv_if_eq (tgt := 61) hx hb dX13_hour_54 (by decide) (fun c25 => ?_) (fun c25 => ?_)
                    · rw [if_pos c25] at h
                      refine lv_iconst (v := 0) hx hb dX13_hour_61 (by decide) ?_
                      refine x_put (C := RX13) (T := TX13) (N := 24) (ci := 13) (ty := .boolean) F hW hS in_X13 tyX13 tyX13_ok nmX13 rfl 186 7 24 1 (by decide) rfl (by decide) rfl (by decide) (hts _ q1203) (fun _ h9 => h9) rfl (by decide +kernel) rfl rfl dX13_hour_62 (fun H locs hW hS => ?_)
                      refine lv_aload_n hx hb dX13_hour_65 rfl (lv_at hl 2 rfl) ?_
                      refine va_get (D := xD E) (ci := 13) (v := .ref (xa E 187)) (C := RX13) (T := TX13) (N := 24) hx hb hts in_X13 hown hK (xO_M hW) 0 rfl rfl 0 (by decide) (hts _ q1196) (fun _ h9 => h9) rfl dX13_hour_66 ?_
                      refine lv_iload_n hx hb dX13_hour_69 rfl (lv_at hl 1 rfl) ?_
                      refine lv_iconst (v := 1) hx hb dX13_hour_70 (by decide) ?_
                      refine x_backi (va_runS (As := [.int x1, .int 1]) (rest := [.ref (xa E 187)]) F.1 (mX13_at l E (xup σ 24 1 0) x1 1) (va_cwS 2 hts (lw_S q1315 q1316 q115 q1317) rfl rfl rfl (by decide +kernel) ⟨Nat.le_of_ble_eq_true rfl, Nat.le_of_ble_eq_true rfl⟩) ⟨xPc.blind, F.pre hW hS [.int x1, .int 1]⟩ rfl rfl hl.1 rfl (lv_room (Nat.le_of_ble_eq_true rfl)) dX13_hour_71 ⟨Nat.le_refl _, Nat.le_refl _⟩) hS (fun H locs hW hS => ?_)
                      refine lv_iload_n hx hb dX13_hour_74 rfl (lv_at hl 0 rfl) ?_
                      by_cases hi26 : xin (fX13_at x1 1) 186
                      · rw [if_pos hi26] at h
                        refine x_iast F hW hS 187 186 20 (fun j => j) xp_187.1 xp_187.2.1 xp_187.2.2.1 xp_187.2.2.2 hi26 dX13_hour_75 (fun H locs hW hS => ?_)
                        refine lv_aload_n hx hb dX13_hour_76 rfl (lv_at hl 2 rfl) ?_
                        refine va_get (D := xD E) (ci := 13) (v := .ref (xa E 187)) (C := RX13) (T := TX13) (N := 24) hx hb hts in_X13 hown hK (xO_M hW) 0 rfl rfl 0 (by decide) (hts _ q1196) (fun _ h9 => h9) rfl dX13_hour_77 ?_
                        refine lv_iload_n hx hb dX13_hour_80 rfl (lv_at hl 1 rfl) ?_
                        refine lv_iconst (v := 4) hx hb dX13_hour_81 (by decide) ?_
                        refine x_backi (va_runS (As := [.int x1, .int 4]) (rest := [.ref (xa E 187)]) F.1 (mX13_at l E (xup (xup σ 24 1 0) 20 ((fX13_at x1 1).toNatClampNeg) r6) x1 4) (va_cwS 2 hts (lw_S q1315 q1316 q115 q1317) rfl rfl rfl (by decide +kernel) ⟨Nat.le_of_ble_eq_true rfl, Nat.le_of_ble_eq_true rfl⟩) ⟨xPc.blind, F.pre hW hS [.int x1, .int 4]⟩ rfl rfl hl.1 rfl (lv_room (Nat.le_of_ble_eq_true rfl)) dX13_hour_82 ⟨Nat.le_refl _, Nat.le_refl _⟩) hS (fun H locs hW hS => ?_)
                        refine lv_aload_n hx hb dX13_hour_85 rfl (lv_at hl 2 rfl) ?_
                        refine lv_iload_n hx hb dX13_hour_86 rfl (lv_at hl 0 rfl) ?_
                        cases g27 : fX13_hasNet (xup (xup σ 24 1 0) 20 ((fX13_at x1 1).toNatClampNeg) r6) r6 with
                        | none => rw [g27] at h; cases h
                        | some r28 =>
                          rw [g27, Option.bind_some] at h
                          refine x_backi (va_runV (C := RX13) (b := (xa E 186)) (As := [.int r6]) (rest := [.int (fX13_at x1 4), .ref (xa E 187)]) F.1 (mX13_hasNet l E (xup (xup σ 24 1 0) 20 ((fX13_at x1 1).toNatClampNeg) r6) r6 r28 g27) (cwV 1 hts (lw_V q1407 q1409 qs68 q115 q1410) rfl rfl rfl (by decide +kernel) ⟨Nat.le_of_ble_eq_true rfl, Nat.le_of_ble_eq_true rfl⟩) ⟨xPc.blind, va_recv hK (xO_M hW) (ci := 13) (q0 := 0) rfl rfl, F.pre hW hS (.ref (xa E 186) :: [.int r6])⟩ rfl rfl hl.1 rfl (lv_room (Nat.le_of_ble_eq_true rfl)) dX13_hour_87 ⟨Nat.le_refl _, Nat.le_refl _⟩) hS (fun H locs hW hS => ?_)
                          refine lv_if_eq (tgt := 97) hx hb dX13_hour_90 (by decide) (fun c29 => ?_) (fun c29 => ?_)
                          · rw [if_pos c29] at h
                            refine lv_iconst (v := 0) hx hb dX13_hour_97 (by decide) ?_
                            by_cases hi30 : xin (fX13_at x1 4) 186
                            · rw [if_pos hi30] at h
                              refine x_iast F hW hS 187 186 20 (fun j => j) xp_187.1 xp_187.2.1 xp_187.2.2.1 xp_187.2.2.2 hi30 dX13_hour_98 (fun H locs hW hS => ?_)
                              refine lv_iinc (k := 1) (v := (x1 + 1)) (lv' := [(1, .int (x1 + 1)), (2, .int r6), (0, .ref (xa E 186))]) hx hb dX13_hour_99 hl rfl rfl (by decide) rfl (fun ls hl => ?_)
                              refine lv_goto (tgt := 7) hx hb dX13_hour_102 (by decide) ?_
                              exact ih (x1 + 1) (xup (xup (xup σ 24 1 0) 20 ((fX13_at x1 1).toNatClampNeg) r6) 20 ((fX13_at x1 4).toNatClampNeg) 0) _ h _ _ _ hW hS (lv_sub hl [0, 2] rfl) kk
                            · rw [if_neg hi30] at h; cases h
                          · rw [if_neg c29] at h
                            refine lv_iconst (v := 1) hx hb dX13_hour_93 (by decide) ?_
                            refine lv_goto (tgt := 98) hx hb dX13_hour_94 (by decide) ?_
                            by_cases hi31 : xin (fX13_at x1 4) 186
                            · rw [if_pos hi31] at h
                              refine x_iast F hW hS 187 186 20 (fun j => j) xp_187.1 xp_187.2.1 xp_187.2.2.1 xp_187.2.2.2 hi31 dX13_hour_98 (fun H locs hW hS => ?_)
                              refine lv_iinc (k := 1) (v := (x1 + 1)) (lv' := [(1, .int (x1 + 1)), (2, .int r6), (0, .ref (xa E 186))]) hx hb dX13_hour_99 hl rfl rfl (by decide) rfl (fun ls hl => ?_)
                              refine lv_goto (tgt := 7) hx hb dX13_hour_102 (by decide) ?_
                              exact ih (x1 + 1) (xup (xup (xup σ 24 1 0) 20 ((fX13_at x1 1).toNatClampNeg) r6) 20 ((fX13_at x1 4).toNatClampNeg) 1) _ h _ _ _ hW hS (lv_sub hl [0, 2] rfl) kk
                            · rw [if_neg hi31] at h; cases h
                      · rw [if_neg hi26] at h; cases h
                    · rw [if_neg c25] at h
                      refine lv_iconst (v := 1) hx hb dX13_hour_57 (by decide) ?_
                      refine lv_goto (tgt := 62) hx hb dX13_hour_58 (by decide) ?_
                      refine x_put (C := RX13) (T := TX13) (N := 24) (ci := 13) (ty := .boolean) F hW hS in_X13 tyX13 tyX13_ok nmX13 rfl 186 7 24 1 (by decide) rfl (by decide) rfl (by decide) (hts _ q1203) (fun _ h9 => h9) rfl (by decide +kernel) rfl rfl dX13_hour_62 (fun H locs hW hS => ?_)
                      refine lv_aload_n hx hb dX13_hour_65 rfl (lv_at hl 2 rfl) ?_
                      refine va_get (D := xD E) (ci := 13) (v := .ref (xa E 187)) (C := RX13) (T := TX13) (N := 24) hx hb hts in_X13 hown hK (xO_M hW) 0 rfl rfl 0 (by decide) (hts _ q1196) (fun _ h9 => h9) rfl dX13_hour_66 ?_
                      refine lv_iload_n hx hb dX13_hour_69 rfl (lv_at hl 1 rfl) ?_
                      refine lv_iconst (v := 1) hx hb dX13_hour_70 (by decide) ?_
                      refine x_backi (va_runS (As := [.int x1, .int 1]) (rest := [.ref (xa E 187)]) F.1 (mX13_at l E (xup σ 24 1 1) x1 1) (va_cwS 2 hts (lw_S q1315 q1316 q115 q1317) rfl rfl rfl (by decide +kernel) ⟨Nat.le_of_ble_eq_true rfl, Nat.le_of_ble_eq_true rfl⟩) ⟨xPc.blind, F.pre hW hS [.int x1, .int 1]⟩ rfl rfl hl.1 rfl (lv_room (Nat.le_of_ble_eq_true rfl)) dX13_hour_71 ⟨Nat.le_refl _, Nat.le_refl _⟩) hS (fun H locs hW hS => ?_)
                      refine lv_iload_n hx hb dX13_hour_74 rfl (lv_at hl 0 rfl) ?_
                      by_cases hi32 : xin (fX13_at x1 1) 186
                      · rw [if_pos hi32] at h
                        refine x_iast F hW hS 187 186 20 (fun j => j) xp_187.1 xp_187.2.1 xp_187.2.2.1 xp_187.2.2.2 hi32 dX13_hour_75 (fun H locs hW hS => ?_)
                        refine lv_aload_n hx hb dX13_hour_76 rfl (lv_at hl 2 rfl) ?_
                        refine va_get (D := xD E) (ci := 13) (v := .ref (xa E 187)) (C := RX13) (T := TX13) (N := 24) hx hb hts in_X13 hown hK (xO_M hW) 0 rfl rfl 0 (by decide) (hts _ q1196) (fun _ h9 => h9) rfl dX13_hour_77 ?_
                        refine lv_iload_n hx hb dX13_hour_80 rfl (lv_at hl 1 rfl) ?_
                        refine lv_iconst (v := 4) hx hb dX13_hour_81 (by decide) ?_
                        refine x_backi (va_runS (As := [.int x1, .int 4]) (rest := [.ref (xa E 187)]) F.1 (mX13_at l E (xup (xup σ 24 1 1) 20 ((fX13_at x1 1).toNatClampNeg) r6) x1 4) (va_cwS 2 hts (lw_S q1315 q1316 q115 q1317) rfl rfl rfl (by decide +kernel) ⟨Nat.le_of_ble_eq_true rfl, Nat.le_of_ble_eq_true rfl⟩) ⟨xPc.blind, F.pre hW hS [.int x1, .int 4]⟩ rfl rfl hl.1 rfl (lv_room (Nat.le_of_ble_eq_true rfl)) dX13_hour_82 ⟨Nat.le_refl _, Nat.le_refl _⟩) hS (fun H locs hW hS => ?_)
                        refine lv_aload_n hx hb dX13_hour_85 rfl (lv_at hl 2 rfl) ?_
                        refine lv_iload_n hx hb dX13_hour_86 rfl (lv_at hl 0 rfl) ?_
                        cases g33 : fX13_hasNet (xup (xup σ 24 1 1) 20 ((fX13_at x1 1).toNatClampNeg) r6) r6 with
                        | none => rw [g33] at h; cases h
                        | some r34 =>
                          rw [g33, Option.bind_some] at h
                          refine x_backi (va_runV (C := RX13) (b := (xa E 186)) (As := [.int r6]) (rest := [.int (fX13_at x1 4), .ref (xa E 187)]) F.1 (mX13_hasNet l E (xup (xup σ 24 1 1) 20 ((fX13_at x1 1).toNatClampNeg) r6) r6 r34 g33) (cwV 1 hts (lw_V q1407 q1409 qs68 q115 q1410) rfl rfl rfl (by decide +kernel) ⟨Nat.le_of_ble_eq_true rfl, Nat.le_of_ble_eq_true rfl⟩) ⟨xPc.blind, va_recv hK (xO_M hW) (ci := 13) (q0 := 0) rfl rfl, F.pre hW hS (.ref (xa E 186) :: [.int r6])⟩ rfl rfl hl.1 rfl (lv_room (Nat.le_of_ble_eq_true rfl)) dX13_hour_87 ⟨Nat.le_refl _, Nat.le_refl _⟩) hS (fun H locs hW hS => ?_)
                          refine lv_if_eq (tgt := 97) hx hb dX13_hour_90 (by decide) (fun c35 => ?_) (fun c35 => ?_)
                          · rw [if_pos c35] at h
                            refine lv_iconst (v := 0) hx hb dX13_hour_97 (by decide) ?_
                            by_cases hi36 : xin (fX13_at x1 4) 186
                            · rw [if_pos hi36] at h
                              refine x_iast F hW hS 187 186 20 (fun j => j) xp_187.1 xp_187.2.1 xp_187.2.2.1 xp_187.2.2.2 hi36 dX13_hour_98 (fun H locs hW hS => ?_)
                              refine lv_iinc (k := 1) (v := (x1 + 1)) (lv' := [(1, .int (x1 + 1)), (2, .int r6), (0, .ref (xa E 186))]) hx hb dX13_hour_99 hl rfl rfl (by decide) rfl (fun ls hl => ?_)
                              refine lv_goto (tgt := 7) hx hb dX13_hour_102 (by decide) ?_
                              exact ih (x1 + 1) (xup (xup (xup σ 24 1 1) 20 ((fX13_at x1 1).toNatClampNeg) r6) 20 ((fX13_at x1 4).toNatClampNeg) 0) _ h _ _ _ hW hS (lv_sub hl [0, 2] rfl) kk
                            · rw [if_neg hi36] at h; cases h
                          · rw [if_neg c35] at h
                            refine lv_iconst (v := 1) hx hb dX13_hour_93 (by decide) ?_
                            refine lv_goto (tgt := 98) hx hb dX13_hour_94 (by decide) ?_
                            by_cases hi37 : xin (fX13_at x1 4) 186
                            · rw [if_pos hi37] at h
                              refine x_iast F hW hS 187 186 20 (fun j => j) xp_187.1 xp_187.2.1 xp_187.2.2.1 xp_187.2.2.2 hi37 dX13_hour_98 (fun H locs hW hS => ?_)
                              refine lv_iinc (k := 1) (v := (x1 + 1)) (lv' := [(1, .int (x1 + 1)), (2, .int r6), (0, .ref (xa E 186))]) hx hb dX13_hour_99 hl rfl rfl (by decide) rfl (fun ls hl => ?_)
                              refine lv_goto (tgt := 7) hx hb dX13_hour_102 (by decide) ?_
                              exact ih (x1 + 1) (xup (xup (xup σ 24 1 1) 20 ((fX13_at x1 1).toNatClampNeg) r6) 20 ((fX13_at x1 4).toNatClampNeg) 1) _ h _ _ _ hW hS (lv_sub hl [0, 2] rfl) kk
                            · rw [if_neg hi37] at h; cases h
                      · rw [if_neg hi32] at h; cases h
set_option maxHeartbeats 4000000 in
theorem mX13_hour (l : Launch) (E : xE) (σ : xM) (σ' : xM) (h : fX13_hour σ = some σ') : Met l yX13_hour (ws_ yX13_hour cX13_hour 3 none) ({ frames := 6, cells := 0, slots := 0, locals := 145 } : Room) (xPc E σ [.ref (xa E 186)]) (xQc E (.returned none) σ') 0 0 (xA E) := by
  refine x_of (C := RX13) (n := "hour") (d := "()V") (r := none) (by decide) rfl (by first | decide | exact Nat.le_of_ble_eq_true rfl) ?_
  intro p e s m below meth c ls F hr hlk hW hS hl
  have hl : lv_has ls 3 [(0, .ref (xa E 186))] := hl
  obtain ⟨hx, hb, hml, hown, hts⟩ := id F.1
  have hK := F.2.1.1
  unfold fX13_hour at h
  refine lv_aload_n hx hb dX13_hour_0 rfl (lv_at hl 0 rfl) ?_
  refine lv_iconst (v := 0) hx hb dX13_hour_1 (by decide) ?_
  refine x_put (C := RX13) (T := TX13) (N := 24) (ci := 13) (ty := .boolean) F hW hS in_X13 tyX13 tyX13_ok nmX13 rfl 186 7 24 1 (by decide) rfl (by decide) rfl (by decide) (hts _ q1203) (fun _ h9 => h9) rfl (by decide +kernel) rfl rfl dX13_hour_2 (fun H locs hW hS => ?_)
  refine lv_iconst (v := 0) hx hb dX13_hour_5 (by decide) ?_
  refine lv_istore_n (lv' := [(1, .int 0), (0, .ref (xa E 186))]) hx hb dX13_hour_6 rfl hl (by decide) rfl (fun ls hl => ?_)
  cases g38 : gX13_hour_7 xfu 0 (xup σ 24 1 0) with
  | none => rw [g38] at h; cases h
  | some q39 =>
    rw [g38, Option.bind_some] at h
    refine lX13_hour_7 F xfu 0 (xup σ 24 1 0) q39 g38 _ _ _ hW hS (lv_sub hl [0, 1] rfl) (fun H locs ls hW hS hl => ?_)
    refine lv_aload_n hx hb dX13_hour_105 rfl (lv_at hl 1 rfl) ?_
    refine va_get (D := xD E) (ci := 13) (v := .ref (xa E 187)) (C := RX13) (T := TX13) (N := 24) hx hb hts in_X13 hown hK (xO_M hW) 0 rfl rfl 0 (by decide) (hts _ q1196) (fun _ h9 => h9) rfl dX13_hour_106 ?_
    refine lv_iconst (v := 0) hx hb dX13_hour_109 (by decide) ?_
    refine lv_dup2_11 hx hb dX13_hour_110 rfl rfl ?_
    refine va_iald hx hb hK (xV_p hW xp_187) 0 0 rfl rfl (x_lit (by decide)) dX13_hour_111 ?_
    refine lv_iconst (v := 1) hx hb dX13_hour_112 (by decide) ?_
    refine lv_iadd hx hb dX13_hour_113 ?_
    refine x_iast F hW hS 187 186 20 (fun j => j) xp_187.1 xp_187.2.1 xp_187.2.2.1 xp_187.2.2.2 (x_lit (by decide)) dX13_hour_114 (fun H locs hW hS => ?_)
    have h := Option.some.inj h; subst h
    exact x_vret F hr hlk hW hS dX13_hour_115
/-! WildBellsModel.hours(I)V -/
def gX13_hours_2 (b1 : Int32) : Nat → Int32 → xM → Option (Int32 × xM)
  | 0, _, _ => none
  | n + 1, x2, σ => if b1 ≤ x2 then (some (x2, σ)) else ((fX13_hour σ).bind (fun r3 => gX13_hours_2 b1 n (x2 + 1) r3))
def fX13_hours (σ : xM) (a1 : Int32) : Option xM :=
  (gX13_hours_2 a1 xfu 0 σ).bind (fun q5 => some q5.2)
set_option maxHeartbeats 4000000 in
theorem lX13_hours_2 {p : Program} {l : Launch} {e : Env} {s : State} {m : MethodId} {av : Array Value} {below : List Frame} {meth : Method} {c : Code} {Q : State → Prop} {E : xE} {b1 : Int32} (F : xFx p m c cX13_hours 3 s av RX13 E) : ∀ (n : Nat) (x2 : Int32) (σ : xM) (q : (Int32 × xM)), gX13_hours_2 b1 n x2 σ = some q → ∀ (H : Heap) (locs : List Loc) (ls : Array Slot), xW E σ H → va_S (xA E) s.heap H locs → lv_has ls 3 [(2, .int x2), (0, .ref (xa E 186)), (1, .int b1)] → (∀ (H : Heap) (locs : List Loc) (ls : Array Slot), xW E q.2 H → va_S (xA E) s.heap H locs → lv_has ls 3 [(2, .int q.1), (0, .ref (xa E 186)), (1, .int b1)] → W p l e ({ frames := 7, cells := 0, slots := 0, locals := 167 } : Room) s m av below meth c H locs 0 0 Q (F0 m 17 ls [])) → W p l e ({ frames := 7, cells := 0, slots := 0, locals := 167 } : Room) s m av below meth c H locs 0 0 Q (F0 m 2 ls []) := by
  obtain ⟨hx, hb, hml, hown, hts⟩ := id F.1
  have hK := F.2.1.1
  intro n
  induction n with
  | zero =>
    intro x2 σ q h
    cases h
  | succ n ih =>
    intro x2 σ q h H locs ls hW hS hl kk
    rw [gX13_hours_2] at h
    refine lv_iload_n hx hb dX13_hours_2 rfl (lv_at hl 0 rfl) ?_
    refine lv_iload_n hx hb dX13_hours_3 rfl (lv_at hl 2 rfl) ?_
    refine lv_icmp_ge (tgt := 17) hx hb dX13_hours_4 (by decide) (fun c1 => ?_) (fun c1 => ?_)
    · rw [if_pos c1] at h
      have h := Option.some.inj h; subst h
      exact kk _ _ _ hW hS (lv_sub hl [0, 1, 2] rfl)
    · rw [if_neg c1] at h
      refine lv_aload_n hx hb dX13_hours_7 rfl (lv_at hl 1 rfl) ?_
      cases g2 : fX13_hour σ with
      | none => rw [g2] at h; cases h
      | some r3 =>
        rw [g2, Option.bind_some] at h
        refine x_backv (va_runV (C := RX13) (b := (xa E 186)) (As := []) (rest := []) F.1 (mX13_hour l E σ r3 g2) (cwV 0 hts (lw_V q1403 q1405 qs67 q115 q1406) rfl rfl rfl (by decide +kernel) ⟨Nat.le_of_ble_eq_true rfl, Nat.le_of_ble_eq_true rfl⟩) ⟨xPc.blind, va_recv hK (xO_M hW) (ci := 13) (q0 := 0) rfl rfl, F.pre hW hS (.ref (xa E 186) :: [])⟩ rfl rfl hl.1 rfl (lv_room (Nat.le_of_ble_eq_true rfl)) dX13_hours_8 ⟨Nat.le_refl _, Nat.le_refl _⟩) hS (fun H locs hW hS => ?_)
        refine lv_iinc (k := 0) (v := (x2 + 1)) (lv' := [(2, .int (x2 + 1)), (0, .ref (xa E 186)), (1, .int b1)]) hx hb dX13_hours_11 hl rfl rfl (by decide) rfl (fun ls hl => ?_)
        refine lv_goto (tgt := 2) hx hb dX13_hours_14 (by decide) ?_
        exact ih (x2 + 1) r3 _ h _ _ _ hW hS (lv_sub hl [0, 1, 2] rfl) kk
set_option maxHeartbeats 4000000 in
theorem mX13_hours (l : Launch) (E : xE) (σ : xM) (a1 : Int32) (σ' : xM) (h : fX13_hours σ a1 = some σ') : Met l yX13_hours (ws_ yX13_hours cX13_hours 3 none) ({ frames := 7, cells := 0, slots := 0, locals := 167 } : Room) (xPc E σ [.ref (xa E 186), .int a1]) (xQc E (.returned none) σ') 0 0 (xA E) := by
  refine x_of (C := RX13) (n := "hours") (d := "(I)V") (r := none) (by decide) rfl (by first | decide | exact Nat.le_of_ble_eq_true rfl) ?_
  intro p e s m below meth c ls F hr hlk hW hS hl
  have hl : lv_has ls 3 [(0, .ref (xa E 186)), (1, .int a1)] := hl
  obtain ⟨hx, hb, hml, hown, hts⟩ := id F.1
  have hK := F.2.1.1
  unfold fX13_hours at h
  refine lv_iconst (v := 0) hx hb dX13_hours_0 (by decide) ?_
  refine lv_istore_n (lv' := [(2, .int 0), (0, .ref (xa E 186)), (1, .int a1)]) hx hb dX13_hours_1 rfl hl (by decide) rfl (fun ls hl => ?_)
  cases g4 : gX13_hours_2 a1 xfu 0 σ with
  | none => rw [g4] at h; cases h
  | some q5 =>
    rw [g4, Option.bind_some] at h
    refine lX13_hours_2 F xfu 0 σ q5 g4 _ _ _ hW hS (lv_sub hl [0, 1, 2] rfl) (fun H locs ls hW hS hl => ?_)
    have h := Option.some.inj h; subst h
    exact x_vret F hr hlk hW hS dX13_hours_17
