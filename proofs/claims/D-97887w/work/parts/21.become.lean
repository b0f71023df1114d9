set_option maxRecDepth 100000
theorem xw_ne {w w1 : Nat} (h : w < 4) (h1 : w1 < 4) (hne : w ≠ w1) (r : Nat) : xwc w r ≠ xwc w1 r := by
  have k : ∀ a, a < 4 → ∀ b, b < 4 → a ≠ b → xwb a ≠ xwb b := by decide
  intro q
  unfold xwc at q
  exact k w h w1 h1 hne (by omega)
/-! WildBells$World.copyAll([[I[[I)V -/
def gX4_copyAll_c_2 (w0 : Nat) (w1 : Nat) : Nat → Int32 → xM → Option (Int32 × xM)
  | 0, _, _ => none
  | n + 1, x2, σ => if 2 ≤ x2 then (some (x2, σ)) else (if xin x2 2 then (if xin x2 2 then (gX4_copyAll_c_2 w0 w1 n (x2 + 1) (xcp σ (xwc w1 (2 + x2.toNatClampNeg)) 64 w0 (fun j => 18 + 64 * x2.toNatClampNeg + j))) else none) else none)
def fX4_copyAll_c (σ : xM) (w0 : Nat) (w1 : Nat) : Option xM :=
  (gX4_copyAll_c_2 w0 w1 xfu 0 σ).bind (fun q5 => some q5.2)
set_option maxHeartbeats 4000000 in
theorem lX4_copyAll_c_2 {p : Program} {l : Launch} {e : Env} {s : State} {m : MethodId} {av : Array Value} {below : List Frame} {meth : Method} {c : Code} {Q : State → Prop} {E : xE} {w0 : Nat} (hw0 : w0 < 4) {w1 : Nat} (hw1 : w1 < 4) (hne : w0 ≠ w1) (F : xFx p m c cX4_copyAll 3 s av RX4 E) : ∀ (n : Nat) (x2 : Int32) (σ : xM) (q : (Int32 × xM)), gX4_copyAll_c_2 w0 w1 n x2 σ = some q → ∀ (H : Heap) (locs : List Loc) (ls : Array Slot), xW E σ H → va_S (xA E) s.heap H locs → lv_has ls 3 [(2, .int x2), (0, .ref (xa E (xwc w0 1))), (1, .ref (xa E (xwc w1 1)))] → (∀ (H : Heap) (locs : List Loc) (ls : Array Slot), xW E q.2 H → va_S (xA E) s.heap H locs → lv_has ls 3 [(2, .int q.1), (0, .ref (xa E (xwc w0 1))), (1, .ref (xa E (xwc w1 1)))] → W p l e ({ frames := 2, cells := 0, slots := 0, locals := 61 } : Room) s m av below meth c H locs 0 0 Q (F0 m 23 ls [])) → W p l e ({ frames := 2, cells := 0, slots := 0, locals := 61 } : Room) s m av below meth c H locs 0 0 Q (F0 m 2 ls []) := by
  obtain ⟨hx, hb, hml, hown, hts⟩ := id F.1
  have hK := F.2.1.1
  intro n
  induction n with
  | zero =>
    intro x2 σ q h
    cases h
  | succ n ih =>
    intro x2 σ q h H locs ls hW hS hl kk
    rw [gX4_copyAll_c_2] at h
    refine lv_iload_n hx hb dX4_copyAll_2 rfl (lv_at hl 0 rfl) ?_
    refine lv_aload_n hx hb dX4_copyAll_3 rfl (lv_at hl 2 rfl) ?_
    refine va_alen (v := 2) hx hb hK (xR_1 hW w1 hw1) 0 4 rfl rfl rfl dX4_copyAll_4 ?_
    refine lv_icmp_ge (tgt := 23) hx hb dX4_copyAll_5 (by decide) (fun c1 => ?_) (fun c1 => ?_)
    · rw [if_pos c1] at h
      cases h
      exact kk _ _ _ hW hS (lv_sub hl [0, 1, 2] rfl)
    · rw [if_neg c1] at h
      refine lv_aload_n hx hb dX4_copyAll_8 rfl (lv_at hl 1 rfl) ?_
      refine lv_iload_n hx hb dX4_copyAll_9 rfl (lv_at hl 0 rfl) ?_
      by_cases hi2 : xin x2 2
      · rw [if_pos hi2] at h
        refine x_aald (g := fun j => xa E (xwc w0 (2 + j))) (j := (x2.toNatClampNeg)) F 4 4 2 (xR_1 hW w0 hw0) rfl rfl hi2 rfl dX4_copyAll_10 ?_
        refine lv_aload_n hx hb dX4_copyAll_11 rfl (lv_at hl 2 rfl) ?_
        refine lv_iload_n hx hb dX4_copyAll_12 rfl (lv_at hl 0 rfl) ?_
        by_cases hi3 : xin x2 2
        · rw [if_pos hi3] at h
          refine x_aald (g := fun j => xa E (xwc w1 (2 + j))) (j := (x2.toNatClampNeg)) F 4 4 2 (xR_1 hW w1 hw1) rfl rfl hi3 rfl dX4_copyAll_13 ?_
          refine x_backv (va_runS (As := [.ref (xa E (xwc w0 (2 + x2.toNatClampNeg))), .ref (xa E (xwc w1 (2 + x2.toNatClampNeg)))]) (rest := []) F.1 (mX4_copy l E σ (xwc w0 (2 + x2.toNatClampNeg)) 64 w0 (fun j => 18 + 64 * x2.toNatClampNeg + j) (xwc w1 (2 + x2.toNatClampNeg)) w1 (fun j => 18 + 64 * x2.toNatClampNeg + j) ⟨(xw_lt w0 hw0 _ (Nat.add_lt_add_left (Nat.lt_of_lt_of_le (x_lt hi2) (by decide)) 2 : 2 + x2.toNatClampNeg < 2 + 10)), (xw_2 w0 hw0 x2.toNatClampNeg (x_lt hi2)).1, (xw_2 w0 hw0 x2.toNatClampNeg (x_lt hi2)).2, (Or.inl (by omega))⟩ ⟨(xw_lt w1 hw1 _ (Nat.add_lt_add_left (Nat.lt_of_lt_of_le (x_lt hi3) (by decide)) 2 : 2 + x2.toNatClampNeg < 2 + 10)), (xw_2 w1 hw1 x2.toNatClampNeg (x_lt hi3)).1, (xw_2 w1 hw1 x2.toNatClampNeg (x_lt hi3)).2, (Or.inl (by omega))⟩ (xw_ne hw0 hw1 hne _) (by decide)) (va_cwS 2 hts (lw_S q758 q759 q106 q760) rfl rfl rfl (by decide +kernel) ⟨Nat.le_of_ble_eq_true rfl, Nat.le_of_ble_eq_true rfl⟩) ⟨xPc.blind, F.pre hW hS [.ref (xa E (xwc w0 (2 + x2.toNatClampNeg))), .ref (xa E (xwc w1 (2 + x2.toNatClampNeg)))]⟩ rfl rfl hl.1 rfl (lv_room (Nat.le_of_ble_eq_true rfl)) dX4_copyAll_14 ⟨Nat.le_refl _, Nat.le_refl _⟩) hS (fun H locs hW hS => ?_)
          refine lv_iinc (k := 0) (v := (x2 + 1)) (lv' := [(2, .int (x2 + 1)), (0, .ref (xa E (xwc w0 1))), (1, .ref (xa E (xwc w1 1)))]) hx hb dX4_copyAll_17 hl rfl rfl (by decide) rfl (fun ls hl => ?_)
          refine lv_goto (tgt := 2) hx hb dX4_copyAll_20 (by decide) ?_
          exact ih (x2 + 1) (xcp σ (xwc w1 (2 + x2.toNatClampNeg)) 64 w0 (fun j => 18 + 64 * x2.toNatClampNeg + j)) _ h _ _ _ hW hS (lv_sub hl [0, 1, 2] rfl) kk
        · rw [if_neg hi3] at h; cases h
      · rw [if_neg hi2] at h; cases h
set_option maxHeartbeats 4000000 in
theorem mX4_copyAll_c (l : Launch) (E : xE) (σ : xM) (w0 : Nat) (hw0 : w0 < 4) (w1 : Nat) (hw1 : w1 < 4) (hne : w0 ≠ w1) (σ' : xM) (h : fX4_copyAll_c σ w0 w1 = some σ') : Met l yX4_copyAll (ws_ yX4_copyAll cX4_copyAll 3 none) ({ frames := 2, cells := 0, slots := 0, locals := 61 } : Room) (xPc E σ [.ref (xa E (xwc w0 1)), .ref (xa E (xwc w1 1))]) (xQc E (.returned none) σ') 0 0 (xA E) := by
  refine x_of (C := RX4) (n := "copyAll") (d := "([[I[[I)V") (r := none) (by decide) rfl (by first | decide | exact Nat.le_of_ble_eq_true rfl) ?_
  intro p e s m below meth c ls F hr hlk hW hS hl
  have hl : lv_has ls 3 [(0, .ref (xa E (xwc w0 1))), (1, .ref (xa E (xwc w1 1)))] := hl
  obtain ⟨hx, hb, hml, hown, hts⟩ := id F.1
  have hK := F.2.1.1
  unfold fX4_copyAll_c at h
  refine lv_iconst (v := 0) hx hb dX4_copyAll_0 (by decide) ?_
  refine lv_istore_n (lv' := [(2, .int 0), (0, .ref (xa E (xwc w0 1))), (1, .ref (xa E (xwc w1 1)))]) hx hb dX4_copyAll_1 rfl hl (by decide) rfl (fun ls hl => ?_)
  cases g4 : gX4_copyAll_c_2 w0 w1 xfu 0 σ with
  | none => rw [g4] at h; cases h
  | some q5 =>
    rw [g4, Option.bind_some] at h
    refine lX4_copyAll_c_2 hw0 hw1 hne F xfu 0 σ q5 g4 _ _ _ hW hS (lv_sub hl [0, 1, 2] rfl) (fun H locs ls hW hS hl => ?_)
    cases h
    exact x_vret F hr hlk hW hS dX4_copyAll_23
/-! WildBells$World.copyAll([[I[[I)V -/
def gX4_copyAll_b_2 (w0 : Nat) (w1 : Nat) : Nat → Int32 → xM → Option (Int32 × xM)
  | 0, _, _ => none
  | n + 1, x2, σ => if 5 ≤ x2 then (some (x2, σ)) else (if xin x2 5 then (if xin x2 5 then (gX4_copyAll_b_2 w0 w1 n (x2 + 1) (xcp σ (xwc w1 (6 + x2.toNatClampNeg)) 8 w0 (fun j => 146 + 5 * j + x2.toNatClampNeg))) else none) else none)
def fX4_copyAll_b (σ : xM) (w0 : Nat) (w1 : Nat) : Option xM :=
  (gX4_copyAll_b_2 w0 w1 xfu 0 σ).bind (fun q5 => some q5.2)
set_option maxHeartbeats 4000000 in
theorem lX4_copyAll_b_2 {p : Program} {l : Launch} {e : Env} {s : State} {m : MethodId} {av : Array Value} {below : List Frame} {meth : Method} {c : Code} {Q : State → Prop} {E : xE} {w0 : Nat} (hw0 : w0 < 4) {w1 : Nat} (hw1 : w1 < 4) (hne : w0 ≠ w1) (F : xFx p m c cX4_copyAll 3 s av RX4 E) : ∀ (n : Nat) (x2 : Int32) (σ : xM) (q : (Int32 × xM)), gX4_copyAll_b_2 w0 w1 n x2 σ = some q → ∀ (H : Heap) (locs : List Loc) (ls : Array Slot), xW E σ H → va_S (xA E) s.heap H locs → lv_has ls 3 [(2, .int x2), (0, .ref (xa E (xwc w0 5))), (1, .ref (xa E (xwc w1 5)))] → (∀ (H : Heap) (locs : List Loc) (ls : Array Slot), xW E q.2 H → va_S (xA E) s.heap H locs → lv_has ls 3 [(2, .int q.1), (0, .ref (xa E (xwc w0 5))), (1, .ref (xa E (xwc w1 5)))] → W p l e ({ frames := 2, cells := 0, slots := 0, locals := 61 } : Room) s m av below meth c H locs 0 0 Q (F0 m 23 ls [])) → W p l e ({ frames := 2, cells := 0, slots := 0, locals := 61 } : Room) s m av below meth c H locs 0 0 Q (F0 m 2 ls []) := by
  obtain ⟨hx, hb, hml, hown, hts⟩ := id F.1
  have hK := F.2.1.1
  intro n
  induction n with
  | zero =>
    intro x2 σ q h
    cases h
  | succ n ih =>
    intro x2 σ q h H locs ls hW hS hl kk
    rw [gX4_copyAll_b_2] at h
    refine lv_iload_n hx hb dX4_copyAll_2 rfl (lv_at hl 0 rfl) ?_
    refine lv_aload_n hx hb dX4_copyAll_3 rfl (lv_at hl 2 rfl) ?_
    refine va_alen (v := 5) hx hb hK (xR_5 hW w1 hw1) 0 4 rfl rfl rfl dX4_copyAll_4 ?_
    refine lv_icmp_ge (tgt := 23) hx hb dX4_copyAll_5 (by decide) (fun c1 => ?_) (fun c1 => ?_)
    · rw [if_pos c1] at h
      cases h
      exact kk _ _ _ hW hS (lv_sub hl [0, 1, 2] rfl)
    · rw [if_neg c1] at h
      refine lv_aload_n hx hb dX4_copyAll_8 rfl (lv_at hl 1 rfl) ?_
      refine lv_iload_n hx hb dX4_copyAll_9 rfl (lv_at hl 0 rfl) ?_
      by_cases hi2 : xin x2 5
      · rw [if_pos hi2] at h
        refine x_aald (g := fun j => xa E (xwc w0 (6 + j))) (j := (x2.toNatClampNeg)) F 4 4 5 (xR_5 hW w0 hw0) rfl rfl hi2 rfl dX4_copyAll_10 ?_
        refine lv_aload_n hx hb dX4_copyAll_11 rfl (lv_at hl 2 rfl) ?_
        refine lv_iload_n hx hb dX4_copyAll_12 rfl (lv_at hl 0 rfl) ?_
        by_cases hi3 : xin x2 5
        · rw [if_pos hi3] at h
          refine x_aald (g := fun j => xa E (xwc w1 (6 + j))) (j := (x2.toNatClampNeg)) F 4 4 5 (xR_5 hW w1 hw1) rfl rfl hi3 rfl dX4_copyAll_13 ?_
          refine x_backv (va_runS (As := [.ref (xa E (xwc w0 (6 + x2.toNatClampNeg))), .ref (xa E (xwc w1 (6 + x2.toNatClampNeg)))]) (rest := []) F.1 (mX4_copy l E σ (xwc w0 (6 + x2.toNatClampNeg)) 8 w0 (fun j => 146 + 5 * j + x2.toNatClampNeg) (xwc w1 (6 + x2.toNatClampNeg)) w1 (fun j => 146 + 5 * j + x2.toNatClampNeg) ⟨(xw_lt w0 hw0 _ (Nat.lt_of_lt_of_le (Nat.add_lt_add_left (x_lt hi2) 6 : 6 + x2.toNatClampNeg < 6 + 5) (by decide))), (xw_6 w0 hw0 x2.toNatClampNeg (x_lt hi2)).1, (xw_6 w0 hw0 x2.toNatClampNeg (x_lt hi2)).2, (Or.inl (by omega))⟩ ⟨(xw_lt w1 hw1 _ (Nat.lt_of_lt_of_le (Nat.add_lt_add_left (x_lt hi3) 6 : 6 + x2.toNatClampNeg < 6 + 5) (by decide))), (xw_6 w1 hw1 x2.toNatClampNeg (x_lt hi3)).1, (xw_6 w1 hw1 x2.toNatClampNeg (x_lt hi3)).2, (Or.inl (by omega))⟩ (xw_ne hw0 hw1 hne _) (by decide)) (va_cwS 2 hts (lw_S q758 q759 q106 q760) rfl rfl rfl (by decide +kernel) ⟨Nat.le_of_ble_eq_true rfl, Nat.le_of_ble_eq_true rfl⟩) ⟨xPc.blind, F.pre hW hS [.ref (xa E (xwc w0 (6 + x2.toNatClampNeg))), .ref (xa E (xwc w1 (6 + x2.toNatClampNeg)))]⟩ rfl rfl hl.1 rfl (lv_room (Nat.le_of_ble_eq_true rfl)) dX4_copyAll_14 ⟨Nat.le_refl _, Nat.le_refl _⟩) hS (fun H locs hW hS => ?_)
          refine lv_iinc (k := 0) (v := (x2 + 1)) (lv' := [(2, .int (x2 + 1)), (0, .ref (xa E (xwc w0 5))), (1, .ref (xa E (xwc w1 5)))]) hx hb dX4_copyAll_17 hl rfl rfl (by decide) rfl (fun ls hl => ?_)
          refine lv_goto (tgt := 2) hx hb dX4_copyAll_20 (by decide) ?_
          exact ih (x2 + 1) (xcp σ (xwc w1 (6 + x2.toNatClampNeg)) 8 w0 (fun j => 146 + 5 * j + x2.toNatClampNeg)) _ h _ _ _ hW hS (lv_sub hl [0, 1, 2] rfl) kk
        · rw [if_neg hi3] at h; cases h
      · rw [if_neg hi2] at h; cases h
set_option maxHeartbeats 4000000 in
theorem mX4_copyAll_b (l : Launch) (E : xE) (σ : xM) (w0 : Nat) (hw0 : w0 < 4) (w1 : Nat) (hw1 : w1 < 4) (hne : w0 ≠ w1) (σ' : xM) (h : fX4_copyAll_b σ w0 w1 = some σ') : Met l yX4_copyAll (ws_ yX4_copyAll cX4_copyAll 3 none) ({ frames := 2, cells := 0, slots := 0, locals := 61 } : Room) (xPc E σ [.ref (xa E (xwc w0 5)), .ref (xa E (xwc w1 5))]) (xQc E (.returned none) σ') 0 0 (xA E) := by
  refine x_of (C := RX4) (n := "copyAll") (d := "([[I[[I)V") (r := none) (by decide) rfl (by first | decide | exact Nat.le_of_ble_eq_true rfl) ?_
  intro p e s m below meth c ls F hr hlk hW hS hl
  have hl : lv_has ls 3 [(0, .ref (xa E (xwc w0 5))), (1, .ref (xa E (xwc w1 5)))] := hl
  obtain ⟨hx, hb, hml, hown, hts⟩ := id F.1
  have hK := F.2.1.1
  unfold fX4_copyAll_b at h
  refine lv_iconst (v := 0) hx hb dX4_copyAll_0 (by decide) ?_
  refine lv_istore_n (lv' := [(2, .int 0), (0, .ref (xa E (xwc w0 5))), (1, .ref (xa E (xwc w1 5)))]) hx hb dX4_copyAll_1 rfl hl (by decide) rfl (fun ls hl => ?_)
  cases g4 : gX4_copyAll_b_2 w0 w1 xfu 0 σ with
  | none => rw [g4] at h; cases h
  | some q5 =>
    rw [g4, Option.bind_some] at h
    refine lX4_copyAll_b_2 hw0 hw1 hne F xfu 0 σ q5 g4 _ _ _ hW hS (lv_sub hl [0, 1, 2] rfl) (fun H locs ls hW hS hl => ?_)
    cases h
    exact x_vret F hr hlk hW hS dX4_copyAll_23
/-! WildBells$World.become(LWildBells$World;)V -/
def fX4_become (σ : xM) (w : Nat) (w1 : Nat) : Option xM :=
  (fX4_copyAll_c σ w1 w).bind (fun r2 => (fX4_copyAll_b (xup (xup (xcp r2 (xwc w 4) 4 w1 (fun j => 14 + j)) w 1 ((xcp r2 (xwc w 4) 4 w1 (fun j => 14 + j)) w1 1)) w 2 ((xup (xcp r2 (xwc w 4) 4 w1 (fun j => 14 + j)) w 1 ((xcp r2 (xwc w 4) 4 w1 (fun j => 14 + j)) w1 1)) w1 2)) w1 w).bind (fun r4 => some (xcp (xup (xup r4 w 0 (r4 w1 0)) w 3 ((xup r4 w 0 (r4 w1 0)) w1 3)) (xwc w 11) 10 w1 (fun j => 4 + j))))
set_option maxHeartbeats 4000000 in
theorem mX4_become (l : Launch) (E : xE) (σ : xM) (w : Nat) (hw : w < 4) (w1 : Nat) (hw1 : w1 < 4) (hne : w1 ≠ w) (σ' : xM) (h : fX4_become σ w w1 = some σ') : Met l yX4_become (ws_ yX4_become cX4_become 2 none) ({ frames := 3, cells := 0, slots := 0, locals := 83 } : Room) (xPc E σ [.ref (xa E (xwc w 0)), .ref (xa E (xwc w1 0))]) (xQc E (.returned none) σ') 0 0 (xA E) := by
  refine x_of (C := RX4) (n := "become") (d := "(LWildBells$World;)V") (r := none) (by decide) rfl (by first | decide | exact Nat.le_of_ble_eq_true rfl) ?_
  intro p e s m below meth c ls F hr hlk hW hS hl
  have hl : lv_has ls 2 [(0, .ref (xa E (xwc w 0))), (1, .ref (xa E (xwc w1 0)))] := hl
  obtain ⟨hx, hb, hml, hown, hts⟩ := id F.1
  have hK := F.2.1.1
  unfold fX4_become at h
  refine lv_aload_n hx hb dX4_become_0 rfl (lv_at hl 1 rfl) ?_
  refine va_get (D := xD E) (ci := 4) (v := .ref (xa E (xwc w1 1))) (C := RX4) (T := TX4) (N := 8) hx hb hts in_X4 hown hK (xO_W hW w1 hw1) 0 rfl rfl 0 (by decide) (hts _ q228) (fun _ h9 => h9) rfl dX4_become_1 ?_
  refine lv_aload_n hx hb dX4_become_4 rfl (lv_at hl 0 rfl) ?_
  refine va_get (D := xD E) (ci := 4) (v := .ref (xa E (xwc w 1))) (C := RX4) (T := TX4) (N := 8) hx hb hts in_X4 hown hK (xO_W hW w hw) 0 rfl rfl 0 (by decide) (hts _ q228) (fun _ h9 => h9) rfl dX4_become_5 ?_
  cases g1 : fX4_copyAll_c σ w1 w with
  | none => rw [g1] at h; cases h
  | some r2 =>
    rw [g1, Option.bind_some] at h
    refine x_backv (va_runS (As := [.ref (xa E (xwc w1 1)), .ref (xa E (xwc w 1))]) (rest := []) F.1 (mX4_copyAll_c l E σ w1 hw1 w hw hne r2 g1) (va_cwS 2 hts (lw_S q755 q756 q106 q757) rfl rfl rfl (by decide +kernel) ⟨Nat.le_of_ble_eq_true rfl, Nat.le_of_ble_eq_true rfl⟩) ⟨xPc.blind, F.pre hW hS [.ref (xa E (xwc w1 1)), .ref (xa E (xwc w 1))]⟩ rfl rfl hl.1 rfl (lv_room (Nat.le_of_ble_eq_true rfl)) dX4_become_8 ⟨Nat.le_refl _, Nat.le_refl _⟩) hS (fun H locs hW hS => ?_)
    refine lv_aload_n hx hb dX4_become_11 rfl (lv_at hl 1 rfl) ?_
    refine va_get (D := xD E) (ci := 4) (v := .ref (xa E (xwc w1 4))) (C := RX4) (T := TX4) (N := 8) hx hb hts in_X4 hown hK (xO_W hW w1 hw1) 0 rfl rfl 1 (by decide) (hts _ q233) (fun _ h9 => h9) rfl dX4_become_12 ?_
    refine lv_aload_n hx hb dX4_become_15 rfl (lv_at hl 0 rfl) ?_
    refine va_get (D := xD E) (ci := 4) (v := .ref (xa E (xwc w 4))) (C := RX4) (T := TX4) (N := 8) hx hb hts in_X4 hown hK (xO_W hW w hw) 0 rfl rfl 1 (by decide) (hts _ q233) (fun _ h9 => h9) rfl dX4_become_16 ?_
    refine x_backv (va_runS (As := [.ref (xa E (xwc w1 4)), .ref (xa E (xwc w 4))]) (rest := []) F.1 (mX4_copy l E r2 (xwc w1 4) 4 w1 (fun j => 14 + j) (xwc w 4) w (fun j => 14 + j) ⟨(xw_lt w1 hw1 4 (by decide)), (xw_4 w1 hw1).1, (xw_4 w1 hw1).2, (Or.inl (by omega))⟩ ⟨(xw_lt w hw 4 (by decide)), (xw_4 w hw).1, (xw_4 w hw).2, (Or.inl (by omega))⟩ (xw_ne hw1 hw hne _) (by decide)) (va_cwS 2 hts (lw_S q758 q759 q106 q760) rfl rfl rfl (by decide +kernel) ⟨Nat.le_of_ble_eq_true rfl, Nat.le_of_ble_eq_true rfl⟩) ⟨xPc.blind, F.pre hW hS [.ref (xa E (xwc w1 4)), .ref (xa E (xwc w 4))]⟩ rfl rfl hl.1 rfl (lv_room (Nat.le_of_ble_eq_true rfl)) dX4_become_19 ⟨Nat.le_refl _, Nat.le_refl _⟩) hS (fun H locs hW hS => ?_)
    refine lv_aload_n hx hb dX4_become_22 rfl (lv_at hl 0 rfl) ?_
    refine lv_aload_n hx hb dX4_become_23 rfl (lv_at hl 1 rfl) ?_
    refine va_get (D := xD E) (ci := 4) (v := .int ((xcp r2 (xwc w 4) 4 w1 (fun j => 14 + j)) w1 1)) (C := RX4) (T := TX4) (N := 8) hx hb hts in_X4 hown hK (xO_W hW w1 hw1) 0 rfl rfl 2 (by decide) (hts _ q236) (fun _ h9 => h9) rfl dX4_become_24 ?_
    refine x_put (C := RX4) (T := TX4) (N := 8) (ci := 4) (ty := .int) F hW hS in_X4 tyX4 tyX4_ok nmX4 rfl (xwc w 0) 2 w 1 (xw_lt w hw 0 (by decide)) (xw_0 w hw).1 (by decide) (xw_0 w hw).2.2.2.1 (Or.inl (by omega)) (hts _ q236) (fun _ h9 => h9) rfl (by decide +kernel) rfl rfl dX4_become_27 (fun H locs hW hS => ?_)
    refine lv_aload_n hx hb dX4_become_30 rfl (lv_at hl 0 rfl) ?_
    refine lv_aload_n hx hb dX4_become_31 rfl (lv_at hl 1 rfl) ?_
    refine va_get (D := xD E) (ci := 4) (v := .int ((xup (xcp r2 (xwc w 4) 4 w1 (fun j => 14 + j)) w 1 ((xcp r2 (xwc w 4) 4 w1 (fun j => 14 + j)) w1 1)) w1 2)) (C := RX4) (T := TX4) (N := 8) hx hb hts in_X4 hown hK (xO_W hW w1 hw1) 0 rfl rfl 3 (by decide) (hts _ q239) (fun _ h9 => h9) rfl dX4_become_32 ?_
    refine x_put (C := RX4) (T := TX4) (N := 8) (ci := 4) (ty := .int) F hW hS in_X4 tyX4 tyX4_ok nmX4 rfl (xwc w 0) 3 w 2 (xw_lt w hw 0 (by decide)) (xw_0 w hw).1 (by decide) (xw_0 w hw).2.2.2.2.1 (Or.inl (by omega)) (hts _ q239) (fun _ h9 => h9) rfl (by decide +kernel) rfl rfl dX4_become_35 (fun H locs hW hS => ?_)
    refine lv_aload_n hx hb dX4_become_38 rfl (lv_at hl 1 rfl) ?_
    refine va_get (D := xD E) (ci := 4) (v := .ref (xa E (xwc w1 5))) (C := RX4) (T := TX4) (N := 8) hx hb hts in_X4 hown hK (xO_W hW w1 hw1) 0 rfl rfl 4 (by decide) (hts _ q242) (fun _ h9 => h9) rfl dX4_become_39 ?_
    refine lv_aload_n hx hb dX4_become_42 rfl (lv_at hl 0 rfl) ?_
    refine va_get (D := xD E) (ci := 4) (v := .ref (xa E (xwc w 5))) (C := RX4) (T := TX4) (N := 8) hx hb hts in_X4 hown hK (xO_W hW w hw) 0 rfl rfl 4 (by decide) (hts _ q242) (fun _ h9 => h9) rfl dX4_become_43 ?_
    cases g3 : fX4_copyAll_b (xup (xup (xcp r2 (xwc w 4) 4 w1 (fun j => 14 + j)) w 1 ((xcp r2 (xwc w 4) 4 w1 (fun j => 14 + j)) w1 1)) w 2 ((xup (xcp r2 (xwc w 4) 4 w1 (fun j => 14 + j)) w 1 ((xcp r2 (xwc w 4) 4 w1 (fun j => 14 + j)) w1 1)) w1 2)) w1 w with
    | none => rw [g3] at h; cases h
    | some r4 =>
      rw [g3, Option.bind_some] at h
      refine x_backv (va_runS (As := [.ref (xa E (xwc w1 5)), .ref (xa E (xwc w 5))]) (rest := []) F.1 (mX4_copyAll_b l E (xup (xup (xcp r2 (xwc w 4) 4 w1 (fun j => 14 + j)) w 1 ((xcp r2 (xwc w 4) 4 w1 (fun j => 14 + j)) w1 1)) w 2 ((xup (xcp r2 (xwc w 4) 4 w1 (fun j => 14 + j)) w 1 ((xcp r2 (xwc w 4) 4 w1 (fun j => 14 + j)) w1 1)) w1 2)) w1 hw1 w hw hne r4 g3) (va_cwS 2 hts (lw_S q755 q756 q106 q757) rfl rfl rfl (by decide +kernel) ⟨Nat.le_of_ble_eq_true rfl, Nat.le_of_ble_eq_true rfl⟩) ⟨xPc.blind, F.pre hW hS [.ref (xa E (xwc w1 5)), .ref (xa E (xwc w 5))]⟩ rfl rfl hl.1 rfl (lv_room (Nat.le_of_ble_eq_true rfl)) dX4_become_46 ⟨Nat.le_refl _, Nat.le_refl _⟩) hS (fun H locs hW hS => ?_)
      refine lv_aload_n hx hb dX4_become_49 rfl (lv_at hl 0 rfl) ?_
      refine lv_aload_n hx hb dX4_become_50 rfl (lv_at hl 1 rfl) ?_
      refine va_get (D := xD E) (ci := 4) (v := .int (r4 w1 0)) (C := RX4) (T := TX4) (N := 8) hx hb hts in_X4 hown hK (xO_W hW w1 hw1) 0 rfl rfl 5 (by decide) (hts _ q245) (fun _ h9 => h9) rfl dX4_become_51 ?_
      refine x_put (C := RX4) (T := TX4) (N := 8) (ci := 4) (ty := .int) F hW hS in_X4 tyX4 tyX4_ok nmX4 rfl (xwc w 0) 5 w 0 (xw_lt w hw 0 (by decide)) (xw_0 w hw).1 (by decide) (xw_0 w hw).2.2.2.2.2.2.1 (Or.inl (by omega)) (hts _ q245) (fun _ h9 => h9) rfl (by decide +kernel) rfl rfl dX4_become_54 (fun H locs hW hS => ?_)
      refine lv_aload_n hx hb dX4_become_57 rfl (lv_at hl 0 rfl) ?_
      refine lv_aload_n hx hb dX4_become_58 rfl (lv_at hl 1 rfl) ?_
      refine va_get (D := xD E) (ci := 4) (v := .int ((xup r4 w 0 (r4 w1 0)) w1 3)) (C := RX4) (T := TX4) (N := 8) hx hb hts in_X4 hown hK (xO_W hW w1 hw1) 0 rfl rfl 6 (by decide) (hts _ q247) (fun _ h9 => h9) rfl dX4_become_59 ?_
      refine x_put (C := RX4) (T := TX4) (N := 8) (ci := 4) (ty := .int) F hW hS in_X4 tyX4 tyX4_ok nmX4 rfl (xwc w 0) 6 w 3 (xw_lt w hw 0 (by decide)) (xw_0 w hw).1 (by decide) (xw_0 w hw).2.2.2.2.2.2.2.1 (Or.inl (by omega)) (hts _ q247) (fun _ h9 => h9) rfl (by decide +kernel) rfl rfl dX4_become_62 (fun H locs hW hS => ?_)
      refine lv_aload_n hx hb dX4_become_65 rfl (lv_at hl 1 rfl) ?_
      refine va_get (D := xD E) (ci := 4) (v := .ref (xa E (xwc w1 11))) (C := RX4) (T := TX4) (N := 8) hx hb hts in_X4 hown hK (xO_W hW w1 hw1) 0 rfl rfl 7 (by decide) (hts _ q249) (fun _ h9 => h9) rfl dX4_become_66 ?_
      refine lv_aload_n hx hb dX4_become_69 rfl (lv_at hl 0 rfl) ?_
      refine va_get (D := xD E) (ci := 4) (v := .ref (xa E (xwc w 11))) (C := RX4) (T := TX4) (N := 8) hx hb hts in_X4 hown hK (xO_W hW w hw) 0 rfl rfl 7 (by decide) (hts _ q249) (fun _ h9 => h9) rfl dX4_become_70 ?_
      refine x_backv (va_runS (As := [.ref (xa E (xwc w1 11)), .ref (xa E (xwc w 11))]) (rest := []) F.1 (mX4_copy l E (xup (xup r4 w 0 (r4 w1 0)) w 3 ((xup r4 w 0 (r4 w1 0)) w1 3)) (xwc w1 11) 10 w1 (fun j => 4 + j) (xwc w 11) w (fun j => 4 + j) ⟨(xw_lt w1 hw1 11 (by decide)), (xw_11 w1 hw1).1, (xw_11 w1 hw1).2, (Or.inl (by omega))⟩ ⟨(xw_lt w hw 11 (by decide)), (xw_11 w hw).1, (xw_11 w hw).2, (Or.inl (by omega))⟩ (xw_ne hw1 hw hne _) (by decide)) (va_cwS 2 hts (lw_S q758 q759 q106 q760) rfl rfl rfl (by decide +kernel) ⟨Nat.le_of_ble_eq_true rfl, Nat.le_of_ble_eq_true rfl⟩) ⟨xPc.blind, F.pre hW hS [.ref (xa E (xwc w1 11)), .ref (xa E (xwc w 11))]⟩ rfl rfl hl.1 rfl (lv_room (Nat.le_of_ble_eq_true rfl)) dX4_become_73 ⟨Nat.le_refl _, Nat.le_refl _⟩) hS (fun H locs hW hS => ?_)
      cases h
      exact x_vret F hr hlk hW hS dX4_become_76
