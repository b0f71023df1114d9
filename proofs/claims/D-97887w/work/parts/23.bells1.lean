set_option maxRecDepth 100000
/-! WildBells$Bell.kind()I -/
def fX6_kind_k0  : Int32 :=
  0
set_option maxHeartbeats 4000000 in
theorem mX6_kind_k0 (l : Launch) (E : xE) (σ : xM) (n : Nat) (hn : n < 8) : Met l yX6_kind (ws_ yX6_kind cX6_kind 1 (some .int)) ({ frames := 0, cells := 0, slots := 0, locals := 0 } : Room) (xPc E σ [.ref (xa E (xbc 0 n))]) (xQc E (.returned (some (.int (fX6_kind_k0)))) σ) 0 0 (xA E) := by
  refine x_of (C := RX6) (n := "kind") (d := "()I") (r := (some .int)) (by decide) rfl (by first | decide | exact Nat.le_of_ble_eq_true rfl) ?_
  intro p e s m below meth c ls F hr hlk hW hS hl
  have hl : lv_has ls 1 [(0, .ref (xa E (xbc 0 n)))] := hl
  obtain ⟨hx, hb, hml, hown, hts⟩ := id F.1
  have hK := F.2.1.1
  obtain ⟨r, h⟩ : ∃ r, fX6_kind_k0 = r := ⟨_, rfl⟩
  rw [h]
  unfold fX6_kind_k0 at h
  refine lv_iconst (v := 0) hx hb dX6_kind_0 (by decide) ?_
  subst h
  exact x_iret F hr hlk hW hS dX6_kind_1
/-! WildBells$Bell.kind()I -/
def fX6_kind_k1  : Int32 :=
  0
set_option maxHeartbeats 4000000 in
theorem mX6_kind_k1 (l : Launch) (E : xE) (σ : xM) (n : Nat) (hn : n < 8) : Met l yX6_kind (ws_ yX6_kind cX6_kind 1 (some .int)) ({ frames := 0, cells := 0, slots := 0, locals := 0 } : Room) (xPc E σ [.ref (xa E (xbc 1 n))]) (xQc E (.returned (some (.int (fX6_kind_k1)))) σ) 0 0 (xA E) := by
  refine x_of (C := RX6) (n := "kind") (d := "()I") (r := (some .int)) (by decide) rfl (by first | decide | exact Nat.le_of_ble_eq_true rfl) ?_
  intro p e s m below meth c ls F hr hlk hW hS hl
  have hl : lv_has ls 1 [(0, .ref (xa E (xbc 1 n)))] := hl
  obtain ⟨hx, hb, hml, hown, hts⟩ := id F.1
  have hK := F.2.1.1
  obtain ⟨r, h⟩ : ∃ r, fX6_kind_k1 = r := ⟨_, rfl⟩
  rw [h]
  unfold fX6_kind_k1 at h
  refine lv_iconst (v := 0) hx hb dX6_kind_0 (by decide) ?_
  subst h
  exact x_iret F hr hlk hW hS dX6_kind_1
/-! WildBells$Herd.kind()I -/
def fX7_kind_k1  : Int32 :=
  (1 + (fX6_kind_k1))
set_option maxHeartbeats 4000000 in
theorem mX7_kind_k1 (l : Launch) (E : xE) (σ : xM) (n : Nat) (hn : n < 8) : Met l yX7_kind (ws_ yX7_kind cX7_kind 1 (some .int)) ({ frames := 1, cells := 0, slots := 0, locals := 20 } : Room) (xPc E σ [.ref (xa E (xbc 1 n))]) (xQc E (.returned (some (.int (fX7_kind_k1)))) σ) 0 0 (xA E) := by
  refine x_of (C := RX7) (n := "kind") (d := "()I") (r := (some .int)) (by decide) rfl (by first | decide | exact Nat.le_of_ble_eq_true rfl) ?_
  intro p e s m below meth c ls F hr hlk hW hS hl
  have hl : lv_has ls 1 [(0, .ref (xa E (xbc 1 n)))] := hl
  obtain ⟨hx, hb, hml, hown, hts⟩ := id F.1
  have hK := F.2.1.1
  obtain ⟨r, h⟩ : ∃ r, fX7_kind_k1 = r := ⟨_, rfl⟩
  rw [h]
  unfold fX7_kind_k1 at h
  refine lv_iconst (v := 1) hx hb dX7_kind_0 (by decide) ?_
  refine lv_aload_n hx hb dX7_kind_1 rfl (lv_at hl 0 rfl) ?_
  refine x_backi (va_runSU (C := RX7) (b := (xa E (xbc 1 n))) (hK.1 7 _ rfl).2 (As := []) (rest := [.int 1]) F.1 (mX6_kind_k1 l E σ n hn) (va_cwSU 0 hts (lw_SU q562 q548 q340 q546 q108 q573) rfl rfl rfl (by decide +kernel) ⟨Nat.le_of_ble_eq_true rfl, Nat.le_of_ble_eq_true rfl⟩) ⟨xPc.blind, va_recv hK (xO_B hW 1 n (by decide) hn) (ci := 7) (q0 := 0) rfl rfl, F.pre hW hS (.ref (xa E (xbc 1 n)) :: [])⟩ rfl rfl hl.1 rfl (lv_room (Nat.le_of_ble_eq_true rfl)) dX7_kind_2 ⟨Nat.le_refl _, Nat.le_refl _⟩) hS (fun H locs hW hS => ?_)
  refine lv_iadd hx hb dX7_kind_5 ?_
  subst h
  exact x_iret F hr hlk hW hS dX7_kind_6
/-! WildBells$Bell.kind()I -/
def fX6_kind_k2  : Int32 :=
  0
set_option maxHeartbeats 4000000 in
theorem mX6_kind_k2 (l : Launch) (E : xE) (σ : xM) (n : Nat) (hn : n < 8) : Met l yX6_kind (ws_ yX6_kind cX6_kind 1 (some .int)) ({ frames := 0, cells := 0, slots := 0, locals := 0 } : Room) (xPc E σ [.ref (xa E (xbc 2 n))]) (xQc E (.returned (some (.int (fX6_kind_k2)))) σ) 0 0 (xA E) := by
  refine x_of (C := RX6) (n := "kind") (d := "()I") (r := (some .int)) (by decide) rfl (by first | decide | exact Nat.le_of_ble_eq_true rfl) ?_
  intro p e s m below meth c ls F hr hlk hW hS hl
  have hl : lv_has ls 1 [(0, .ref (xa E (xbc 2 n)))] := hl
  obtain ⟨hx, hb, hml, hown, hts⟩ := id F.1
  have hK := F.2.1.1
  obtain ⟨r, h⟩ : ∃ r, fX6_kind_k2 = r := ⟨_, rfl⟩
  rw [h]
  unfold fX6_kind_k2 at h
  refine lv_iconst (v := 0) hx hb dX6_kind_0 (by decide) ?_
  subst h
  exact x_iret F hr hlk hW hS dX6_kind_1
/-! WildBells$Lone.kind()I -/
def fX8_kind_k2  : Int32 :=
  (2 + (fX6_kind_k2))
set_option maxHeartbeats 4000000 in
theorem mX8_kind_k2 (l : Launch) (E : xE) (σ : xM) (n : Nat) (hn : n < 8) : Met l yX8_kind (ws_ yX8_kind cX8_kind 1 (some .int)) ({ frames := 1, cells := 0, slots := 0, locals := 20 } : Room) (xPc E σ [.ref (xa E (xbc 2 n))]) (xQc E (.returned (some (.int (fX8_kind_k2)))) σ) 0 0 (xA E) := by
  refine x_of (C := RX8) (n := "kind") (d := "()I") (r := (some .int)) (by decide) rfl (by first | decide | exact Nat.le_of_ble_eq_true rfl) ?_
  intro p e s m below meth c ls F hr hlk hW hS hl
  have hl : lv_has ls 1 [(0, .ref (xa E (xbc 2 n)))] := hl
  obtain ⟨hx, hb, hml, hown, hts⟩ := id F.1
  have hK := F.2.1.1
  obtain ⟨r, h⟩ : ∃ r, fX8_kind_k2 = r := ⟨_, rfl⟩
  rw [h]
  unfold fX8_kind_k2 at h
  refine lv_iconst (v := 2) hx hb dX8_kind_0 (by decide) ?_
  refine lv_aload_n hx hb dX8_kind_1 rfl (lv_at hl 0 rfl) ?_
  refine x_backi (va_runSU (C := RX8) (b := (xa E (xbc 2 n))) (hK.1 8 _ rfl).2 (As := []) (rest := [.int 2]) F.1 (mX6_kind_k2 l E σ n hn) (va_cwSU 0 hts (lw_SU q558 q548 q352 q546 q108 q573) rfl rfl rfl (by decide +kernel) ⟨Nat.le_of_ble_eq_true rfl, Nat.le_of_ble_eq_true rfl⟩) ⟨xPc.blind, va_recv hK (xO_B hW 2 n (by decide) hn) (ci := 8) (q0 := 0) rfl rfl, F.pre hW hS (.ref (xa E (xbc 2 n)) :: [])⟩ rfl rfl hl.1 rfl (lv_room (Nat.le_of_ble_eq_true rfl)) dX8_kind_2 ⟨Nat.le_refl _, Nat.le_refl _⟩) hS (fun H locs hW hS => ?_)
  refine lv_iadd hx hb dX8_kind_5 ?_
  subst h
  exact x_iret F hr hlk hW hS dX8_kind_6
/-! WildBells$Bell.kind()I -/
def fX6_kind_k3  : Int32 :=
  0
set_option maxHeartbeats 4000000 in
theorem mX6_kind_k3 (l : Launch) (E : xE) (σ : xM) (n : Nat) (hn : n < 8) : Met l yX6_kind (ws_ yX6_kind cX6_kind 1 (some .int)) ({ frames := 0, cells := 0, slots := 0, locals := 0 } : Room) (xPc E σ [.ref (xa E (xbc 3 n))]) (xQc E (.returned (some (.int (fX6_kind_k3)))) σ) 0 0 (xA E) := by
  refine x_of (C := RX6) (n := "kind") (d := "()I") (r := (some .int)) (by decide) rfl (by first | decide | exact Nat.le_of_ble_eq_true rfl) ?_
  intro p e s m below meth c ls F hr hlk hW hS hl
  have hl : lv_has ls 1 [(0, .ref (xa E (xbc 3 n)))] := hl
  obtain ⟨hx, hb, hml, hown, hts⟩ := id F.1
  have hK := F.2.1.1
  obtain ⟨r, h⟩ : ∃ r, fX6_kind_k3 = r := ⟨_, rfl⟩
  rw [h]
  unfold fX6_kind_k3 at h
  refine lv_iconst (v := 0) hx hb dX6_kind_0 (by decide) ?_
  subst h
  exact x_iret F hr hlk hW hS dX6_kind_1
/-! WildBells$Lone.kind()I -/
def fX8_kind_k3  : Int32 :=
  (2 + (fX6_kind_k3))
set_option maxHeartbeats 4000000 in
theorem mX8_kind_k3 (l : Launch) (E : xE) (σ : xM) (n : Nat) (hn : n < 8) : Met l yX8_kind (ws_ yX8_kind cX8_kind 1 (some .int)) ({ frames := 1, cells := 0, slots := 0, locals := 20 } : Room) (xPc E σ [.ref (xa E (xbc 3 n))]) (xQc E (.returned (some (.int (fX8_kind_k3)))) σ) 0 0 (xA E) := by
  refine x_of (C := RX8) (n := "kind") (d := "()I") (r := (some .int)) (by decide) rfl (by first | decide | exact Nat.le_of_ble_eq_true rfl) ?_
  intro p e s m below meth c ls F hr hlk hW hS hl
  have hl : lv_has ls 1 [(0, .ref (xa E (xbc 3 n)))] := hl
  obtain ⟨hx, hb, hml, hown, hts⟩ := id F.1
  have hK := F.2.1.1
  obtain ⟨r, h⟩ : ∃ r, fX8_kind_k3 = r := ⟨_, rfl⟩
  rw [h]
  unfold fX8_kind_k3 at h
  refine lv_iconst (v := 2) hx hb dX8_kind_0 (by decide) ?_
  refine lv_aload_n hx hb dX8_kind_1 rfl (lv_at hl 0 rfl) ?_
  refine x_backi (va_runSU (C := RX9) (b := (xa E (xbc 3 n))) (hK.1 9 _ rfl).2 (As := []) (rest := [.int 2]) F.1 (mX6_kind_k3 l E σ n hn) (va_cwSU 0 hts (lw_SU q558 q548 q352 q546 q108 q573) rfl rfl rfl (by decide +kernel) ⟨Nat.le_of_ble_eq_true rfl, Nat.le_of_ble_eq_true rfl⟩) ⟨xPc.blind, va_recv hK (xO_B hW 3 n (by decide) hn) (ci := 9) (q0 := 0) rfl rfl, F.pre hW hS (.ref (xa E (xbc 3 n)) :: [])⟩ rfl rfl hl.1 rfl (lv_room (Nat.le_of_ble_eq_true rfl)) dX8_kind_2 ⟨Nat.le_refl _, Nat.le_refl _⟩) hS (fun H locs hW hS => ?_)
  refine lv_iadd hx hb dX8_kind_5 ?_
  subst h
  exact x_iret F hr hlk hW hS dX8_kind_6
/-! WildBells$Tenor.kind()I -/
def fX9_kind_k3  : Int32 :=
  (1 + (fX8_kind_k3))
set_option maxHeartbeats 4000000 in
theorem mX9_kind_k3 (l : Launch) (E : xE) (σ : xM) (n : Nat) (hn : n < 8) : Met l yX9_kind (ws_ yX9_kind cX9_kind 1 (some .int)) ({ frames := 2, cells := 0, slots := 0, locals := 40 } : Room) (xPc E σ [.ref (xa E (xbc 3 n))]) (xQc E (.returned (some (.int (fX9_kind_k3)))) σ) 0 0 (xA E) := by
  refine x_of (C := RX9) (n := "kind") (d := "()I") (r := (some .int)) (by decide) rfl (by first | decide | exact Nat.le_of_ble_eq_true rfl) ?_
  intro p e s m below meth c ls F hr hlk hW hS hl
  have hl : lv_has ls 1 [(0, .ref (xa E (xbc 3 n)))] := hl
  obtain ⟨hx, hb, hml, hown, hts⟩ := id F.1
  have hK := F.2.1.1
  obtain ⟨r, h⟩ : ∃ r, fX9_kind_k3 = r := ⟨_, rfl⟩
  rw [h]
  unfold fX9_kind_k3 at h
  refine lv_iconst (v := 1) hx hb dX9_kind_0 (by decide) ?_
  refine lv_aload_n hx hb dX9_kind_1 rfl (lv_at hl 0 rfl) ?_
  refine x_backi (va_runSU (C := RX9) (b := (xa E (xbc 3 n))) (hK.1 9 _ rfl).2 (As := []) (rest := [.int 1]) F.1 (mX8_kind_k3 l E σ n hn) (va_cwSU 0 hts (lw_SU q555 q1730 q365 q556 q110 q557) rfl rfl rfl (by decide +kernel) ⟨Nat.le_of_ble_eq_true rfl, Nat.le_of_ble_eq_true rfl⟩) ⟨xPc.blind, va_recv hK (xO_B hW 3 n (by decide) hn) (ci := 9) (q0 := 0) rfl rfl, F.pre hW hS (.ref (xa E (xbc 3 n)) :: [])⟩ rfl rfl hl.1 rfl (lv_room (Nat.le_of_ble_eq_true rfl)) dX9_kind_2 ⟨Nat.le_refl _, Nat.le_refl _⟩) hS (fun H locs hW hS => ?_)
  refine lv_iadd hx hb dX9_kind_5 ?_
  subst h
  exact x_iret F hr hlk hW hS dX9_kind_6
/-! WildBells$Bell.kind()I -/
def fX6_kind_k4  : Int32 :=
  0
set_option maxHeartbeats 4000000 in
theorem mX6_kind_k4 (l : Launch) (E : xE) (σ : xM) (n : Nat) (hn : n < 8) : Met l yX6_kind (ws_ yX6_kind cX6_kind 1 (some .int)) ({ frames := 0, cells := 0, slots := 0, locals := 0 } : Room) (xPc E σ [.ref (xa E (xbc 4 n))]) (xQc E (.returned (some (.int (fX6_kind_k4)))) σ) 0 0 (xA E) := by
  refine x_of (C := RX6) (n := "kind") (d := "()I") (r := (some .int)) (by decide) rfl (by first | decide | exact Nat.le_of_ble_eq_true rfl) ?_
  intro p e s m below meth c ls F hr hlk hW hS hl
  have hl : lv_has ls 1 [(0, .ref (xa E (xbc 4 n)))] := hl
  obtain ⟨hx, hb, hml, hown, hts⟩ := id F.1
  have hK := F.2.1.1
  obtain ⟨r, h⟩ : ∃ r, fX6_kind_k4 = r := ⟨_, rfl⟩
  rw [h]
  unfold fX6_kind_k4 at h
  refine lv_iconst (v := 0) hx hb dX6_kind_0 (by decide) ?_
  subst h
  exact x_iret F hr hlk hW hS dX6_kind_1
/-! WildBells$Lone.kind()I -/
def fX8_kind_k4  : Int32 :=
  (2 + (fX6_kind_k4))
set_option maxHeartbeats 4000000 in
theorem mX8_kind_k4 (l : Launch) (E : xE) (σ : xM) (n : Nat) (hn : n < 8) : Met l yX8_kind (ws_ yX8_kind cX8_kind 1 (some .int)) ({ frames := 1, cells := 0, slots := 0, locals := 20 } : Room) (xPc E σ [.ref (xa E (xbc 4 n))]) (xQc E (.returned (some (.int (fX8_kind_k4)))) σ) 0 0 (xA E) := by
  refine x_of (C := RX8) (n := "kind") (d := "()I") (r := (some .int)) (by decide) rfl (by first | decide | exact Nat.le_of_ble_eq_true rfl) ?_
  intro p e s m below meth c ls F hr hlk hW hS hl
  have hl : lv_has ls 1 [(0, .ref (xa E (xbc 4 n)))] := hl
  obtain ⟨hx, hb, hml, hown, hts⟩ := id F.1
  have hK := F.2.1.1
  obtain ⟨r, h⟩ : ∃ r, fX8_kind_k4 = r := ⟨_, rfl⟩
  rw [h]
  unfold fX8_kind_k4 at h
  refine lv_iconst (v := 2) hx hb dX8_kind_0 (by decide) ?_
  refine lv_aload_n hx hb dX8_kind_1 rfl (lv_at hl 0 rfl) ?_
  refine x_backi (va_runSU (C := RX10) (b := (xa E (xbc 4 n))) (hK.1 10 _ rfl).2 (As := []) (rest := [.int 2]) F.1 (mX6_kind_k4 l E σ n hn) (va_cwSU 0 hts (lw_SU q558 q548 q352 q546 q108 q573) rfl rfl rfl (by decide +kernel) ⟨Nat.le_of_ble_eq_true rfl, Nat.le_of_ble_eq_true rfl⟩) ⟨xPc.blind, va_recv hK (xO_B hW 4 n (by decide) hn) (ci := 10) (q0 := 0) rfl rfl, F.pre hW hS (.ref (xa E (xbc 4 n)) :: [])⟩ rfl rfl hl.1 rfl (lv_room (Nat.le_of_ble_eq_true rfl)) dX8_kind_2 ⟨Nat.le_refl _, Nat.le_refl _⟩) hS (fun H locs hW hS => ?_)
  refine lv_iadd hx hb dX8_kind_5 ?_
  subst h
  exact x_iret F hr hlk hW hS dX8_kind_6
/-! WildBells$Tenor.kind()I -/
def fX9_kind_k4  : Int32 :=
  (1 + (fX8_kind_k4))
set_option maxHeartbeats 4000000 in
theorem mX9_kind_k4 (l : Launch) (E : xE) (σ : xM) (n : Nat) (hn : n < 8) : Met l yX9_kind (ws_ yX9_kind cX9_kind 1 (some .int)) ({ frames := 2, cells := 0, slots := 0, locals := 40 } : Room) (xPc E σ [.ref (xa E (xbc 4 n))]) (xQc E (.returned (some (.int (fX9_kind_k4)))) σ) 0 0 (xA E) := by
  refine x_of (C := RX9) (n := "kind") (d := "()I") (r := (some .int)) (by decide) rfl (by first | decide | exact Nat.le_of_ble_eq_true rfl) ?_
  intro p e s m below meth c ls F hr hlk hW hS hl
  have hl : lv_has ls 1 [(0, .ref (xa E (xbc 4 n)))] := hl
  obtain ⟨hx, hb, hml, hown, hts⟩ := id F.1
  have hK := F.2.1.1
  obtain ⟨r, h⟩ : ∃ r, fX9_kind_k4 = r := ⟨_, rfl⟩
  rw [h]
  unfold fX9_kind_k4 at h
  refine lv_iconst (v := 1) hx hb dX9_kind_0 (by decide) ?_
  refine lv_aload_n hx hb dX9_kind_1 rfl (lv_at hl 0 rfl) ?_
  refine x_backi (va_runSU (C := RX10) (b := (xa E (xbc 4 n))) (hK.1 10 _ rfl).2 (As := []) (rest := [.int 1]) F.1 (mX8_kind_k4 l E σ n hn) (va_cwSU 0 hts (lw_SU q555 q1730 q365 q556 q110 q557) rfl rfl rfl (by decide +kernel) ⟨Nat.le_of_ble_eq_true rfl, Nat.le_of_ble_eq_true rfl⟩) ⟨xPc.blind, va_recv hK (xO_B hW 4 n (by decide) hn) (ci := 10) (q0 := 0) rfl rfl, F.pre hW hS (.ref (xa E (xbc 4 n)) :: [])⟩ rfl rfl hl.1 rfl (lv_room (Nat.le_of_ble_eq_true rfl)) dX9_kind_2 ⟨Nat.le_refl _, Nat.le_refl _⟩) hS (fun H locs hW hS => ?_)
  refine lv_iadd hx hb dX9_kind_5 ?_
  subst h
  exact x_iret F hr hlk hW hS dX9_kind_6
/-! WildBells$Eldest.kind()I -/
def fX10_kind_k4  : Int32 :=
  (1 + (fX9_kind_k4))
set_option maxHeartbeats 4000000 in
theorem mX10_kind_k4 (l : Launch) (E : xE) (σ : xM) (n : Nat) (hn : n < 8) : Met l yX10_kind (ws_ yX10_kind cX10_kind 1 (some .int)) ({ frames := 3, cells := 0, slots := 0, locals := 60 } : Room) (xPc E σ [.ref (xa E (xbc 4 n))]) (xQc E (.returned (some (.int (fX10_kind_k4)))) σ) 0 0 (xA E) := by
  refine x_of (C := RX10) (n := "kind") (d := "()I") (r := (some .int)) (by decide) rfl (by first | decide | exact Nat.le_of_ble_eq_true rfl) ?_
  intro p e s m below meth c ls F hr hlk hW hS hl
  have hl : lv_has ls 1 [(0, .ref (xa E (xbc 4 n)))] := hl
  obtain ⟨hx, hb, hml, hown, hts⟩ := id F.1
  have hK := F.2.1.1
  obtain ⟨r, h⟩ : ∃ r, fX10_kind_k4 = r := ⟨_, rfl⟩
  rw [h]
  unfold fX10_kind_k4 at h
  refine lv_iconst (v := 1) hx hb dX10_kind_0 (by decide) ?_
  refine lv_aload_n hx hb dX10_kind_1 rfl (lv_at hl 0 rfl) ?_
  refine x_backi (va_runSU (C := RX10) (b := (xa E (xbc 4 n))) (hK.1 10 _ rfl).2 (As := []) (rest := [.int 1]) F.1 (mX9_kind_k4 l E σ n hn) (va_cwSU 0 hts (lw_SU q552 q1729 q379 q553 q111 q554) rfl rfl rfl (by decide +kernel) ⟨Nat.le_of_ble_eq_true rfl, Nat.le_of_ble_eq_true rfl⟩) ⟨xPc.blind, va_recv hK (xO_B hW 4 n (by decide) hn) (ci := 10) (q0 := 0) rfl rfl, F.pre hW hS (.ref (xa E (xbc 4 n)) :: [])⟩ rfl rfl hl.1 rfl (lv_room (Nat.le_of_ble_eq_true rfl)) dX10_kind_2 ⟨Nat.le_refl _, Nat.le_refl _⟩) hS (fun H locs hW hS => ?_)
  refine lv_iadd hx hb dX10_kind_5 ?_
  subst h
  exact x_iret F hr hlk hW hS dX10_kind_6
/-! WildBells$Bell.kind()I -/
def fX6_kind_k5  : Int32 :=
  0
set_option maxHeartbeats 4000000 in
theorem mX6_kind_k5 (l : Launch) (E : xE) (σ : xM) (n : Nat) (hn : n < 8) : Met l yX6_kind (ws_ yX6_kind cX6_kind 1 (some .int)) ({ frames := 0, cells := 0, slots := 0, locals := 0 } : Room) (xPc E σ [.ref (xa E (xbc 5 n))]) (xQc E (.returned (some (.int (fX6_kind_k5)))) σ) 0 0 (xA E) := by
  refine x_of (C := RX6) (n := "kind") (d := "()I") (r := (some .int)) (by decide) rfl (by first | decide | exact Nat.le_of_ble_eq_true rfl) ?_
  intro p e s m below meth c ls F hr hlk hW hS hl
  have hl : lv_has ls 1 [(0, .ref (xa E (xbc 5 n)))] := hl
  obtain ⟨hx, hb, hml, hown, hts⟩ := id F.1
  have hK := F.2.1.1
  obtain ⟨r, h⟩ : ∃ r, fX6_kind_k5 = r := ⟨_, rfl⟩
  rw [h]
  unfold fX6_kind_k5 at h
  refine lv_iconst (v := 0) hx hb dX6_kind_0 (by decide) ?_
  subst h
  exact x_iret F hr hlk hW hS dX6_kind_1
/-! WildBells$Tame.kind()I -/
def fX11_kind_k5  : Int32 :=
  (5 + (fX6_kind_k5))
set_option maxHeartbeats 4000000 in
theorem mX11_kind_k5 (l : Launch) (E : xE) (σ : xM) (n : Nat) (hn : n < 8) : Met l yX11_kind (ws_ yX11_kind cX11_kind 1 (some .int)) ({ frames := 1, cells := 0, slots := 0, locals := 20 } : Room) (xPc E σ [.ref (xa E (xbc 5 n))]) (xQc E (.returned (some (.int (fX11_kind_k5)))) σ) 0 0 (xA E) := by
  refine x_of (C := RX11) (n := "kind") (d := "()I") (r := (some .int)) (by decide) rfl (by first | decide | exact Nat.le_of_ble_eq_true rfl) ?_
  intro p e s m below meth c ls F hr hlk hW hS hl
  have hl : lv_has ls 1 [(0, .ref (xa E (xbc 5 n)))] := hl
  obtain ⟨hx, hb, hml, hown, hts⟩ := id F.1
  have hK := F.2.1.1
  obtain ⟨r, h⟩ : ∃ r, fX11_kind_k5 = r := ⟨_, rfl⟩
  rw [h]
  unfold fX11_kind_k5 at h
  refine lv_iconst (v := 5) hx hb dX11_kind_0 (by decide) ?_
  refine lv_aload_n hx hb dX11_kind_1 rfl (lv_at hl 0 rfl) ?_
  refine x_backi (va_runSU (C := RX11) (b := (xa E (xbc 5 n))) (hK.1 11 _ rfl).2 (As := []) (rest := [.int 5]) F.1 (mX6_kind_k5 l E σ n hn) (va_cwSU 0 hts (lw_SU q567 q548 q391 q546 q108 q573) rfl rfl rfl (by decide +kernel) ⟨Nat.le_of_ble_eq_true rfl, Nat.le_of_ble_eq_true rfl⟩) ⟨xPc.blind, va_recv hK (xO_B hW 5 n (by decide) hn) (ci := 11) (q0 := 0) rfl rfl, F.pre hW hS (.ref (xa E (xbc 5 n)) :: [])⟩ rfl rfl hl.1 rfl (lv_room (Nat.le_of_ble_eq_true rfl)) dX11_kind_2 ⟨Nat.le_refl _, Nat.le_refl _⟩) hS (fun H locs hW hS => ?_)
  refine lv_iadd hx hb dX11_kind_5 ?_
  subst h
  exact x_iret F hr hlk hW hS dX11_kind_6
/-! WildBells$Bell.kind()I -/
def fX6_kind_k6  : Int32 :=
  0
set_option maxHeartbeats 4000000 in
theorem mX6_kind_k6 (l : Launch) (E : xE) (σ : xM) (n : Nat) (hn : n < 8) : Met l yX6_kind (ws_ yX6_kind cX6_kind 1 (some .int)) ({ frames := 0, cells := 0, slots := 0, locals := 0 } : Room) (xPc E σ [.ref (xa E (xbc 6 n))]) (xQc E (.returned (some (.int (fX6_kind_k6)))) σ) 0 0 (xA E) := by
  refine x_of (C := RX6) (n := "kind") (d := "()I") (r := (some .int)) (by decide) rfl (by first | decide | exact Nat.le_of_ble_eq_true rfl) ?_
  intro p e s m below meth c ls F hr hlk hW hS hl
  have hl : lv_has ls 1 [(0, .ref (xa E (xbc 6 n)))] := hl
  obtain ⟨hx, hb, hml, hown, hts⟩ := id F.1
  have hK := F.2.1.1
  obtain ⟨r, h⟩ : ∃ r, fX6_kind_k6 = r := ⟨_, rfl⟩
  rw [h]
  unfold fX6_kind_k6 at h
  refine lv_iconst (v := 0) hx hb dX6_kind_0 (by decide) ?_
  subst h
  exact x_iret F hr hlk hW hS dX6_kind_1
/-! WildBells$Herd.kind()I -/
def fX7_kind_k6  : Int32 :=
  (1 + (fX6_kind_k6))
set_option maxHeartbeats 4000000 in
theorem mX7_kind_k6 (l : Launch) (E : xE) (σ : xM) (n : Nat) (hn : n < 8) : Met l yX7_kind (ws_ yX7_kind cX7_kind 1 (some .int)) ({ frames := 1, cells := 0, slots := 0, locals := 20 } : Room) (xPc E σ [.ref (xa E (xbc 6 n))]) (xQc E (.returned (some (.int (fX7_kind_k6)))) σ) 0 0 (xA E) := by
  refine x_of (C := RX7) (n := "kind") (d := "()I") (r := (some .int)) (by decide) rfl (by first | decide | exact Nat.le_of_ble_eq_true rfl) ?_
  intro p e s m below meth c ls F hr hlk hW hS hl
  have hl : lv_has ls 1 [(0, .ref (xa E (xbc 6 n)))] := hl
  obtain ⟨hx, hb, hml, hown, hts⟩ := id F.1
  have hK := F.2.1.1
  obtain ⟨r, h⟩ : ∃ r, fX7_kind_k6 = r := ⟨_, rfl⟩
  rw [h]
  unfold fX7_kind_k6 at h
  refine lv_iconst (v := 1) hx hb dX7_kind_0 (by decide) ?_
  refine lv_aload_n hx hb dX7_kind_1 rfl (lv_at hl 0 rfl) ?_
  refine x_backi (va_runSU (C := RX12) (b := (xa E (xbc 6 n))) (hK.1 12 _ rfl).2 (As := []) (rest := [.int 1]) F.1 (mX6_kind_k6 l E σ n hn) (va_cwSU 0 hts (lw_SU q562 q548 q340 q546 q108 q573) rfl rfl rfl (by decide +kernel) ⟨Nat.le_of_ble_eq_true rfl, Nat.le_of_ble_eq_true rfl⟩) ⟨xPc.blind, va_recv hK (xO_B hW 6 n (by decide) hn) (ci := 12) (q0 := 0) rfl rfl, F.pre hW hS (.ref (xa E (xbc 6 n)) :: [])⟩ rfl rfl hl.1 rfl (lv_room (Nat.le_of_ble_eq_true rfl)) dX7_kind_2 ⟨Nat.le_refl _, Nat.le_refl _⟩) hS (fun H locs hW hS => ?_)
  refine lv_iadd hx hb dX7_kind_5 ?_
  subst h
  exact x_iret F hr hlk hW hS dX7_kind_6
/-! WildBells$Young.kind()I -/
def fX12_kind_k6  : Int32 :=
  (5 + (fX7_kind_k6))
set_option maxHeartbeats 4000000 in
theorem mX12_kind_k6 (l : Launch) (E : xE) (σ : xM) (n : Nat) (hn : n < 8) : Met l yX12_kind (ws_ yX12_kind cX12_kind 1 (some .int)) ({ frames := 2, cells := 0, slots := 0, locals := 40 } : Room) (xPc E σ [.ref (xa E (xbc 6 n))]) (xQc E (.returned (some (.int (fX12_kind_k6)))) σ) 0 0 (xA E) := by
  refine x_of (C := RX12) (n := "kind") (d := "()I") (r := (some .int)) (by decide) rfl (by first | decide | exact Nat.le_of_ble_eq_true rfl) ?_
  intro p e s m below meth c ls F hr hlk hW hS hl
  have hl : lv_has ls 1 [(0, .ref (xa E (xbc 6 n)))] := hl
  obtain ⟨hx, hb, hml, hown, hts⟩ := id F.1
  have hK := F.2.1.1
  obtain ⟨r, h⟩ : ∃ r, fX12_kind_k6 = r := ⟨_, rfl⟩
  rw [h]
  unfold fX12_kind_k6 at h
  refine lv_iconst (v := 5) hx hb dX12_kind_0 (by decide) ?_
  refine lv_aload_n hx hb dX12_kind_1 rfl (lv_at hl 0 rfl) ?_
  refine x_backi (va_runSU (C := RX12) (b := (xa E (xbc 6 n))) (hK.1 12 _ rfl).2 (As := []) (rest := [.int 5]) F.1 (mX7_kind_k6 l E σ n hn) (va_cwSU 0 hts (lw_SU q572 q1731 q404 q560 q109 q561) rfl rfl rfl (by decide +kernel) ⟨Nat.le_of_ble_eq_true rfl, Nat.le_of_ble_eq_true rfl⟩) ⟨xPc.blind, va_recv hK (xO_B hW 6 n (by decide) hn) (ci := 12) (q0 := 0) rfl rfl, F.pre hW hS (.ref (xa E (xbc 6 n)) :: [])⟩ rfl rfl hl.1 rfl (lv_room (Nat.le_of_ble_eq_true rfl)) dX12_kind_2 ⟨Nat.le_refl _, Nat.le_refl _⟩) hS (fun H locs hW hS => ?_)
  refine lv_iadd hx hb dX12_kind_5 ?_
  subst h
  exact x_iret F hr hlk hW hS dX12_kind_6
/-! WildBells$Bell.isUnder(I)Z -/
def fX6_isUnder_k0 (a1 : Int32) : Int32 :=
  if a1 = 0 then 1 else (if a1 = (fX6_kind_k0) then 1 else 0)
set_option maxHeartbeats 4000000 in
theorem mX6_isUnder_k0 (l : Launch) (E : xE) (σ : xM) (n : Nat) (hn : n < 8) (a1 : Int32) : Met l yX6_isUnder (ws_ yX6_isUnder cX6_isUnder 2 (some .boolean)) ({ frames := 4, cells := 0, slots := 0, locals := 80 } : Room) (xPc E σ [.ref (xa E (xbc 0 n)), .int a1]) (xQc E (.returned (some (.int (fX6_isUnder_k0 a1)))) σ) 0 0 (xA E) := by
  refine x_of (C := RX6) (n := "isUnder") (d := "(I)Z") (r := (some .boolean)) (by decide) rfl (by first | decide | exact Nat.le_of_ble_eq_true rfl) ?_
  intro p e s m below meth c ls F hr hlk hW hS hl
  have hl : lv_has ls 2 [(0, .ref (xa E (xbc 0 n))), (1, .int a1)] := hl
  obtain ⟨hx, hb, hml, hown, hts⟩ := id F.1
  have hK := F.2.1.1
  obtain ⟨r, h⟩ : ∃ r, fX6_isUnder_k0 a1 = r := ⟨_, rfl⟩
  rw [h]
  unfold fX6_isUnder_k0 at h
  refine lv_iload_n hx hb dX6_isUnder_0 rfl (lv_at hl 1 rfl) ?_
  refine lv_if_eq (tgt := 12) hx hb dX6_isUnder_1 (by decide) (fun c1 => ?_) (fun c1 => ?_)
  · rw [if_pos c1] at h
    refine lv_iconst (v := 1) hx hb dX6_isUnder_12 (by decide) ?_
    refine lv_goto (tgt := 17) hx hb dX6_isUnder_13 (by decide) ?_
    subst h
    exact x_zret F hr hlk hW hS rfl dX6_isUnder_17
  · rw [if_neg c1] at h
    refine lv_iload_n hx hb dX6_isUnder_4 rfl (lv_at hl 1 rfl) ?_
    refine lv_aload_n hx hb dX6_isUnder_5 rfl (lv_at hl 0 rfl) ?_
    refine x_backi (va_runV (C := RX6) (b := (xa E (xbc 0 n))) (As := []) (rest := [.int a1]) F.1 (mX6_kind_k0 l E σ n hn) (cwV 0 hts (lw_V q637 q546 q547 q108 q573) rfl rfl rfl (by decide +kernel) ⟨Nat.le_of_ble_eq_true rfl, Nat.le_of_ble_eq_true rfl⟩) ⟨xPc.blind, va_recv hK (xO_B hW 0 n (by decide) hn) (ci := 6) (q0 := 0) rfl rfl, F.pre hW hS (.ref (xa E (xbc 0 n)) :: [])⟩ rfl rfl hl.1 rfl (lv_room (Nat.le_of_ble_eq_true rfl)) dX6_isUnder_6 ⟨Nat.le_refl _, Nat.le_refl _⟩) hS (fun H locs hW hS => ?_)
    refine lv_icmp_ne (tgt := 16) hx hb dX6_isUnder_9 (by decide) (fun c2 => ?_) (fun c2 => ?_)
    · rw [if_neg c2] at h
      refine lv_iconst (v := 0) hx hb dX6_isUnder_16 (by decide) ?_
      subst h
      exact x_zret F hr hlk hW hS rfl dX6_isUnder_17
    · rw [if_pos c2] at h
      refine lv_iconst (v := 1) hx hb dX6_isUnder_12 (by decide) ?_
      refine lv_goto (tgt := 17) hx hb dX6_isUnder_13 (by decide) ?_
      subst h
      exact x_zret F hr hlk hW hS rfl dX6_isUnder_17
/-! WildBells$Bell.isUnder(I)Z -/
def fX6_isUnder_k1 (a1 : Int32) : Int32 :=
  if a1 = 0 then 1 else (if a1 = (fX7_kind_k1) then 1 else 0)
set_option maxHeartbeats 4000000 in
theorem mX6_isUnder_k1 (l : Launch) (E : xE) (σ : xM) (n : Nat) (hn : n < 8) (a1 : Int32) : Met l yX6_isUnder (ws_ yX6_isUnder cX6_isUnder 2 (some .boolean)) ({ frames := 4, cells := 0, slots := 0, locals := 80 } : Room) (xPc E σ [.ref (xa E (xbc 1 n)), .int a1]) (xQc E (.returned (some (.int (fX6_isUnder_k1 a1)))) σ) 0 0 (xA E) := by
  refine x_of (C := RX6) (n := "isUnder") (d := "(I)Z") (r := (some .boolean)) (by decide) rfl (by first | decide | exact Nat.le_of_ble_eq_true rfl) ?_
  intro p e s m below meth c ls F hr hlk hW hS hl
  have hl : lv_has ls 2 [(0, .ref (xa E (xbc 1 n))), (1, .int a1)] := hl
  obtain ⟨hx, hb, hml, hown, hts⟩ := id F.1
  have hK := F.2.1.1
  obtain ⟨r, h⟩ : ∃ r, fX6_isUnder_k1 a1 = r := ⟨_, rfl⟩
  rw [h]
  unfold fX6_isUnder_k1 at h
  refine lv_iload_n hx hb dX6_isUnder_0 rfl (lv_at hl 1 rfl) ?_
  refine lv_if_eq (tgt := 12) hx hb dX6_isUnder_1 (by decide) (fun c1 => ?_) (fun c1 => ?_)
  · rw [if_pos c1] at h
    refine lv_iconst (v := 1) hx hb dX6_isUnder_12 (by decide) ?_
    refine lv_goto (tgt := 17) hx hb dX6_isUnder_13 (by decide) ?_
    subst h
    exact x_zret F hr hlk hW hS rfl dX6_isUnder_17
  · rw [if_neg c1] at h
    refine lv_iload_n hx hb dX6_isUnder_4 rfl (lv_at hl 1 rfl) ?_
    refine lv_aload_n hx hb dX6_isUnder_5 rfl (lv_at hl 0 rfl) ?_
    refine x_backi (va_runU (C := RX7) (owner := "WildBells$Bell") (b := (xa E (xbc 1 n))) (As := []) (rest := [.int a1]) F.1 (mX7_kind_k1 l E σ n hn) (va_cwO 0 hts (lw_O q637 q548 q546 q559 q560 q109 q561) rfl rfl rfl q573 (by decide +kernel) ⟨Nat.le_of_ble_eq_true rfl, Nat.le_of_ble_eq_true rfl⟩) ⟨xPc.blind, va_recv hK (xO_B hW 1 n (by decide) hn) (ci := 7) (q0 := 0) rfl rfl, F.pre hW hS (.ref (xa E (xbc 1 n)) :: [])⟩ rfl rfl hl.1 rfl (lv_room (Nat.le_of_ble_eq_true rfl)) dX6_isUnder_6 ⟨Nat.le_refl _, Nat.le_refl _⟩) hS (fun H locs hW hS => ?_)
    refine lv_icmp_ne (tgt := 16) hx hb dX6_isUnder_9 (by decide) (fun c2 => ?_) (fun c2 => ?_)
    · rw [if_neg c2] at h
      refine lv_iconst (v := 0) hx hb dX6_isUnder_16 (by decide) ?_
      subst h
      exact x_zret F hr hlk hW hS rfl dX6_isUnder_17
    · rw [if_pos c2] at h
      refine lv_iconst (v := 1) hx hb dX6_isUnder_12 (by decide) ?_
      refine lv_goto (tgt := 17) hx hb dX6_isUnder_13 (by decide) ?_
      subst h
      exact x_zret F hr hlk hW hS rfl dX6_isUnder_17
/-! WildBells$Herd.isUnder(I)Z -/
def fX7_isUnder_k1 (a1 : Int32) : Int32 :=
  if a1 = 1 then 1 else (if (fX6_isUnder_k1 a1) = 0 then 0 else 1)
set_option maxHeartbeats 4000000 in
theorem mX7_isUnder_k1 (l : Launch) (E : xE) (σ : xM) (n : Nat) (hn : n < 8) (a1 : Int32) : Met l yX7_isUnder (ws_ yX7_isUnder cX7_isUnder 2 (some .boolean)) ({ frames := 5, cells := 0, slots := 0, locals := 101 } : Room) (xPc E σ [.ref (xa E (xbc 1 n)), .int a1]) (xQc E (.returned (some (.int (fX7_isUnder_k1 a1)))) σ) 0 0 (xA E) := by
  refine x_of (C := RX7) (n := "isUnder") (d := "(I)Z") (r := (some .boolean)) (by decide) rfl (by first | decide | exact Nat.le_of_ble_eq_true rfl) ?_
  intro p e s m below meth c ls F hr hlk hW hS hl
  have hl : lv_has ls 2 [(0, .ref (xa E (xbc 1 n))), (1, .int a1)] := hl
  obtain ⟨hx, hb, hml, hown, hts⟩ := id F.1
  have hK := F.2.1.1
  obtain ⟨r, h⟩ : ∃ r, fX7_isUnder_k1 a1 = r := ⟨_, rfl⟩
  rw [h]
  unfold fX7_isUnder_k1 at h
  refine lv_iload_n hx hb dX7_isUnder_0 rfl (lv_at hl 1 rfl) ?_
  refine lv_iconst (v := 1) hx hb dX7_isUnder_1 (by decide) ?_
  refine lv_icmp_eq (tgt := 13) hx hb dX7_isUnder_2 (by decide) (fun c1 => ?_) (fun c1 => ?_)
  · rw [if_pos c1] at h
    refine lv_iconst (v := 1) hx hb dX7_isUnder_13 (by decide) ?_
    refine lv_goto (tgt := 18) hx hb dX7_isUnder_14 (by decide) ?_
    subst h
    exact x_zret F hr hlk hW hS rfl dX7_isUnder_18
  · rw [if_neg c1] at h
    refine lv_aload_n hx hb dX7_isUnder_5 rfl (lv_at hl 0 rfl) ?_
    refine lv_iload_n hx hb dX7_isUnder_6 rfl (lv_at hl 1 rfl) ?_
    refine x_backi (va_runSU (C := RX7) (b := (xa E (xbc 1 n))) (hK.1 7 _ rfl).2 (As := [.int a1]) (rest := []) F.1 (mX6_isUnder_k1 l E σ n hn a1) (va_cwSU 1 hts (lw_SU q631 q620 q340 q618 q108 q636) rfl rfl rfl (by decide +kernel) ⟨Nat.le_of_ble_eq_true rfl, Nat.le_of_ble_eq_true rfl⟩) ⟨xPc.blind, va_recv hK (xO_B hW 1 n (by decide) hn) (ci := 7) (q0 := 0) rfl rfl, F.pre hW hS (.ref (xa E (xbc 1 n)) :: [.int a1])⟩ rfl rfl hl.1 rfl (lv_room (Nat.le_of_ble_eq_true rfl)) dX7_isUnder_7 ⟨Nat.le_refl _, Nat.le_refl _⟩) hS (fun H locs hW hS => ?_)
    refine lv_if_eq (tgt := 17) hx hb dX7_isUnder_10 (by decide) (fun c2 => ?_) (fun c2 => ?_)
    · rw [if_pos c2] at h
      refine lv_iconst (v := 0) hx hb dX7_isUnder_17 (by decide) ?_
      subst h
      exact x_zret F hr hlk hW hS rfl dX7_isUnder_18
    · rw [if_neg c2] at h
      refine lv_iconst (v := 1) hx hb dX7_isUnder_13 (by decide) ?_
      refine lv_goto (tgt := 18) hx hb dX7_isUnder_14 (by decide) ?_
      subst h
      exact x_zret F hr hlk hW hS rfl dX7_isUnder_18
/-! WildBells$Bell.isUnder(I)Z -/
def fX6_isUnder_k2 (a1 : Int32) : Int32 :=
  if a1 = 0 then 1 else (if a1 = (fX8_kind_k2) then 1 else 0)
set_option maxHeartbeats 4000000 in
theorem mX6_isUnder_k2 (l : Launch) (E : xE) (σ : xM) (n : Nat) (hn : n < 8) (a1 : Int32) : Met l yX6_isUnder (ws_ yX6_isUnder cX6_isUnder 2 (some .boolean)) ({ frames := 4, cells := 0, slots := 0, locals := 80 } : Room) (xPc E σ [.ref (xa E (xbc 2 n)), .int a1]) (xQc E (.returned (some (.int (fX6_isUnder_k2 a1)))) σ) 0 0 (xA E) := by
  refine x_of (C := RX6) (n := "isUnder") (d := "(I)Z") (r := (some .boolean)) (by decide) rfl (by first | decide | exact Nat.le_of_ble_eq_true rfl) ?_
  intro p e s m below meth c ls F hr hlk hW hS hl
  have hl : lv_has ls 2 [(0, .ref (xa E (xbc 2 n))), (1, .int a1)] := hl
  obtain ⟨hx, hb, hml, hown, hts⟩ := id F.1
  have hK := F.2.1.1
  obtain ⟨r, h⟩ : ∃ r, fX6_isUnder_k2 a1 = r := ⟨_, rfl⟩
  rw [h]
  unfold fX6_isUnder_k2 at h
  refine lv_iload_n hx hb dX6_isUnder_0 rfl (lv_at hl 1 rfl) ?_
  refine lv_if_eq (tgt := 12) hx hb dX6_isUnder_1 (by decide) (fun c1 => ?_) (fun c1 => ?_)
  · rw [if_pos c1] at h
    refine lv_iconst (v := 1) hx hb dX6_isUnder_12 (by decide) ?_
    refine lv_goto (tgt := 17) hx hb dX6_isUnder_13 (by decide) ?_
    subst h
    exact x_zret F hr hlk hW hS rfl dX6_isUnder_17
  · rw [if_neg c1] at h
    refine lv_iload_n hx hb dX6_isUnder_4 rfl (lv_at hl 1 rfl) ?_
    refine lv_aload_n hx hb dX6_isUnder_5 rfl (lv_at hl 0 rfl) ?_
    refine x_backi (va_runU (C := RX8) (owner := "WildBells$Bell") (b := (xa E (xbc 2 n))) (As := []) (rest := [.int a1]) F.1 (mX8_kind_k2 l E σ n hn) (va_cwO 0 hts (lw_O q637 q548 q546 q563 q556 q110 q557) rfl rfl rfl q573 (by decide +kernel) ⟨Nat.le_of_ble_eq_true rfl, Nat.le_of_ble_eq_true rfl⟩) ⟨xPc.blind, va_recv hK (xO_B hW 2 n (by decide) hn) (ci := 8) (q0 := 0) rfl rfl, F.pre hW hS (.ref (xa E (xbc 2 n)) :: [])⟩ rfl rfl hl.1 rfl (lv_room (Nat.le_of_ble_eq_true rfl)) dX6_isUnder_6 ⟨Nat.le_refl _, Nat.le_refl _⟩) hS (fun H locs hW hS => ?_)
    refine lv_icmp_ne (tgt := 16) hx hb dX6_isUnder_9 (by decide) (fun c2 => ?_) (fun c2 => ?_)
    · rw [if_neg c2] at h
      refine lv_iconst (v := 0) hx hb dX6_isUnder_16 (by decide) ?_
      subst h
      exact x_zret F hr hlk hW hS rfl dX6_isUnder_17
    · rw [if_pos c2] at h
      refine lv_iconst (v := 1) hx hb dX6_isUnder_12 (by decide) ?_
      refine lv_goto (tgt := 17) hx hb dX6_isUnder_13 (by decide) ?_
      subst h
      exact x_zret F hr hlk hW hS rfl dX6_isUnder_17
/-! WildBells$Lone.isUnder(I)Z -/
def fX8_isUnder_k2 (a1 : Int32) : Int32 :=
  if a1 = 2 then 1 else (if (fX6_isUnder_k2 a1) = 0 then 0 else 1)
set_option maxHeartbeats 4000000 in
theorem mX8_isUnder_k2 (l : Launch) (E : xE) (σ : xM) (n : Nat) (hn : n < 8) (a1 : Int32) : Met l yX8_isUnder (ws_ yX8_isUnder cX8_isUnder 2 (some .boolean)) ({ frames := 5, cells := 0, slots := 0, locals := 101 } : Room) (xPc E σ [.ref (xa E (xbc 2 n)), .int a1]) (xQc E (.returned (some (.int (fX8_isUnder_k2 a1)))) σ) 0 0 (xA E) := by
  refine x_of (C := RX8) (n := "isUnder") (d := "(I)Z") (r := (some .boolean)) (by decide) rfl (by first | decide | exact Nat.le_of_ble_eq_true rfl) ?_
  intro p e s m below meth c ls F hr hlk hW hS hl
  have hl : lv_has ls 2 [(0, .ref (xa E (xbc 2 n))), (1, .int a1)] := hl
  obtain ⟨hx, hb, hml, hown, hts⟩ := id F.1
  have hK := F.2.1.1
  obtain ⟨r, h⟩ : ∃ r, fX8_isUnder_k2 a1 = r := ⟨_, rfl⟩
  rw [h]
  unfold fX8_isUnder_k2 at h
  refine lv_iload_n hx hb dX8_isUnder_0 rfl (lv_at hl 1 rfl) ?_
  refine lv_iconst (v := 2) hx hb dX8_isUnder_1 (by decide) ?_
  refine lv_icmp_eq (tgt := 13) hx hb dX8_isUnder_2 (by decide) (fun c1 => ?_) (fun c1 => ?_)
  · rw [if_pos c1] at h
    refine lv_iconst (v := 1) hx hb dX8_isUnder_13 (by decide) ?_
    refine lv_goto (tgt := 18) hx hb dX8_isUnder_14 (by decide) ?_
    subst h
    exact x_zret F hr hlk hW hS rfl dX8_isUnder_18
  · rw [if_neg c1] at h
    refine lv_aload_n hx hb dX8_isUnder_5 rfl (lv_at hl 0 rfl) ?_
    refine lv_iload_n hx hb dX8_isUnder_6 rfl (lv_at hl 1 rfl) ?_
    refine x_backi (va_runSU (C := RX8) (b := (xa E (xbc 2 n))) (hK.1 8 _ rfl).2 (As := [.int a1]) (rest := []) F.1 (mX6_isUnder_k2 l E σ n hn a1) (va_cwSU 1 hts (lw_SU q627 q620 q352 q618 q108 q636) rfl rfl rfl (by decide +kernel) ⟨Nat.le_of_ble_eq_true rfl, Nat.le_of_ble_eq_true rfl⟩) ⟨xPc.blind, va_recv hK (xO_B hW 2 n (by decide) hn) (ci := 8) (q0 := 0) rfl rfl, F.pre hW hS (.ref (xa E (xbc 2 n)) :: [.int a1])⟩ rfl rfl hl.1 rfl (lv_room (Nat.le_of_ble_eq_true rfl)) dX8_isUnder_7 ⟨Nat.le_refl _, Nat.le_refl _⟩) hS (fun H locs hW hS => ?_)
    refine lv_if_eq (tgt := 17) hx hb dX8_isUnder_10 (by decide) (fun c2 => ?_) (fun c2 => ?_)
    · rw [if_pos c2] at h
      refine lv_iconst (v := 0) hx hb dX8_isUnder_17 (by decide) ?_
      subst h
      exact x_zret F hr hlk hW hS rfl dX8_isUnder_18
    · rw [if_neg c2] at h
      refine lv_iconst (v := 1) hx hb dX8_isUnder_13 (by decide) ?_
      refine lv_goto (tgt := 18) hx hb dX8_isUnder_14 (by decide) ?_
      subst h
      exact x_zret F hr hlk hW hS rfl dX8_isUnder_18
/-! WildBells$Bell.isUnder(I)Z -/
def fX6_isUnder_k3 (a1 : Int32) : Int32 :=
  if a1 = 0 then 1 else (if a1 = (fX9_kind_k3) then 1 else 0)
set_option maxHeartbeats 4000000 in
theorem mX6_isUnder_k3 (l : Launch) (E : xE) (σ : xM) (n : Nat) (hn : n < 8) (a1 : Int32) : Met l yX6_isUnder (ws_ yX6_isUnder cX6_isUnder 2 (some .boolean)) ({ frames := 4, cells := 0, slots := 0, locals := 80 } : Room) (xPc E σ [.ref (xa E (xbc 3 n)), .int a1]) (xQc E (.returned (some (.int (fX6_isUnder_k3 a1)))) σ) 0 0 (xA E) := by
  refine x_of (C := RX6) (n := "isUnder") (d := "(I)Z") (r := (some .boolean)) (by decide) rfl (by first | decide | exact Nat.le_of_ble_eq_true rfl) ?_
  intro p e s m below meth c ls F hr hlk hW hS hl
  have hl : lv_has ls 2 [(0, .ref (xa E (xbc 3 n))), (1, .int a1)] := hl
  obtain ⟨hx, hb, hml, hown, hts⟩ := id F.1
  have hK := F.2.1.1
  obtain ⟨r, h⟩ : ∃ r, fX6_isUnder_k3 a1 = r := ⟨_, rfl⟩
  rw [h]
  unfold fX6_isUnder_k3 at h
  refine lv_iload_n hx hb dX6_isUnder_0 rfl (lv_at hl 1 rfl) ?_
  refine lv_if_eq (tgt := 12) hx hb dX6_isUnder_1 (by decide) (fun c1 => ?_) (fun c1 => ?_)
  · rw [if_pos c1] at h
    refine lv_iconst (v := 1) hx hb dX6_isUnder_12 (by decide) ?_
    refine lv_goto (tgt := 17) hx hb dX6_isUnder_13 (by decide) ?_
    subst h
    exact x_zret F hr hlk hW hS rfl dX6_isUnder_17
  · rw [if_neg c1] at h
    refine lv_iload_n hx hb dX6_isUnder_4 rfl (lv_at hl 1 rfl) ?_
    refine lv_aload_n hx hb dX6_isUnder_5 rfl (lv_at hl 0 rfl) ?_
    refine x_backi (va_runU (C := RX9) (owner := "WildBells$Bell") (b := (xa E (xbc 3 n))) (As := []) (rest := [.int a1]) F.1 (mX9_kind_k3 l E σ n hn) (va_cwO 0 hts (lw_O q637 q548 q546 q568 q553 q111 q554) rfl rfl rfl q573 (by decide +kernel) ⟨Nat.le_of_ble_eq_true rfl, Nat.le_of_ble_eq_true rfl⟩) ⟨xPc.blind, va_recv hK (xO_B hW 3 n (by decide) hn) (ci := 9) (q0 := 0) rfl rfl, F.pre hW hS (.ref (xa E (xbc 3 n)) :: [])⟩ rfl rfl hl.1 rfl (lv_room (Nat.le_of_ble_eq_true rfl)) dX6_isUnder_6 ⟨Nat.le_refl _, Nat.le_refl _⟩) hS (fun H locs hW hS => ?_)
    refine lv_icmp_ne (tgt := 16) hx hb dX6_isUnder_9 (by decide) (fun c2 => ?_) (fun c2 => ?_)
    · rw [if_neg c2] at h
      refine lv_iconst (v := 0) hx hb dX6_isUnder_16 (by decide) ?_
      subst h
      exact x_zret F hr hlk hW hS rfl dX6_isUnder_17
    · rw [if_pos c2] at h
      refine lv_iconst (v := 1) hx hb dX6_isUnder_12 (by decide) ?_
      refine lv_goto (tgt := 17) hx hb dX6_isUnder_13 (by decide) ?_
      subst h
      exact x_zret F hr hlk hW hS rfl dX6_isUnder_17
/-! WildBells$Lone.isUnder(I)Z -/
def fX8_isUnder_k3 (a1 : Int32) : Int32 :=
  if a1 = 2 then 1 else (if (fX6_isUnder_k3 a1) = 0 then 0 else 1)
set_option maxHeartbeats 4000000 in
theorem mX8_isUnder_k3 (l : Launch) (E : xE) (σ : xM) (n : Nat) (hn : n < 8) (a1 : Int32) : Met l yX8_isUnder (ws_ yX8_isUnder cX8_isUnder 2 (some .boolean)) ({ frames := 5, cells := 0, slots := 0, locals := 101 } : Room) (xPc E σ [.ref (xa E (xbc 3 n)), .int a1]) (xQc E (.returned (some (.int (fX8_isUnder_k3 a1)))) σ) 0 0 (xA E) := by
  refine x_of (C := RX8) (n := "isUnder") (d := "(I)Z") (r := (some .boolean)) (by decide) rfl (by first | decide | exact Nat.le_of_ble_eq_true rfl) ?_
  intro p e s m below meth c ls F hr hlk hW hS hl
  have hl : lv_has ls 2 [(0, .ref (xa E (xbc 3 n))), (1, .int a1)] := hl
  obtain ⟨hx, hb, hml, hown, hts⟩ := id F.1
  have hK := F.2.1.1
  obtain ⟨r, h⟩ : ∃ r, fX8_isUnder_k3 a1 = r := ⟨_, rfl⟩
  rw [h]
  unfold fX8_isUnder_k3 at h
  refine lv_iload_n hx hb dX8_isUnder_0 rfl (lv_at hl 1 rfl) ?_
  refine lv_iconst (v := 2) hx hb dX8_isUnder_1 (by decide) ?_
  refine lv_icmp_eq (tgt := 13) hx hb dX8_isUnder_2 (by decide) (fun c1 => ?_) (fun c1 => ?_)
  · rw [if_pos c1] at h
    refine lv_iconst (v := 1) hx hb dX8_isUnder_13 (by decide) ?_
    refine lv_goto (tgt := 18) hx hb dX8_isUnder_14 (by decide) ?_
    subst h
    exact x_zret F hr hlk hW hS rfl dX8_isUnder_18
  · rw [if_neg c1] at h
    refine lv_aload_n hx hb dX8_isUnder_5 rfl (lv_at hl 0 rfl) ?_
    refine lv_iload_n hx hb dX8_isUnder_6 rfl (lv_at hl 1 rfl) ?_
    refine x_backi (va_runSU (C := RX9) (b := (xa E (xbc 3 n))) (hK.1 9 _ rfl).2 (As := [.int a1]) (rest := []) F.1 (mX6_isUnder_k3 l E σ n hn a1) (va_cwSU 1 hts (lw_SU q627 q620 q352 q618 q108 q636) rfl rfl rfl (by decide +kernel) ⟨Nat.le_of_ble_eq_true rfl, Nat.le_of_ble_eq_true rfl⟩) ⟨xPc.blind, va_recv hK (xO_B hW 3 n (by decide) hn) (ci := 9) (q0 := 0) rfl rfl, F.pre hW hS (.ref (xa E (xbc 3 n)) :: [.int a1])⟩ rfl rfl hl.1 rfl (lv_room (Nat.le_of_ble_eq_true rfl)) dX8_isUnder_7 ⟨Nat.le_refl _, Nat.le_refl _⟩) hS (fun H locs hW hS => ?_)
    refine lv_if_eq (tgt := 17) hx hb dX8_isUnder_10 (by decide) (fun c2 => ?_) (fun c2 => ?_)
    · rw [if_pos c2] at h
      refine lv_iconst (v := 0) hx hb dX8_isUnder_17 (by decide) ?_
      subst h
      exact x_zret F hr hlk hW hS rfl dX8_isUnder_18
    · rw [if_neg c2] at h
      refine lv_iconst (v := 1) hx hb dX8_isUnder_13 (by decide) ?_
      refine lv_goto (tgt := 18) hx hb dX8_isUnder_14 (by decide) ?_
      subst h
      exact x_zret F hr hlk hW hS rfl dX8_isUnder_18
/-! WildBells$Tenor.isUnder(I)Z -/
def fX9_isUnder_k3 (a1 : Int32) : Int32 :=
  if a1 = 3 then 1 else (if (fX8_isUnder_k3 a1) = 0 then 0 else 1)
set_option maxHeartbeats 4000000 in
theorem mX9_isUnder_k3 (l : Launch) (E : xE) (σ : xM) (n : Nat) (hn : n < 8) (a1 : Int32) : Met l yX9_isUnder (ws_ yX9_isUnder cX9_isUnder 2 (some .boolean)) ({ frames := 6, cells := 0, slots := 0, locals := 122 } : Room) (xPc E σ [.ref (xa E (xbc 3 n)), .int a1]) (xQc E (.returned (some (.int (fX9_isUnder_k3 a1)))) σ) 0 0 (xA E) := by
  refine x_of (C := RX9) (n := "isUnder") (d := "(I)Z") (r := (some .boolean)) (by decide) rfl (by first | decide | exact Nat.le_of_ble_eq_true rfl) ?_
  intro p e s m below meth c ls F hr hlk hW hS hl
  have hl : lv_has ls 2 [(0, .ref (xa E (xbc 3 n))), (1, .int a1)] := hl
  obtain ⟨hx, hb, hml, hown, hts⟩ := id F.1
  have hK := F.2.1.1
  obtain ⟨r, h⟩ : ∃ r, fX9_isUnder_k3 a1 = r := ⟨_, rfl⟩
  rw [h]
  unfold fX9_isUnder_k3 at h
  refine lv_iload_n hx hb dX9_isUnder_0 rfl (lv_at hl 1 rfl) ?_
  refine lv_iconst (v := 3) hx hb dX9_isUnder_1 (by decide) ?_
  refine lv_icmp_eq (tgt := 13) hx hb dX9_isUnder_2 (by decide) (fun c1 => ?_) (fun c1 => ?_)
  · rw [if_pos c1] at h
    refine lv_iconst (v := 1) hx hb dX9_isUnder_13 (by decide) ?_
    refine lv_goto (tgt := 18) hx hb dX9_isUnder_14 (by decide) ?_
    subst h
    exact x_zret F hr hlk hW hS rfl dX9_isUnder_18
  · rw [if_neg c1] at h
    refine lv_aload_n hx hb dX9_isUnder_5 rfl (lv_at hl 0 rfl) ?_
    refine lv_iload_n hx hb dX9_isUnder_6 rfl (lv_at hl 1 rfl) ?_
    refine x_backi (va_runSU (C := RX9) (b := (xa E (xbc 3 n))) (hK.1 9 _ rfl).2 (As := [.int a1]) (rest := []) F.1 (mX8_isUnder_k3 l E σ n hn a1) (va_cwSU 1 hts (lw_SU q624 q1735 q365 q625 q110 q626) rfl rfl rfl (by decide +kernel) ⟨Nat.le_of_ble_eq_true rfl, Nat.le_of_ble_eq_true rfl⟩) ⟨xPc.blind, va_recv hK (xO_B hW 3 n (by decide) hn) (ci := 9) (q0 := 0) rfl rfl, F.pre hW hS (.ref (xa E (xbc 3 n)) :: [.int a1])⟩ rfl rfl hl.1 rfl (lv_room (Nat.le_of_ble_eq_true rfl)) dX9_isUnder_7 ⟨Nat.le_refl _, Nat.le_refl _⟩) hS (fun H locs hW hS => ?_)
    refine lv_if_eq (tgt := 17) hx hb dX9_isUnder_10 (by decide) (fun c2 => ?_) (fun c2 => ?_)
    · rw [if_pos c2] at h
      refine lv_iconst (v := 0) hx hb dX9_isUnder_17 (by decide) ?_
      subst h
      exact x_zret F hr hlk hW hS rfl dX9_isUnder_18
    · rw [if_neg c2] at h
      refine lv_iconst (v := 1) hx hb dX9_isUnder_13 (by decide) ?_
      refine lv_goto (tgt := 18) hx hb dX9_isUnder_14 (by decide) ?_
      subst h
      exact x_zret F hr hlk hW hS rfl dX9_isUnder_18
/-! WildBells$Bell.isUnder(I)Z -/
def fX6_isUnder_k4 (a1 : Int32) : Int32 :=
  if a1 = 0 then 1 else (if a1 = (fX10_kind_k4) then 1 else 0)
set_option maxHeartbeats 4000000 in
theorem mX6_isUnder_k4 (l : Launch) (E : xE) (σ : xM) (n : Nat) (hn : n < 8) (a1 : Int32) : Met l yX6_isUnder (ws_ yX6_isUnder cX6_isUnder 2 (some .boolean)) ({ frames := 4, cells := 0, slots := 0, locals := 80 } : Room) (xPc E σ [.ref (xa E (xbc 4 n)), .int a1]) (xQc E (.returned (some (.int (fX6_isUnder_k4 a1)))) σ) 0 0 (xA E) := by
  refine x_of (C := RX6) (n := "isUnder") (d := "(I)Z") (r := (some .boolean)) (by decide) rfl (by first | decide | exact Nat.le_of_ble_eq_true rfl) ?_
  intro p e s m below meth c ls F hr hlk hW hS hl
  have hl : lv_has ls 2 [(0, .ref (xa E (xbc 4 n))), (1, .int a1)] := hl
  obtain ⟨hx, hb, hml, hown, hts⟩ := id F.1
  have hK := F.2.1.1
  obtain ⟨r, h⟩ : ∃ r, fX6_isUnder_k4 a1 = r := ⟨_, rfl⟩
  rw [h]
  unfold fX6_isUnder_k4 at h
  refine lv_iload_n hx hb dX6_isUnder_0 rfl (lv_at hl 1 rfl) ?_
  refine lv_if_eq (tgt := 12) hx hb dX6_isUnder_1 (by decide) (fun c1 => ?_) (fun c1 => ?_)
  · rw [if_pos c1] at h
    refine lv_iconst (v := 1) hx hb dX6_isUnder_12 (by decide) ?_
    refine lv_goto (tgt := 17) hx hb dX6_isUnder_13 (by decide) ?_
    subst h
    exact x_zret F hr hlk hW hS rfl dX6_isUnder_17
  · rw [if_neg c1] at h
    refine lv_iload_n hx hb dX6_isUnder_4 rfl (lv_at hl 1 rfl) ?_
    refine lv_aload_n hx hb dX6_isUnder_5 rfl (lv_at hl 0 rfl) ?_
    refine x_backi (va_runU (C := RX10) (owner := "WildBells$Bell") (b := (xa E (xbc 4 n))) (As := []) (rest := [.int a1]) F.1 (mX10_kind_k4 l E σ n hn) (va_cwO 0 hts (lw_O q637 q548 q546 q549 q550 q112 q551) rfl rfl rfl q573 (by decide +kernel) ⟨Nat.le_of_ble_eq_true rfl, Nat.le_of_ble_eq_true rfl⟩) ⟨xPc.blind, va_recv hK (xO_B hW 4 n (by decide) hn) (ci := 10) (q0 := 0) rfl rfl, F.pre hW hS (.ref (xa E (xbc 4 n)) :: [])⟩ rfl rfl hl.1 rfl (lv_room (Nat.le_of_ble_eq_true rfl)) dX6_isUnder_6 ⟨Nat.le_refl _, Nat.le_refl _⟩) hS (fun H locs hW hS => ?_)
    refine lv_icmp_ne (tgt := 16) hx hb dX6_isUnder_9 (by decide) (fun c2 => ?_) (fun c2 => ?_)
    · rw [if_neg c2] at h
      refine lv_iconst (v := 0) hx hb dX6_isUnder_16 (by decide) ?_
      subst h
      exact x_zret F hr hlk hW hS rfl dX6_isUnder_17
    · rw [if_pos c2] at h
      refine lv_iconst (v := 1) hx hb dX6_isUnder_12 (by decide) ?_
      refine lv_goto (tgt := 17) hx hb dX6_isUnder_13 (by decide) ?_
      subst h
      exact x_zret F hr hlk hW hS rfl dX6_isUnder_17
/-! WildBells$Lone.isUnder(I)Z -/
def fX8_isUnder_k4 (a1 : Int32) : Int32 :=
  if a1 = 2 then 1 else (if (fX6_isUnder_k4 a1) = 0 then 0 else 1)
set_option maxHeartbeats 4000000 in
theorem mX8_isUnder_k4 (l : Launch) (E : xE) (σ : xM) (n : Nat) (hn : n < 8) (a1 : Int32) : Met l yX8_isUnder (ws_ yX8_isUnder cX8_isUnder 2 (some .boolean)) ({ frames := 5, cells := 0, slots := 0, locals := 101 } : Room) (xPc E σ [.ref (xa E (xbc 4 n)), .int a1]) (xQc E (.returned (some (.int (fX8_isUnder_k4 a1)))) σ) 0 0 (xA E) := by
  refine x_of (C := RX8) (n := "isUnder") (d := "(I)Z") (r := (some .boolean)) (by decide) rfl (by first | decide | exact Nat.le_of_ble_eq_true rfl) ?_
  intro p e s m below meth c ls F hr hlk hW hS hl
  have hl : lv_has ls 2 [(0, .ref (xa E (xbc 4 n))), (1, .int a1)] := hl
  obtain ⟨hx, hb, hml, hown, hts⟩ := id F.1
  have hK := F.2.1.1
  obtain ⟨r, h⟩ : ∃ r, fX8_isUnder_k4 a1 = r := ⟨_, rfl⟩
  rw [h]
  unfold fX8_isUnder_k4 at h
  refine lv_iload_n hx hb dX8_isUnder_0 rfl (lv_at hl 1 rfl) ?_
  refine lv_iconst (v := 2) hx hb dX8_isUnder_1 (by decide) ?_
  refine lv_icmp_eq (tgt := 13) hx hb dX8_isUnder_2 (by decide) (fun c1 => ?_) (fun c1 => ?_)
  · rw [if_pos c1] at h
    refine lv_iconst (v := 1) hx hb dX8_isUnder_13 (by decide) ?_
    refine lv_goto (tgt := 18) hx hb dX8_isUnder_14 (by decide) ?_
    subst h
    exact x_zret F hr hlk hW hS rfl dX8_isUnder_18
  · rw [if_neg c1] at h
    refine lv_aload_n hx hb dX8_isUnder_5 rfl (lv_at hl 0 rfl) ?_
    refine lv_iload_n hx hb dX8_isUnder_6 rfl (lv_at hl 1 rfl) ?_
    refine x_backi (va_runSU (C := RX10) (b := (xa E (xbc 4 n))) (hK.1 10 _ rfl).2 (As := [.int a1]) (rest := []) F.1 (mX6_isUnder_k4 l E σ n hn a1) (va_cwSU 1 hts (lw_SU q627 q620 q352 q618 q108 q636) rfl rfl rfl (by decide +kernel) ⟨Nat.le_of_ble_eq_true rfl, Nat.le_of_ble_eq_true rfl⟩) ⟨xPc.blind, va_recv hK (xO_B hW 4 n (by decide) hn) (ci := 10) (q0 := 0) rfl rfl, F.pre hW hS (.ref (xa E (xbc 4 n)) :: [.int a1])⟩ rfl rfl hl.1 rfl (lv_room (Nat.le_of_ble_eq_true rfl)) dX8_isUnder_7 ⟨Nat.le_refl _, Nat.le_refl _⟩) hS (fun H locs hW hS => ?_)
    refine lv_if_eq (tgt := 17) hx hb dX8_isUnder_10 (by decide) (fun c2 => ?_) (fun c2 => ?_)
    · rw [if_pos c2] at h
      refine lv_iconst (v := 0) hx hb dX8_isUnder_17 (by decide) ?_
      subst h
      exact x_zret F hr hlk hW hS rfl dX8_isUnder_18
    · rw [if_neg c2] at h
      refine lv_iconst (v := 1) hx hb dX8_isUnder_13 (by decide) ?_
      refine lv_goto (tgt := 18) hx hb dX8_isUnder_14 (by decide) ?_
      subst h
      exact x_zret F hr hlk hW hS rfl dX8_isUnder_18
/-! WildBells$Tenor.isUnder(I)Z -/
def fX9_isUnder_k4 (a1 : Int32) : Int32 :=
  if a1 = 3 then 1 else (if (fX8_isUnder_k4 a1) = 0 then 0 else 1)
set_option maxHeartbeats 4000000 in
theorem mX9_isUnder_k4 (l : Launch) (E : xE) (σ : xM) (n : Nat) (hn : n < 8) (a1 : Int32) : Met l yX9_isUnder (ws_ yX9_isUnder cX9_isUnder 2 (some .boolean)) ({ frames := 6, cells := 0, slots := 0, locals := 122 } : Room) (xPc E σ [.ref (xa E (xbc 4 n)), .int a1]) (xQc E (.returned (some (.int (fX9_isUnder_k4 a1)))) σ) 0 0 (xA E) := by
  refine x_of (C := RX9) (n := "isUnder") (d := "(I)Z") (r := (some .boolean)) (by decide) rfl (by first | decide | exact Nat.le_of_ble_eq_true rfl) ?_
  intro p e s m below meth c ls F hr hlk hW hS hl
  have hl : lv_has ls 2 [(0, .ref (xa E (xbc 4 n))), (1, .int a1)] := hl
  obtain ⟨hx, hb, hml, hown, hts⟩ := id F.1
  have hK := F.2.1.1
  obtain ⟨r, h⟩ : ∃ r, fX9_isUnder_k4 a1 = r := ⟨_, rfl⟩
  rw [h]
  unfold fX9_isUnder_k4 at h
  refine lv_iload_n hx hb dX9_isUnder_0 rfl (lv_at hl 1 rfl) ?_
  refine lv_iconst (v := 3) hx hb dX9_isUnder_1 (by decide) ?_
  refine lv_icmp_eq (tgt := 13) hx hb dX9_isUnder_2 (by decide) (fun c1 => ?_) (fun c1 => ?_)
  · rw [if_pos c1] at h
    refine lv_iconst (v := 1) hx hb dX9_isUnder_13 (by decide) ?_
    refine lv_goto (tgt := 18) hx hb dX9_isUnder_14 (by decide) ?_
    subst h
    exact x_zret F hr hlk hW hS rfl dX9_isUnder_18
  · rw [if_neg c1] at h
    refine lv_aload_n hx hb dX9_isUnder_5 rfl (lv_at hl 0 rfl) ?_
    refine lv_iload_n hx hb dX9_isUnder_6 rfl (lv_at hl 1 rfl) ?_
    refine x_backi (va_runSU (C := RX10) (b := (xa E (xbc 4 n))) (hK.1 10 _ rfl).2 (As := [.int a1]) (rest := []) F.1 (mX8_isUnder_k4 l E σ n hn a1) (va_cwSU 1 hts (lw_SU q624 q1735 q365 q625 q110 q626) rfl rfl rfl (by decide +kernel) ⟨Nat.le_of_ble_eq_true rfl, Nat.le_of_ble_eq_true rfl⟩) ⟨xPc.blind, va_recv hK (xO_B hW 4 n (by decide) hn) (ci := 10) (q0 := 0) rfl rfl, F.pre hW hS (.ref (xa E (xbc 4 n)) :: [.int a1])⟩ rfl rfl hl.1 rfl (lv_room (Nat.le_of_ble_eq_true rfl)) dX9_isUnder_7 ⟨Nat.le_refl _, Nat.le_refl _⟩) hS (fun H locs hW hS => ?_)
    refine lv_if_eq (tgt := 17) hx hb dX9_isUnder_10 (by decide) (fun c2 => ?_) (fun c2 => ?_)
    · rw [if_pos c2] at h
      refine lv_iconst (v := 0) hx hb dX9_isUnder_17 (by decide) ?_
      subst h
      exact x_zret F hr hlk hW hS rfl dX9_isUnder_18
    · rw [if_neg c2] at h
      refine lv_iconst (v := 1) hx hb dX9_isUnder_13 (by decide) ?_
      refine lv_goto (tgt := 18) hx hb dX9_isUnder_14 (by decide) ?_
      subst h
      exact x_zret F hr hlk hW hS rfl dX9_isUnder_18
/-! WildBells$Bell.isUnder(I)Z -/
def fX6_isUnder_k5 (a1 : Int32) : Int32 :=
  if a1 = 0 then 1 else (if a1 = (fX11_kind_k5) then 1 else 0)
set_option maxHeartbeats 4000000 in
theorem mX6_isUnder_k5 (l : Launch) (E : xE) (σ : xM) (n : Nat) (hn : n < 8) (a1 : Int32) : Met l yX6_isUnder (ws_ yX6_isUnder cX6_isUnder 2 (some .boolean)) ({ frames := 4, cells := 0, slots := 0, locals := 80 } : Room) (xPc E σ [.ref (xa E (xbc 5 n)), .int a1]) (xQc E (.returned (some (.int (fX6_isUnder_k5 a1)))) σ) 0 0 (xA E) := by
  refine x_of (C := RX6) (n := "isUnder") (d := "(I)Z") (r := (some .boolean)) (by decide) rfl (by first | decide | exact Nat.le_of_ble_eq_true rfl) ?_
  intro p e s m below meth c ls F hr hlk hW hS hl
  have hl : lv_has ls 2 [(0, .ref (xa E (xbc 5 n))), (1, .int a1)] := hl
  obtain ⟨hx, hb, hml, hown, hts⟩ := id F.1
  have hK := F.2.1.1
  obtain ⟨r, h⟩ : ∃ r, fX6_isUnder_k5 a1 = r := ⟨_, rfl⟩
  rw [h]
  unfold fX6_isUnder_k5 at h
  refine lv_iload_n hx hb dX6_isUnder_0 rfl (lv_at hl 1 rfl) ?_
  refine lv_if_eq (tgt := 12) hx hb dX6_isUnder_1 (by decide) (fun c1 => ?_) (fun c1 => ?_)
  · rw [if_pos c1] at h
    refine lv_iconst (v := 1) hx hb dX6_isUnder_12 (by decide) ?_
    refine lv_goto (tgt := 17) hx hb dX6_isUnder_13 (by decide) ?_
    subst h
    exact x_zret F hr hlk hW hS rfl dX6_isUnder_17
  · rw [if_neg c1] at h
    refine lv_iload_n hx hb dX6_isUnder_4 rfl (lv_at hl 1 rfl) ?_
    refine lv_aload_n hx hb dX6_isUnder_5 rfl (lv_at hl 0 rfl) ?_
    refine x_backi (va_runU (C := RX11) (owner := "WildBells$Bell") (b := (xa E (xbc 5 n))) (As := []) (rest := [.int a1]) F.1 (mX11_kind_k5 l E σ n hn) (va_cwO 0 hts (lw_O q637 q548 q546 q564 q565 q113 q566) rfl rfl rfl q573 (by decide +kernel) ⟨Nat.le_of_ble_eq_true rfl, Nat.le_of_ble_eq_true rfl⟩) ⟨xPc.blind, va_recv hK (xO_B hW 5 n (by decide) hn) (ci := 11) (q0 := 0) rfl rfl, F.pre hW hS (.ref (xa E (xbc 5 n)) :: [])⟩ rfl rfl hl.1 rfl (lv_room (Nat.le_of_ble_eq_true rfl)) dX6_isUnder_6 ⟨Nat.le_refl _, Nat.le_refl _⟩) hS (fun H locs hW hS => ?_)
    refine lv_icmp_ne (tgt := 16) hx hb dX6_isUnder_9 (by decide) (fun c2 => ?_) (fun c2 => ?_)
    · rw [if_neg c2] at h
      refine lv_iconst (v := 0) hx hb dX6_isUnder_16 (by decide) ?_
      subst h
      exact x_zret F hr hlk hW hS rfl dX6_isUnder_17
    · rw [if_pos c2] at h
      refine lv_iconst (v := 1) hx hb dX6_isUnder_12 (by decide) ?_
      refine lv_goto (tgt := 17) hx hb dX6_isUnder_13 (by decide) ?_
      subst h
      exact x_zret F hr hlk hW hS rfl dX6_isUnder_17
/-! WildBells$Bell.isUnder(I)Z -/
def fX6_isUnder_k6 (a1 : Int32) : Int32 :=
  if a1 = 0 then 1 else (if a1 = (fX12_kind_k6) then 1 else 0)
set_option maxHeartbeats 4000000 in
theorem mX6_isUnder_k6 (l : Launch) (E : xE) (σ : xM) (n : Nat) (hn : n < 8) (a1 : Int32) : Met l yX6_isUnder (ws_ yX6_isUnder cX6_isUnder 2 (some .boolean)) ({ frames := 4, cells := 0, slots := 0, locals := 80 } : Room) (xPc E σ [.ref (xa E (xbc 6 n)), .int a1]) (xQc E (.returned (some (.int (fX6_isUnder_k6 a1)))) σ) 0 0 (xA E) := by
  refine x_of (C := RX6) (n := "isUnder") (d := "(I)Z") (r := (some .boolean)) (by decide) rfl (by first | decide | exact Nat.le_of_ble_eq_true rfl) ?_
  intro p e s m below meth c ls F hr hlk hW hS hl
  have hl : lv_has ls 2 [(0, .ref (xa E (xbc 6 n))), (1, .int a1)] := hl
  obtain ⟨hx, hb, hml, hown, hts⟩ := id F.1
  have hK := F.2.1.1
  obtain ⟨r, h⟩ : ∃ r, fX6_isUnder_k6 a1 = r := ⟨_, rfl⟩
  rw [h]
  unfold fX6_isUnder_k6 at h
  refine lv_iload_n hx hb dX6_isUnder_0 rfl (lv_at hl 1 rfl) ?_
  refine lv_if_eq (tgt := 12) hx hb dX6_isUnder_1 (by decide) (fun c1 => ?_) (fun c1 => ?_)
  · rw [if_pos c1] at h
    refine lv_iconst (v := 1) hx hb dX6_isUnder_12 (by decide) ?_
    refine lv_goto (tgt := 17) hx hb dX6_isUnder_13 (by decide) ?_
    subst h
    exact x_zret F hr hlk hW hS rfl dX6_isUnder_17
  · rw [if_neg c1] at h
    refine lv_iload_n hx hb dX6_isUnder_4 rfl (lv_at hl 1 rfl) ?_
    refine lv_aload_n hx hb dX6_isUnder_5 rfl (lv_at hl 0 rfl) ?_
    refine x_backi (va_runU (C := RX12) (owner := "WildBells$Bell") (b := (xa E (xbc 6 n))) (As := []) (rest := [.int a1]) F.1 (mX12_kind_k6 l E σ n hn) (va_cwO 0 hts (lw_O q637 q548 q546 q569 q570 q114 q571) rfl rfl rfl q573 (by decide +kernel) ⟨Nat.le_of_ble_eq_true rfl, Nat.le_of_ble_eq_true rfl⟩) ⟨xPc.blind, va_recv hK (xO_B hW 6 n (by decide) hn) (ci := 12) (q0 := 0) rfl rfl, F.pre hW hS (.ref (xa E (xbc 6 n)) :: [])⟩ rfl rfl hl.1 rfl (lv_room (Nat.le_of_ble_eq_true rfl)) dX6_isUnder_6 ⟨Nat.le_refl _, Nat.le_refl _⟩) hS (fun H locs hW hS => ?_)
    refine lv_icmp_ne (tgt := 16) hx hb dX6_isUnder_9 (by decide) (fun c2 => ?_) (fun c2 => ?_)
    · rw [if_neg c2] at h
      refine lv_iconst (v := 0) hx hb dX6_isUnder_16 (by decide) ?_
      subst h
      exact x_zret F hr hlk hW hS rfl dX6_isUnder_17
    · rw [if_pos c2] at h
      refine lv_iconst (v := 1) hx hb dX6_isUnder_12 (by decide) ?_
      refine lv_goto (tgt := 17) hx hb dX6_isUnder_13 (by decide) ?_
      subst h
      exact x_zret F hr hlk hW hS rfl dX6_isUnder_17
/-! WildBells$Herd.isUnder(I)Z -/
def fX7_isUnder_k6 (a1 : Int32) : Int32 :=
  if a1 = 1 then 1 else (if (fX6_isUnder_k6 a1) = 0 then 0 else 1)
set_option maxHeartbeats 4000000 in
theorem mX7_isUnder_k6 (l : Launch) (E : xE) (σ : xM) (n : Nat) (hn : n < 8) (a1 : Int32) : Met l yX7_isUnder (ws_ yX7_isUnder cX7_isUnder 2 (some .boolean)) ({ frames := 5, cells := 0, slots := 0, locals := 101 } : Room) (xPc E σ [.ref (xa E (xbc 6 n)), .int a1]) (xQc E (.returned (some (.int (fX7_isUnder_k6 a1)))) σ) 0 0 (xA E) := by
  refine x_of (C := RX7) (n := "isUnder") (d := "(I)Z") (r := (some .boolean)) (by decide) rfl (by first | decide | exact Nat.le_of_ble_eq_true rfl) ?_
  intro p e s m below meth c ls F hr hlk hW hS hl
  have hl : lv_has ls 2 [(0, .ref (xa E (xbc 6 n))), (1, .int a1)] := hl
  obtain ⟨hx, hb, hml, hown, hts⟩ := id F.1
  have hK := F.2.1.1
  obtain ⟨r, h⟩ : ∃ r, fX7_isUnder_k6 a1 = r := ⟨_, rfl⟩
  rw [h]
  unfold fX7_isUnder_k6 at h
  refine lv_iload_n hx hb dX7_isUnder_0 rfl (lv_at hl 1 rfl) ?_
  refine lv_iconst (v := 1) hx hb dX7_isUnder_1 (by decide) ?_
  refine lv_icmp_eq (tgt := 13) hx hb dX7_isUnder_2 (by decide) (fun c1 => ?_) (fun c1 => ?_)
  · rw [if_pos c1] at h
    refine lv_iconst (v := 1) hx hb dX7_isUnder_13 (by decide) ?_
    refine lv_goto (tgt := 18) hx hb dX7_isUnder_14 (by decide) ?_
    subst h
    exact x_zret F hr hlk hW hS rfl dX7_isUnder_18
  · rw [if_neg c1] at h
    refine lv_aload_n hx hb dX7_isUnder_5 rfl (lv_at hl 0 rfl) ?_
    refine lv_iload_n hx hb dX7_isUnder_6 rfl (lv_at hl 1 rfl) ?_
    refine x_backi (va_runSU (C := RX12) (b := (xa E (xbc 6 n))) (hK.1 12 _ rfl).2 (As := [.int a1]) (rest := []) F.1 (mX6_isUnder_k6 l E σ n hn a1) (va_cwSU 1 hts (lw_SU q631 q620 q340 q618 q108 q636) rfl rfl rfl (by decide +kernel) ⟨Nat.le_of_ble_eq_true rfl, Nat.le_of_ble_eq_true rfl⟩) ⟨xPc.blind, va_recv hK (xO_B hW 6 n (by decide) hn) (ci := 12) (q0 := 0) rfl rfl, F.pre hW hS (.ref (xa E (xbc 6 n)) :: [.int a1])⟩ rfl rfl hl.1 rfl (lv_room (Nat.le_of_ble_eq_true rfl)) dX7_isUnder_7 ⟨Nat.le_refl _, Nat.le_refl _⟩) hS (fun H locs hW hS => ?_)
    refine lv_if_eq (tgt := 17) hx hb dX7_isUnder_10 (by decide) (fun c2 => ?_) (fun c2 => ?_)
    · rw [if_pos c2] at h
      refine lv_iconst (v := 0) hx hb dX7_isUnder_17 (by decide) ?_
      subst h
      exact x_zret F hr hlk hW hS rfl dX7_isUnder_18
    · rw [if_neg c2] at h
      refine lv_iconst (v := 1) hx hb dX7_isUnder_13 (by decide) ?_
      refine lv_goto (tgt := 18) hx hb dX7_isUnder_14 (by decide) ?_
      subst h
      exact x_zret F hr hlk hW hS rfl dX7_isUnder_18
/-! WildBells$Likes.twice(I)I -/
def fX14_twice_k4 (a1 : Int32) : Int32 :=
  (2 * a1)
set_option maxHeartbeats 4000000 in
theorem mX14_twice_k4 (l : Launch) (E : xE) (σ : xM) (n : Nat) (hn : n < 8) (a1 : Int32) : xMN l yX14_twice (ws_ yX14_twice cX14_twice 2 (some .int)) ({ frames := 0, cells := 0, slots := 0, locals := 0 } : Room) (xPc E σ [.ref (xa E (xbc 4 n)), .int a1]) (xQc E (.returned (some (.int (fX14_twice_k4 a1)))) σ) (xA E) := by
  refine x_ofN (C := RX14) (n := "twice") (d := "(I)I") (r := (some .int)) (by decide) rfl (by first | decide | exact Nat.le_of_ble_eq_true rfl) ?_
  intro p e s m below meth c ls F hr hlk hW hS hl
  have hl : lv_has ls 2 [(0, .ref (xa E (xbc 4 n))), (1, .int a1)] := hl
  obtain ⟨hx, hb, hml, hown, hts⟩ := id F.1
  have hK := F.2.1.1
  obtain ⟨r, h⟩ : ∃ r, fX14_twice_k4 a1 = r := ⟨_, rfl⟩
  rw [h]
  unfold fX14_twice_k4 at h
  refine lv_iconst (v := 2) hx hb dX14_twice_0 (by decide) ?_
  refine lv_iload_n hx hb dX14_twice_1 rfl (lv_at hl 1 rfl) ?_
  refine lv_imul hx hb dX14_twice_2 ?_
  subst h
  exact x_iret F hr hlk hW hS dX14_twice_3
/-! WildBells$Likes.twice(I)I -/
def fX14_twice_k5 (a1 : Int32) : Int32 :=
  (2 * a1)
set_option maxHeartbeats 4000000 in
theorem mX14_twice_k5 (l : Launch) (E : xE) (σ : xM) (n : Nat) (hn : n < 8) (a1 : Int32) : xMN l yX14_twice (ws_ yX14_twice cX14_twice 2 (some .int)) ({ frames := 0, cells := 0, slots := 0, locals := 0 } : Room) (xPc E σ [.ref (xa E (xbc 5 n)), .int a1]) (xQc E (.returned (some (.int (fX14_twice_k5 a1)))) σ) (xA E) := by
  refine x_ofN (C := RX14) (n := "twice") (d := "(I)I") (r := (some .int)) (by decide) rfl (by first | decide | exact Nat.le_of_ble_eq_true rfl) ?_
  intro p e s m below meth c ls F hr hlk hW hS hl
  have hl : lv_has ls 2 [(0, .ref (xa E (xbc 5 n))), (1, .int a1)] := hl
  obtain ⟨hx, hb, hml, hown, hts⟩ := id F.1
  have hK := F.2.1.1
  obtain ⟨r, h⟩ : ∃ r, fX14_twice_k5 a1 = r := ⟨_, rfl⟩
  rw [h]
  unfold fX14_twice_k5 at h
  refine lv_iconst (v := 2) hx hb dX14_twice_0 (by decide) ?_
  refine lv_iload_n hx hb dX14_twice_1 rfl (lv_at hl 1 rfl) ?_
  refine lv_imul hx hb dX14_twice_2 ?_
  subst h
  exact x_iret F hr hlk hW hS dX14_twice_3
/-! WildBells$Likes.twice(I)I -/
def fX14_twice_k6 (a1 : Int32) : Int32 :=
  (2 * a1)
set_option maxHeartbeats 4000000 in
theorem mX14_twice_k6 (l : Launch) (E : xE) (σ : xM) (n : Nat) (hn : n < 8) (a1 : Int32) : xMN l yX14_twice (ws_ yX14_twice cX14_twice 2 (some .int)) ({ frames := 0, cells := 0, slots := 0, locals := 0 } : Room) (xPc E σ [.ref (xa E (xbc 6 n)), .int a1]) (xQc E (.returned (some (.int (fX14_twice_k6 a1)))) σ) (xA E) := by
  refine x_ofN (C := RX14) (n := "twice") (d := "(I)I") (r := (some .int)) (by decide) rfl (by first | decide | exact Nat.le_of_ble_eq_true rfl) ?_
  intro p e s m below meth c ls F hr hlk hW hS hl
  have hl : lv_has ls 2 [(0, .ref (xa E (xbc 6 n))), (1, .int a1)] := hl
  obtain ⟨hx, hb, hml, hown, hts⟩ := id F.1
  have hK := F.2.1.1
  obtain ⟨r, h⟩ : ∃ r, fX14_twice_k6 a1 = r := ⟨_, rfl⟩
  rw [h]
  unfold fX14_twice_k6 at h
  refine lv_iconst (v := 2) hx hb dX14_twice_0 (by decide) ?_
  refine lv_iload_n hx hb dX14_twice_1 rfl (lv_at hl 1 rfl) ?_
  refine lv_imul hx hb dX14_twice_2 ?_
  subst h
  exact x_iret F hr hlk hW hS dX14_twice_3
