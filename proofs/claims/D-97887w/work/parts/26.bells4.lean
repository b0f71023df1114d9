set_option maxRecDepth 100000
section XDP
variable {p : Program} {l : Launch} {e : Env} {R : Room} {s : State} {m : MethodId} {args : Array Value} {below : List Frame} {meth : Method} {c : Code} {H : Heap} {locs : List Loc} {cells slots : Nat} {Q : State → Prop}
variable {E : xE} {σ : xM} {pc : Nat} {ls : Array Slot} {rest : List Value} {cc : ByteArray} {nL : Nat}
def xwor (σ : xM) (κ n : Nat) (a : Int32) : Option Int32 :=
  if κ = 0 then fX6_worth_k0 σ n a else if κ = 1 then fX7_worth_k1 σ n a else if κ = 2 then fX8_worth_k2 σ n a else if κ = 3 then fX9_worth_k3 σ n a else if κ = 4 then fX10_worth_k4 σ n a else if κ = 5 then fX11_worth_k5 σ n a else fX12_worth_k6 σ n a
set_option maxHeartbeats 4000000 in
theorem x_runWorth {x : Int32} {r : Int32} (F : xFx p m c cc nL s args RX0 E) (hfr : 11 ≤ R.frames) (hlo : 233 ≤ R.locals) {j : Nat} (hj : j < 56) (hW : xW E σ H) (hS : va_S (xA E) s.heap H locs) (hsize : ls.size = nL) (hrs : (rest.map fun v => v.category).sum ≤ 8) (hdg : decode cc pc = .ok (.invokeinterface 153 2, 5)) (hf : cells ≤ R.cells ∧ slots ≤ R.slots) (h : (xwor σ (j / 8) (j % 8) x) = some r) : va_Run5 p l e R s m args below meth c H locs cells slots 0 0 (F0 m pc ls (.int x :: .ref (xa E (61 + 2 * j)) :: rest)) rest (xQc E (.returned (some (.int r))) σ (Value.ref (xa E (61 + 2 * j)) :: [.int x]).toArray) (xA E) := by
  obtain ⟨κ, n, hκ, hn, rfl⟩ : ∃ κ n, κ < 7 ∧ n < 8 ∧ j = 8 * κ + n := ⟨j / 8, j % 8, by omega, by omega, by omega⟩
  have e1 : (8 * κ + n) / 8 = κ := by omega
  have e2 : (8 * κ + n) % 8 = n := by omega
  rw [e1, e2] at h
  obtain ⟨hx, hb, hml, hown, hts⟩ := id F.1
  have hK := F.2.1.1
  have h7 : κ = 0 ∨ κ = 1 ∨ κ = 2 ∨ κ = 3 ∨ κ = 4 ∨ κ = 5 ∨ κ = 6 := by omega
  rcases h7 with rfl | rfl | rfl | rfl | rfl | rfl | rfl
  · exact va_runF (C := RX6) (b := xa E (xbc 0 n)) (As := [.int x]) (rest := rest) (hK.1 6 _ rfl).2 F.1 (mX6_worth_k0 l E σ n hn x r h) (va_cwF 1 hts (lw_F q583 q587 q589 q108 q591) rfl rfl rfl (F.2.1.2.2.1 RX6 (by decide)) (by decide +kernel) ⟨Nat.le_trans (by decide) hfr, Nat.le_trans (by decide) hlo⟩) ⟨xPc.blind, va_recv hK (xO_B hW 0 n (by decide) hn) (ci := 6) (q0 := 0) rfl rfl, F.pre hW hS (.ref (xa E (xbc 0 n)) :: [.int x])⟩ rfl rfl hsize rfl (lv_room hrs) hdg ⟨hf.1, hf.2⟩
  · exact va_runF (C := RX7) (b := xa E (xbc 1 n)) (As := [.int x]) (rest := rest) (hK.1 7 _ rfl).2 F.1 (mX7_worth_k1 l E σ n hn x r h) (va_cwF 1 hts (lw_F q583 q646 q648 q109 q650) rfl rfl rfl (F.2.1.2.2.1 RX7 (by decide)) (by decide +kernel) ⟨Nat.le_trans (by decide) hfr, Nat.le_trans (by decide) hlo⟩) ⟨xPc.blind, va_recv hK (xO_B hW 1 n (by decide) hn) (ci := 7) (q0 := 0) rfl rfl, F.pre hW hS (.ref (xa E (xbc 1 n)) :: [.int x])⟩ rfl rfl hsize rfl (lv_room hrs) hdg ⟨hf.1, hf.2⟩
  · exact va_runF (C := RX8) (b := xa E (xbc 2 n)) (As := [.int x]) (rest := rest) (hK.1 8 _ rfl).2 F.1 (mX8_worth_k2 l E σ n hn x r h) (va_cwF 1 hts (lw_F q583 q655 q609 q110 q610) rfl rfl rfl (F.2.1.2.2.1 RX8 (by decide)) (by decide +kernel) ⟨Nat.le_trans (by decide) hfr, Nat.le_trans (by decide) hlo⟩) ⟨xPc.blind, va_recv hK (xO_B hW 2 n (by decide) hn) (ci := 8) (q0 := 0) rfl rfl, F.pre hW hS (.ref (xa E (xbc 2 n)) :: [.int x])⟩ rfl rfl hsize rfl (lv_room hrs) hdg ⟨hf.1, hf.2⟩
  · exact va_runF (C := RX9) (b := xa E (xbc 3 n)) (As := [.int x]) (rest := rest) (hK.1 9 _ rfl).2 F.1 (mX9_worth_k3 l E σ n hn x r h) (va_cwF 1 hts (lw_F q583 q668 q606 q111 q607) rfl rfl rfl (F.2.1.2.2.1 RX9 (by decide)) (by decide +kernel) ⟨Nat.le_trans (by decide) hfr, Nat.le_trans (by decide) hlo⟩) ⟨xPc.blind, va_recv hK (xO_B hW 3 n (by decide) hn) (ci := 9) (q0 := 0) rfl rfl, F.pre hW hS (.ref (xa E (xbc 3 n)) :: [.int x])⟩ rfl rfl hsize rfl (lv_room hrs) hdg ⟨hf.1, hf.2⟩
  · exact va_runF (C := RX10) (b := xa E (xbc 4 n)) (As := [.int x]) (rest := rest) (hK.1 10 _ rfl).2 F.1 (mX10_worth_k4 l E σ n hn x r h) (va_cwF 1 hts (lw_F q583 q600 q602 q112 q604) rfl rfl rfl (F.2.1.2.2.1 RX10 (by decide)) (by decide +kernel) ⟨Nat.le_trans (by decide) hfr, Nat.le_trans (by decide) hlo⟩) ⟨xPc.blind, va_recv hK (xO_B hW 4 n (by decide) hn) (ci := 10) (q0 := 0) rfl rfl, F.pre hW hS (.ref (xa E (xbc 4 n)) :: [.int x])⟩ rfl rfl hsize rfl (lv_room hrs) hdg ⟨hf.1, hf.2⟩
  · exact va_runF (C := RX11) (b := xa E (xbc 5 n)) (As := [.int x]) (rest := rest) (hK.1 11 _ rfl).2 F.1 (mX11_worth_k5 l E σ n hn x r h) (va_cwF 1 hts (lw_F q583 q659 q661 q113 q663) rfl rfl rfl (F.2.1.2.2.1 RX11 (by decide)) (by decide +kernel) ⟨Nat.le_trans (by decide) hfr, Nat.le_trans (by decide) hlo⟩) ⟨xPc.blind, va_recv hK (xO_B hW 5 n (by decide) hn) (ci := 11) (q0 := 0) rfl rfl, F.pre hW hS (.ref (xa E (xbc 5 n)) :: [.int x])⟩ rfl rfl hsize rfl (lv_room hrs) hdg ⟨hf.1, hf.2⟩
  · exact va_runF (C := RX12) (b := xa E (xbc 6 n)) (As := [.int x]) (rest := rest) (hK.1 12 _ rfl).2 F.1 (mX12_worth_k6 l E σ n hn x r h) (va_cwF 1 hts (lw_F q583 q672 q674 q114 q676) rfl rfl rfl (F.2.1.2.2.1 RX12 (by decide)) (by decide +kernel) ⟨Nat.le_trans (by decide) hfr, Nat.le_trans (by decide) hlo⟩) ⟨xPc.blind, va_recv hK (xO_B hW 6 n (by decide) hn) (ci := 12) (q0 := 0) rfl rfl, F.pre hW hS (.ref (xa E (xbc 6 n)) :: [.int x])⟩ rfl rfl hsize rfl (lv_room hrs) hdg ⟨hf.1, hf.2⟩
end XDP
/-! WildBells.worthOf(II)I -/
def fX0_worthOf (σ : xM) (a1 : Int32) (a2 : Int32) : Option Int32 :=
  (fX0_bellOf σ a1).bind (fun r2 => (xwor σ (r2 / 8) (r2 % 8) a2).bind (fun r4 => some r4))
set_option maxHeartbeats 4000000 in
theorem mX0_worthOf (l : Launch) (E : xE) (σ : xM) (a1 : Int32) (a2 : Int32) (r : Int32) (h : fX0_worthOf σ a1 a2 = some r) : Met l yX0_worthOf (ws_ yX0_worthOf cX0_worthOf 4 (some .int)) ({ frames := 11, cells := 0, slots := 0, locals := 233 } : Room) (xPc E σ [.ref (xa E 0), .int a1, .int a2]) (xQc E (.returned (some (.int r))) σ) 0 0 (xA E) := by
  refine x_of (C := RX0) (n := "worthOf") (d := "(II)I") (r := (some .int)) (by decide) rfl (by first | decide | exact Nat.le_of_ble_eq_true rfl) ?_
  intro p e s m below meth c ls F hr hlk hW hS hl
  have hl : lv_has ls 4 [(0, .ref (xa E 0)), (1, .int a1), (2, .int a2)] := hl
  obtain ⟨hx, hb, hml, hown, hts⟩ := id F.1
  have hK := F.2.1.1
  unfold fX0_worthOf at h
  refine lv_aload_n hx hb dX0_worthOf_0 rfl (lv_at hl 0 rfl) ?_
  refine lv_iload_n hx hb dX0_worthOf_1 rfl (lv_at hl 1 rfl) ?_
  cases g1 : fX0_bellOf σ a1 with
  | none => rw [g1] at h; cases h
  | some r2 =>
    rw [g1, Option.bind_some] at h
    refine x_backr (va_runV (C := RX0) (b := (xa E 0)) (As := [.int a1]) (rest := []) F.1 (mX0_bellOf l E σ a1 r2 g1) (cwV 1 hts (lw_V q541 q543 qs4 q99 q544) rfl rfl rfl (by decide +kernel) ⟨Nat.le_of_ble_eq_true rfl, Nat.le_of_ble_eq_true rfl⟩) ⟨xPc.blind, va_recv hK (xO_X hW) (ci := 0) (q0 := 0) rfl rfl, F.pre hW hS (.ref (xa E 0) :: [.int a1])⟩ rfl rfl hl.1 rfl (lv_room (Nat.le_of_ble_eq_true rfl)) dX0_worthOf_2 ⟨Nat.le_refl _, Nat.le_refl _⟩) hS (fun H locs hW hS => ?_)
    refine lv_astore_n (lv' := [(3, .ref (xa E (61 + 2 * r2))), (0, .ref (xa E 0)), (1, .int a1), (2, .int a2)]) hx hb dX0_worthOf_5 rfl hl (by decide) rfl (fun ls hl => ?_)
    refine lv_aload_n hx hb dX0_worthOf_6 rfl (lv_at hl 0 rfl) ?_
    refine lv_iload_n hx hb dX0_worthOf_7 rfl (lv_at hl 3 rfl) ?_
    cases g3 : xwor σ (r2 / 8) (r2 % 8) a2 with
    | none => rw [g3] at h; cases h
    | some r4 =>
      rw [g3, Option.bind_some] at h
      refine x_back5i (x_runWorth (x := a2) (r := r4) (rest := []) F (Nat.le_of_ble_eq_true rfl) (Nat.le_of_ble_eq_true rfl) (x_bo g1) hW hS hl.1 (Nat.le_of_ble_eq_true rfl) dX0_worthOf_8 ⟨Nat.le_refl _, Nat.le_refl _⟩ g3) hS (fun H locs hW hS => ?_)
      cases h
      exact x_iret F hr hlk hW hS dX0_worthOf_13
/-! WildBells.nextOf(I)I -/
def gX0_nextOf_25 (σ : xM) (b1 : Int32) (b2 : Int32) : Nat → Int32 → Int32 → Int32 → Option (Int32 × Int32 × Int32)
  | 0, _, _, _ => none
  | n + 1, x3, x4, x5 => if 4 ≤ x5 then (some (x3, x4, x5)) else (if (fX0_beside b2 x5) = (-1) then (if x4 ≤ x4 then (gX0_nextOf_25 σ b1 b2 n x3 (fJ3_max x4 x4) (x5 + 1)) else (gX0_nextOf_25 σ b1 b2 n (fX0_beside b2 x5) (fJ3_max x4 x4) (x5 + 1))) else ((fX0_worthOf σ b1 (fX0_beside b2 x5)).bind (fun r7 => if r7 ≤ x4 then (gX0_nextOf_25 σ b1 b2 n x3 (fJ3_max x4 r7) (x5 + 1)) else (gX0_nextOf_25 σ b1 b2 n (fX0_beside b2 x5) (fJ3_max x4 r7) (x5 + 1)))))
def fX0_nextOf (σ : xM) (a1 : Int32) : Option Int32 :=
  if xin a1 8 then ((fX0_worthOf σ a1 (σ 0 (146 + 5 * a1.toNatClampNeg + 1))).bind (fun r3 => (gX0_nextOf_25 σ a1 (σ 0 (146 + 5 * a1.toNatClampNeg + 1)) xfu (σ 0 (146 + 5 * a1.toNatClampNeg + 1)) r3 0).bind (fun q11 => some q11.1))) else none
set_option maxHeartbeats 4000000 in
theorem lX0_nextOf_25 {p : Program} {l : Launch} {e : Env} {s : State} {m : MethodId} {av : Array Value} {below : List Frame} {meth : Method} {c : Code} {Q : State → Prop} {E : xE} {σ : xM} {b1 : Int32} {b2 : Int32} (F : xFx p m c cX0_nextOf 8 s av RX0 E) : ∀ (n : Nat) (x3 : Int32) (x4 : Int32) (x5 : Int32) (q : (Int32 × Int32 × Int32)), gX0_nextOf_25 σ b1 b2 n x3 x4 x5 = some q → ∀ (H : Heap) (locs : List Loc) (ls : Array Slot), xW E σ H → va_S (xA E) s.heap H locs → lv_has ls 8 [(5, .int x5), (4, .int x4), (3, .int x3), (2, .int b2), (0, .ref (xa E 0)), (1, .int b1)] → (∀ (H : Heap) (locs : List Loc) (ls : Array Slot), xW E σ H → va_S (xA E) s.heap H locs → lv_has ls 8 [(5, .int q.2.2), (4, .int q.2.1), (3, .int q.1), (2, .int b2), (0, .ref (xa E 0)), (1, .int b1)] → W p l e ({ frames := 12, cells := 0, slots := 0, locals := 256 } : Room) s m av below meth c H locs 0 0 Q (F0 m 88 ls [])) → W p l e ({ frames := 12, cells := 0, slots := 0, locals := 256 } : Room) s m av below meth c H locs 0 0 Q (F0 m 25 ls []) := by
  obtain ⟨hx, hb, hml, hown, hts⟩ := id F.1
  have hK := F.2.1.1
  intro n
  induction n with
  | zero =>
    intro x3 x4 x5 q h
    cases h
  | succ n ih =>
    intro x3 x4 x5 q h H locs ls hW hS hl kk
    rw [gX0_nextOf_25] at h
    refine lv_iload hx hb dX0_nextOf_25 (lv_at hl 0 rfl) ?_
    refine lv_iconst (v := 4) hx hb dX0_nextOf_27 (by decide) ?_
    refine lv_icmp_ge (tgt := 88) hx hb dX0_nextOf_28 (by decide) (fun c4 => ?_) (fun c4 => ?_)
    · rw [if_pos c4] at h
      cases h
      exact kk _ _ _ hW hS (lv_sub hl [0, 1, 2, 3, 4, 5] rfl)
    · rw [if_neg c4] at h
      refine lv_iload_n hx hb dX0_nextOf_31 rfl (lv_at hl 3 rfl) ?_
      refine lv_iload hx hb dX0_nextOf_32 (lv_at hl 0 rfl) ?_
      refine x_backi (va_runS (As := [.int b2, .int x5]) (rest := []) F.1 (mX0_beside l E σ b2 x5) (va_cwS 2 hts (lw_S q679 q680 q99 q681) rfl rfl rfl (by decide +kernel) ⟨Nat.le_of_ble_eq_true rfl, Nat.le_of_ble_eq_true rfl⟩) ⟨xPc.blind, F.pre hW hS [.int b2, .int x5]⟩ rfl rfl hl.1 rfl (lv_room (Nat.le_of_ble_eq_true rfl)) dX0_nextOf_34 ⟨Nat.le_refl _, Nat.le_refl _⟩) hS (fun H locs hW hS => ?_)
      refine lv_istore (lv' := [(6, .int (fX0_beside b2 x5)), (5, .int x5), (4, .int x4), (3, .int x3), (2, .int b2), (0, .ref (xa E 0)), (1, .int b1)]) hx hb dX0_nextOf_37 hl (by decide) rfl (fun ls hl => ?_)
      refine lv_iload hx hb dX0_nextOf_39 (lv_at hl 0 rfl) ?_
      refine lv_iconst (v := (-1)) hx hb dX0_nextOf_41 (by decide) ?_
      refine lv_icmp_ne (tgt := 50) hx hb dX0_nextOf_42 (by decide) (fun c5 => ?_) (fun c5 => ?_)
      · rw [if_neg c5] at h
        refine lv_aload_n hx hb dX0_nextOf_50 rfl (lv_at hl 5 rfl) ?_
        refine lv_iload_n hx hb dX0_nextOf_51 rfl (lv_at hl 6 rfl) ?_
        refine lv_iload hx hb dX0_nextOf_52 (lv_at hl 0 rfl) ?_
        cases g6 : fX0_worthOf σ b1 (fX0_beside b2 x5) with
        | none => rw [g6] at h; cases h
        | some r7 =>
          rw [g6, Option.bind_some] at h
          refine x_backi (va_runV (C := RX0) (b := (xa E 0)) (As := [.int b1, .int (fX0_beside b2 x5)]) (rest := []) F.1 (mX0_worthOf l E σ b1 (fX0_beside b2 x5) r7 g6) (cwV 2 hts (lw_V q578 q580 qs6 q99 q581) rfl rfl rfl (by decide +kernel) ⟨Nat.le_of_ble_eq_true rfl, Nat.le_of_ble_eq_true rfl⟩) ⟨xPc.blind, va_recv hK (xO_X hW) (ci := 0) (q0 := 0) rfl rfl, F.pre hW hS (.ref (xa E 0) :: [.int b1, .int (fX0_beside b2 x5)])⟩ rfl rfl hl.1 rfl (lv_room (Nat.le_of_ble_eq_true rfl)) dX0_nextOf_54 ⟨Nat.le_refl _, Nat.le_refl _⟩) hS (fun H locs hW hS => ?_)
          refine lv_istore (lv' := [(7, .int r7), (6, .int (fX0_beside b2 x5)), (5, .int x5), (4, .int x4), (3, .int x3), (2, .int b2), (0, .ref (xa E 0)), (1, .int b1)]) hx hb dX0_nextOf_57 hl (by decide) rfl (fun ls hl => ?_)
          refine lv_iload hx hb dX0_nextOf_59 (lv_at hl 0 rfl) ?_
          refine lv_iload hx hb dX0_nextOf_61 (lv_at hl 3 rfl) ?_
          refine lv_icmp_le (tgt := 71) hx hb dX0_nextOf_63 (by decide) (fun c8 => ?_) (fun c8 => ?_)
          · rw [if_pos c8] at h
            refine lv_iload_n hx hb dX0_nextOf_71 rfl (lv_at hl 4 rfl) ?_
            refine lv_istore_n (lv' := [(3, .int x3), (7, .int r7), (6, .int (fX0_beside b2 x5)), (5, .int x5), (4, .int x4), (2, .int b2), (0, .ref (xa E 0)), (1, .int b1)]) hx hb dX0_nextOf_72 rfl hl (by decide) rfl (fun ls hl => ?_)
            refine lv_iload hx hb dX0_nextOf_73 (lv_at hl 4 rfl) ?_
            refine lv_iload hx hb dX0_nextOf_75 (lv_at hl 1 rfl) ?_
            refine x_backi (va_runS (As := [.int x4, .int r7]) (rest := []) F.1 (mJ3_max l E σ x4 r7) (va_cwS 2 hts (lw_S q503 q504 q116 q505) rfl rfl rfl (by decide +kernel) ⟨Nat.le_of_ble_eq_true rfl, Nat.le_of_ble_eq_true rfl⟩) ⟨xPc.blind, F.pre hW hS [.int x4, .int r7]⟩ rfl rfl hl.1 rfl (lv_room (Nat.le_of_ble_eq_true rfl)) dX0_nextOf_77 ⟨Nat.le_refl _, Nat.le_refl _⟩) hS (fun H locs hW hS => ?_)
            refine lv_istore (lv' := [(4, .int (fJ3_max x4 r7)), (3, .int x3), (7, .int r7), (6, .int (fX0_beside b2 x5)), (5, .int x5), (2, .int b2), (0, .ref (xa E 0)), (1, .int b1)]) hx hb dX0_nextOf_80 hl (by decide) rfl (fun ls hl => ?_)
            refine lv_iinc (k := 4) (v := (x5 + 1)) (lv' := [(5, .int (x5 + 1)), (4, .int (fJ3_max x4 r7)), (3, .int x3), (7, .int r7), (6, .int (fX0_beside b2 x5)), (2, .int b2), (0, .ref (xa E 0)), (1, .int b1)]) hx hb dX0_nextOf_82 hl rfl rfl (by decide) rfl (fun ls hl => ?_)
            refine lv_goto (tgt := 25) hx hb dX0_nextOf_85 (by decide) ?_
            exact ih x3 (fJ3_max x4 r7) (x5 + 1) _ h _ _ _ hW hS (lv_sub hl [0, 1, 2, 5, 6, 7] rfl) kk
          · rw [if_neg c8] at h
            refine lv_iload hx hb dX0_nextOf_66 (lv_at hl 1 rfl) ?_
            refine lv_goto (tgt := 72) hx hb dX0_nextOf_68 (by decide) ?_
            refine lv_istore_n (lv' := [(3, .int (fX0_beside b2 x5)), (7, .int r7), (6, .int (fX0_beside b2 x5)), (5, .int x5), (4, .int x4), (2, .int b2), (0, .ref (xa E 0)), (1, .int b1)]) hx hb dX0_nextOf_72 rfl hl (by decide) rfl (fun ls hl => ?_)
            refine lv_iload hx hb dX0_nextOf_73 (lv_at hl 4 rfl) ?_
            refine lv_iload hx hb dX0_nextOf_75 (lv_at hl 1 rfl) ?_
            refine x_backi (va_runS (As := [.int x4, .int r7]) (rest := []) F.1 (mJ3_max l E σ x4 r7) (va_cwS 2 hts (lw_S q503 q504 q116 q505) rfl rfl rfl (by decide +kernel) ⟨Nat.le_of_ble_eq_true rfl, Nat.le_of_ble_eq_true rfl⟩) ⟨xPc.blind, F.pre hW hS [.int x4, .int r7]⟩ rfl rfl hl.1 rfl (lv_room (Nat.le_of_ble_eq_true rfl)) dX0_nextOf_77 ⟨Nat.le_refl _, Nat.le_refl _⟩) hS (fun H locs hW hS => ?_)
            refine lv_istore (lv' := [(4, .int (fJ3_max x4 r7)), (3, .int (fX0_beside b2 x5)), (7, .int r7), (6, .int (fX0_beside b2 x5)), (5, .int x5), (2, .int b2), (0, .ref (xa E 0)), (1, .int b1)]) hx hb dX0_nextOf_80 hl (by decide) rfl (fun ls hl => ?_)
            refine lv_iinc (k := 4) (v := (x5 + 1)) (lv' := [(5, .int (x5 + 1)), (4, .int (fJ3_max x4 r7)), (3, .int (fX0_beside b2 x5)), (7, .int r7), (6, .int (fX0_beside b2 x5)), (2, .int b2), (0, .ref (xa E 0)), (1, .int b1)]) hx hb dX0_nextOf_82 hl rfl rfl (by decide) rfl (fun ls hl => ?_)
            refine lv_goto (tgt := 25) hx hb dX0_nextOf_85 (by decide) ?_
            exact ih (fX0_beside b2 x5) (fJ3_max x4 r7) (x5 + 1) _ h _ _ _ hW hS (lv_sub hl [0, 1, 2, 5, 6, 7] rfl) kk
      · rw [if_pos c5] at h
        refine lv_iload hx hb dX0_nextOf_45 (lv_at hl 2 rfl) ?_
        refine lv_goto (tgt := 57) hx hb dX0_nextOf_47 (by decide) ?_
        refine lv_istore (lv' := [(7, .int x4), (6, .int (fX0_beside b2 x5)), (5, .int x5), (4, .int x4), (3, .int x3), (2, .int b2), (0, .ref (xa E 0)), (1, .int b1)]) hx hb dX0_nextOf_57 hl (by decide) rfl (fun ls hl => ?_)
        refine lv_iload hx hb dX0_nextOf_59 (lv_at hl 0 rfl) ?_
        refine lv_iload hx hb dX0_nextOf_61 (lv_at hl 3 rfl) ?_
        refine lv_icmp_le (tgt := 71) hx hb dX0_nextOf_63 (by decide) (fun c9 => ?_) (fun c9 => ?_)
        · rw [if_pos c9] at h
          refine lv_iload_n hx hb dX0_nextOf_71 rfl (lv_at hl 4 rfl) ?_
          refine lv_istore_n (lv' := [(3, .int x3), (7, .int x4), (6, .int (fX0_beside b2 x5)), (5, .int x5), (4, .int x4), (2, .int b2), (0, .ref (xa E 0)), (1, .int b1)]) hx hb dX0_nextOf_72 rfl hl (by decide) rfl (fun ls hl => ?_)
          refine lv_iload hx hb dX0_nextOf_73 (lv_at hl 4 rfl) ?_
          refine lv_iload hx hb dX0_nextOf_75 (lv_at hl 1 rfl) ?_
          refine x_backi (va_runS (As := [.int x4, .int x4]) (rest := []) F.1 (mJ3_max l E σ x4 x4) (va_cwS 2 hts (lw_S q503 q504 q116 q505) rfl rfl rfl (by decide +kernel) ⟨Nat.le_of_ble_eq_true rfl, Nat.le_of_ble_eq_true rfl⟩) ⟨xPc.blind, F.pre hW hS [.int x4, .int x4]⟩ rfl rfl hl.1 rfl (lv_room (Nat.le_of_ble_eq_true rfl)) dX0_nextOf_77 ⟨Nat.le_refl _, Nat.le_refl _⟩) hS (fun H locs hW hS => ?_)
          refine lv_istore (lv' := [(4, .int (fJ3_max x4 x4)), (3, .int x3), (7, .int x4), (6, .int (fX0_beside b2 x5)), (5, .int x5), (2, .int b2), (0, .ref (xa E 0)), (1, .int b1)]) hx hb dX0_nextOf_80 hl (by decide) rfl (fun ls hl => ?_)
          refine lv_iinc (k := 4) (v := (x5 + 1)) (lv' := [(5, .int (x5 + 1)), (4, .int (fJ3_max x4 x4)), (3, .int x3), (7, .int x4), (6, .int (fX0_beside b2 x5)), (2, .int b2), (0, .ref (xa E 0)), (1, .int b1)]) hx hb dX0_nextOf_82 hl rfl rfl (by decide) rfl (fun ls hl => ?_)
          refine lv_goto (tgt := 25) hx hb dX0_nextOf_85 (by decide) ?_
          exact ih x3 (fJ3_max x4 x4) (x5 + 1) _ h _ _ _ hW hS (lv_sub hl [0, 1, 2, 5, 6, 7] rfl) kk
        · rw [if_neg c9] at h
          refine lv_iload hx hb dX0_nextOf_66 (lv_at hl 1 rfl) ?_
          refine lv_goto (tgt := 72) hx hb dX0_nextOf_68 (by decide) ?_
          refine lv_istore_n (lv' := [(3, .int (fX0_beside b2 x5)), (7, .int x4), (6, .int (fX0_beside b2 x5)), (5, .int x5), (4, .int x4), (2, .int b2), (0, .ref (xa E 0)), (1, .int b1)]) hx hb dX0_nextOf_72 rfl hl (by decide) rfl (fun ls hl => ?_)
          refine lv_iload hx hb dX0_nextOf_73 (lv_at hl 4 rfl) ?_
          refine lv_iload hx hb dX0_nextOf_75 (lv_at hl 1 rfl) ?_
          refine x_backi (va_runS (As := [.int x4, .int x4]) (rest := []) F.1 (mJ3_max l E σ x4 x4) (va_cwS 2 hts (lw_S q503 q504 q116 q505) rfl rfl rfl (by decide +kernel) ⟨Nat.le_of_ble_eq_true rfl, Nat.le_of_ble_eq_true rfl⟩) ⟨xPc.blind, F.pre hW hS [.int x4, .int x4]⟩ rfl rfl hl.1 rfl (lv_room (Nat.le_of_ble_eq_true rfl)) dX0_nextOf_77 ⟨Nat.le_refl _, Nat.le_refl _⟩) hS (fun H locs hW hS => ?_)
          refine lv_istore (lv' := [(4, .int (fJ3_max x4 x4)), (3, .int (fX0_beside b2 x5)), (7, .int x4), (6, .int (fX0_beside b2 x5)), (5, .int x5), (2, .int b2), (0, .ref (xa E 0)), (1, .int b1)]) hx hb dX0_nextOf_80 hl (by decide) rfl (fun ls hl => ?_)
          refine lv_iinc (k := 4) (v := (x5 + 1)) (lv' := [(5, .int (x5 + 1)), (4, .int (fJ3_max x4 x4)), (3, .int (fX0_beside b2 x5)), (7, .int x4), (6, .int (fX0_beside b2 x5)), (2, .int b2), (0, .ref (xa E 0)), (1, .int b1)]) hx hb dX0_nextOf_82 hl rfl rfl (by decide) rfl (fun ls hl => ?_)
          refine lv_goto (tgt := 25) hx hb dX0_nextOf_85 (by decide) ?_
          exact ih (fX0_beside b2 x5) (fJ3_max x4 x4) (x5 + 1) _ h _ _ _ hW hS (lv_sub hl [0, 1, 2, 5, 6, 7] rfl) kk
set_option maxHeartbeats 4000000 in
theorem mX0_nextOf (l : Launch) (E : xE) (σ : xM) (a1 : Int32) (r : Int32) (h : fX0_nextOf σ a1 = some r) : Met l yX0_nextOf (ws_ yX0_nextOf cX0_nextOf 8 (some .int)) ({ frames := 12, cells := 0, slots := 0, locals := 256 } : Room) (xPc E σ [.ref (xa E 0), .int a1]) (xQc E (.returned (some (.int r))) σ) 0 0 (xA E) := by
  refine x_of (C := RX0) (n := "nextOf") (d := "(I)I") (r := (some .int)) (by decide) rfl (by first | decide | exact Nat.le_of_ble_eq_true rfl) ?_
  intro p e s m below meth c ls F hr hlk hW hS hl
  have hl : lv_has ls 8 [(0, .ref (xa E 0)), (1, .int a1)] := hl
  obtain ⟨hx, hb, hml, hown, hts⟩ := id F.1
  have hK := F.2.1.1
  unfold fX0_nextOf at h
  refine lv_aload_n hx hb dX0_nextOf_0 rfl (lv_at hl 0 rfl) ?_
  refine va_get (D := xD E) (ci := 0) (v := .ref (xa E (xwc 0 0))) (C := RX0) (T := TX0) (N := 15) hx hb hts in_X0 hown hK (xO_X hW) 0 rfl rfl 3 (by decide) (hts _ q416) (fun _ h9 => h9) rfl dX0_nextOf_1 ?_
  refine va_getN (D := xD E) (ci := 4) (v := .ref (xa E (xwc 0 5))) (C := RX4) (T := TX4) (N := 8) hx hb hts in_X4 hown hK (xO_W hW 0 (by decide)) 0 rfl rfl 4 (by decide) (va_Nw.use rfl (F.2.1.2.1 _ q244 rfl)) (fun _ h9 => h9) rfl dX0_nextOf_4 ?_
  refine lv_iconst (v := 1) hx hb dX0_nextOf_7 (by decide) ?_
  refine x_aald (g := fun j => xa E (xwc 0 (6 + j))) (j := 1) F 4 4 5 (xR_5 hW 0 (by decide)) rfl rfl (x_lit (by decide)) (by decide) dX0_nextOf_8 ?_
  refine lv_iload_n hx hb dX0_nextOf_9 rfl (lv_at hl 1 rfl) ?_
  by_cases hi1 : xin a1 8
  · rw [if_pos hi1] at h
    refine va_iald hx hb hK (xV_6 hW 0 1 (by decide) (by decide)) 0 0 rfl rfl hi1 dX0_nextOf_10 ?_
    refine lv_istore_n (lv' := [(2, .int (σ 0 (146 + 5 * a1.toNatClampNeg + 1))), (0, .ref (xa E 0)), (1, .int a1)]) hx hb dX0_nextOf_11 rfl hl (by decide) rfl (fun ls hl => ?_)
    refine lv_iload_n hx hb dX0_nextOf_12 rfl (lv_at hl 0 rfl) ?_
    refine lv_istore_n (lv' := [(3, .int (σ 0 (146 + 5 * a1.toNatClampNeg + 1))), (2, .int (σ 0 (146 + 5 * a1.toNatClampNeg + 1))), (0, .ref (xa E 0)), (1, .int a1)]) hx hb dX0_nextOf_13 rfl hl (by decide) rfl (fun ls hl => ?_)
    refine lv_aload_n hx hb dX0_nextOf_14 rfl (lv_at hl 2 rfl) ?_
    refine lv_iload_n hx hb dX0_nextOf_15 rfl (lv_at hl 3 rfl) ?_
    refine lv_iload_n hx hb dX0_nextOf_16 rfl (lv_at hl 1 rfl) ?_
    cases g2 : fX0_worthOf σ a1 (σ 0 (146 + 5 * a1.toNatClampNeg + 1)) with
    | none => rw [g2] at h; cases h
    | some r3 =>
      rw [g2, Option.bind_some] at h
      refine x_backi (va_runV (C := RX0) (b := (xa E 0)) (As := [.int a1, .int (σ 0 (146 + 5 * a1.toNatClampNeg + 1))]) (rest := []) F.1 (mX0_worthOf l E σ a1 (σ 0 (146 + 5 * a1.toNatClampNeg + 1)) r3 g2) (cwV 2 hts (lw_V q578 q580 qs6 q99 q581) rfl rfl rfl (by decide +kernel) ⟨Nat.le_of_ble_eq_true rfl, Nat.le_of_ble_eq_true rfl⟩) ⟨xPc.blind, va_recv hK (xO_X hW) (ci := 0) (q0 := 0) rfl rfl, F.pre hW hS (.ref (xa E 0) :: [.int a1, .int (σ 0 (146 + 5 * a1.toNatClampNeg + 1))])⟩ rfl rfl hl.1 rfl (lv_room (Nat.le_of_ble_eq_true rfl)) dX0_nextOf_17 ⟨Nat.le_refl _, Nat.le_refl _⟩) hS (fun H locs hW hS => ?_)
      refine lv_istore (lv' := [(4, .int r3), (3, .int (σ 0 (146 + 5 * a1.toNatClampNeg + 1))), (2, .int (σ 0 (146 + 5 * a1.toNatClampNeg + 1))), (0, .ref (xa E 0)), (1, .int a1)]) hx hb dX0_nextOf_20 hl (by decide) rfl (fun ls hl => ?_)
      refine lv_iconst (v := 0) hx hb dX0_nextOf_22 (by decide) ?_
      refine lv_istore (lv' := [(5, .int 0), (4, .int r3), (3, .int (σ 0 (146 + 5 * a1.toNatClampNeg + 1))), (2, .int (σ 0 (146 + 5 * a1.toNatClampNeg + 1))), (0, .ref (xa E 0)), (1, .int a1)]) hx hb dX0_nextOf_23 hl (by decide) rfl (fun ls hl => ?_)
      cases g10 : gX0_nextOf_25 σ a1 (σ 0 (146 + 5 * a1.toNatClampNeg + 1)) xfu (σ 0 (146 + 5 * a1.toNatClampNeg + 1)) r3 0 with
      | none => rw [g10] at h; cases h
      | some q11 =>
        rw [g10, Option.bind_some] at h
        refine lX0_nextOf_25 F xfu (σ 0 (146 + 5 * a1.toNatClampNeg + 1)) r3 0 q11 g10 _ _ _ hW hS (lv_sub hl [0, 1, 2, 3, 4, 5] rfl) (fun H locs ls hW hS hl => ?_)
        refine lv_iload_n hx hb dX0_nextOf_88 rfl (lv_at hl 2 rfl) ?_
        cases h
        exact x_iret F hr hlk hW hS dX0_nextOf_89
  · rw [if_neg hi1] at h; cases h
/-! WildBells.passes()V -/
def gX0_passes_2_2  : Nat → Int32 → xM → Option (Int32 × xM)
  | 0, _, _ => none
  | n + 1, x1, σ => if (σ 0 2) ≤ x1 then (some (x1, σ)) else ((fX4_isCaught σ 0 x1).bind (fun r3 => if r3 = 0 then ((fX0_nextOf σ x1).bind (fun r6 => if xin x1 8 then (if xin x1 8 then (if xin ((xup σ 0 (146 + 5 * x1.toNatClampNeg + 1) r6) 0 (146 + 5 * x1.toNatClampNeg + 1)) 64 then (if xin x1 8 then (gX0_passes_2_2 n (x1 + 1) (xup (xup σ 0 (146 + 5 * x1.toNatClampNeg + 1) r6) 0 (146 + 5 * x1.toNatClampNeg + 4) ((xup σ 0 (146 + 5 * x1.toNatClampNeg + 1) r6) 0 (18 + 64 * 0 + ((xup σ 0 (146 + 5 * x1.toNatClampNeg + 1) r6) 0 (146 + 5 * x1.toNatClampNeg + 1)).toNatClampNeg)))) else none) else none) else none) else none)) else (gX0_passes_2_2 n (x1 + 1) σ)))
def fX0_passes_2 (σ : xM) : Option xM :=
  (gX0_passes_2_2 xfu 0 σ).bind (fun q12 => some (xup q12.2 0 0 ((q12.2 0 0) + 1)))
set_option maxHeartbeats 4000000 in
theorem lX0_passes_2_2 {p : Program} {l : Launch} {e : Env} {s : State} {m : MethodId} {av : Array Value} {below : List Frame} {meth : Method} {c : Code} {Q : State → Prop} {E : xE} (F : xFx p m c cX0_passes_2 2 s av RX0 E) : ∀ (n : Nat) (x1 : Int32) (σ : xM) (q : (Int32 × xM)), gX0_passes_2_2 n x1 σ = some q → ∀ (H : Heap) (locs : List Loc) (ls : Array Slot), xW E σ H → va_S (xA E) s.heap H locs → lv_has ls 2 [(1, .int x1), (0, .ref (xa E 0))] → (∀ (H : Heap) (locs : List Loc) (ls : Array Slot), xW E q.2 H → va_S (xA E) s.heap H locs → lv_has ls 2 [(1, .int q.1), (0, .ref (xa E 0))] → W p l e ({ frames := 13, cells := 0, slots := 0, locals := 283 } : Room) s m av below meth c H locs 0 0 Q (F0 m 78 ls [])) → W p l e ({ frames := 13, cells := 0, slots := 0, locals := 283 } : Room) s m av below meth c H locs 0 0 Q (F0 m 2 ls []) := by
  obtain ⟨hx, hb, hml, hown, hts⟩ := id F.1
  have hK := F.2.1.1
  intro n
  induction n with
  | zero =>
    intro x1 σ q h
    cases h
  | succ n ih =>
    intro x1 σ q h H locs ls hW hS hl kk
    rw [gX0_passes_2_2] at h
    refine lv_iload_n hx hb dX0_passes_2_2 rfl (lv_at hl 0 rfl) ?_
    refine lv_aload_n hx hb dX0_passes_2_3 rfl (lv_at hl 1 rfl) ?_
    refine va_get (D := xD E) (ci := 0) (v := .ref (xa E (xwc 0 0))) (C := RX0) (T := TX0) (N := 15) hx hb hts in_X0 hown hK (xO_X hW) 0 rfl rfl 3 (by decide) (hts _ q416) (fun _ h9 => h9) rfl dX0_passes_2_4 ?_
    refine va_getN (D := xD E) (ci := 4) (v := .int (σ 0 2)) (C := RX4) (T := TX4) (N := 8) hx hb hts in_X4 hown hK (xO_W hW 0 (by decide)) 0 rfl rfl 3 (by decide) (va_Nw.use rfl (F.2.1.2.1 _ q241 rfl)) (fun _ h9 => h9) rfl dX0_passes_2_7 ?_
    refine lv_icmp_ge (tgt := 78) hx hb dX0_passes_2_10 (by decide) (fun c1 => ?_) (fun c1 => ?_)
    · rw [if_pos c1] at h
      cases h
      exact kk _ _ _ hW hS (lv_sub hl [0, 1] rfl)
    · rw [if_neg c1] at h
      refine lv_aload_n hx hb dX0_passes_2_13 rfl (lv_at hl 1 rfl) ?_
      refine va_get (D := xD E) (ci := 0) (v := .ref (xa E (xwc 0 0))) (C := RX0) (T := TX0) (N := 15) hx hb hts in_X0 hown hK (xO_X hW) 0 rfl rfl 3 (by decide) (hts _ q416) (fun _ h9 => h9) rfl dX0_passes_2_14 ?_
      refine lv_iload_n hx hb dX0_passes_2_17 rfl (lv_at hl 0 rfl) ?_
      cases g2 : fX4_isCaught σ 0 x1 with
      | none => rw [g2] at h; cases h
      | some r3 =>
        rw [g2, Option.bind_some] at h
        refine x_backi (va_runV (C := RX4) (b := (xa E (xwc 0 0))) (As := [.int x1]) (rest := []) F.1 (mX4_isCaught l E σ 0 (by decide) x1 r3 g2) (cwV 1 hts (lw_V q616 q487 q488 q106 q489) rfl rfl rfl (by decide +kernel) ⟨Nat.le_of_ble_eq_true rfl, Nat.le_of_ble_eq_true rfl⟩) ⟨xPc.blind, va_recv hK (xO_W hW 0 (by decide)) (ci := 4) (q0 := 0) rfl rfl, F.pre hW hS (.ref (xa E (xwc 0 0)) :: [.int x1])⟩ rfl rfl hl.1 rfl (lv_room (Nat.le_of_ble_eq_true rfl)) dX0_passes_2_18 ⟨Nat.le_refl _, Nat.le_refl _⟩) hS (fun H locs hW hS => ?_)
        refine lv_if_ne (tgt := 72) hx hb dX0_passes_2_21 (by decide) (fun c4 => ?_) (fun c4 => ?_)
        · rw [if_neg c4] at h
          refine lv_iinc (k := 0) (v := (x1 + 1)) (lv' := [(1, .int (x1 + 1)), (0, .ref (xa E 0))]) hx hb dX0_passes_2_72 hl rfl rfl (by decide) rfl (fun ls hl => ?_)
          refine lv_goto (tgt := 2) hx hb dX0_passes_2_75 (by decide) ?_
          exact ih (x1 + 1) σ _ h _ _ _ hW hS (lv_sub hl [0, 1] rfl) kk
        · rw [if_pos c4] at h
          refine lv_aload_n hx hb dX0_passes_2_24 rfl (lv_at hl 1 rfl) ?_
          refine va_get (D := xD E) (ci := 0) (v := .ref (xa E (xwc 0 0))) (C := RX0) (T := TX0) (N := 15) hx hb hts in_X0 hown hK (xO_X hW) 0 rfl rfl 3 (by decide) (hts _ q416) (fun _ h9 => h9) rfl dX0_passes_2_25 ?_
          refine va_getN (D := xD E) (ci := 4) (v := .ref (xa E (xwc 0 5))) (C := RX4) (T := TX4) (N := 8) hx hb hts in_X4 hown hK (xO_W hW 0 (by decide)) 0 rfl rfl 4 (by decide) (va_Nw.use rfl (F.2.1.2.1 _ q244 rfl)) (fun _ h9 => h9) rfl dX0_passes_2_28 ?_
          refine lv_iconst (v := 1) hx hb dX0_passes_2_31 (by decide) ?_
          refine x_aald (g := fun j => xa E (xwc 0 (6 + j))) (j := 1) F 4 4 5 (xR_5 hW 0 (by decide)) rfl rfl (x_lit (by decide)) (by decide) dX0_passes_2_32 ?_
          refine lv_iload_n hx hb dX0_passes_2_33 rfl (lv_at hl 0 rfl) ?_
          refine lv_aload_n hx hb dX0_passes_2_34 rfl (lv_at hl 1 rfl) ?_
          refine lv_iload_n hx hb dX0_passes_2_35 rfl (lv_at hl 0 rfl) ?_
          cases g5 : fX0_nextOf σ x1 with
          | none => rw [g5] at h; cases h
          | some r6 =>
            rw [g5, Option.bind_some] at h
            refine x_backi (va_runV (C := RX0) (b := (xa E 0)) (As := [.int x1]) (rest := [.int x1, .ref (xa E (xwc 0 (6 + 1)))]) F.1 (mX0_nextOf l E σ x1 r6 g5) (cwV 1 hts (lw_V q574 q576 qs5 q99 q577) rfl rfl rfl (by decide +kernel) ⟨Nat.le_of_ble_eq_true rfl, Nat.le_of_ble_eq_true rfl⟩) ⟨xPc.blind, va_recv hK (xO_X hW) (ci := 0) (q0 := 0) rfl rfl, F.pre hW hS (.ref (xa E 0) :: [.int x1])⟩ rfl rfl hl.1 rfl (lv_room (Nat.le_of_ble_eq_true rfl)) dX0_passes_2_36 ⟨Nat.le_refl _, Nat.le_refl _⟩) hS (fun H locs hW hS => ?_)
            by_cases hi7 : xin x1 8
            · rw [if_pos hi7] at h
              refine x_iast F hW hS (xwc 0 (6 + 1)) 8 0 (fun j => 146 + 5 * j + 1) (xw_lt 0 (by decide) _ (Nat.lt_of_lt_of_le (Nat.add_lt_add_left (by decide) 6 : 6 + 1 < 6 + 5) (by decide))) (xw_6 0 (by decide) 1 (by decide)).1 (xw_6 0 (by decide) 1 (by decide)).2 (by decide) hi7 dX0_passes_2_39 (fun H locs hW hS => ?_)
              refine lv_aload_n hx hb dX0_passes_2_40 rfl (lv_at hl 1 rfl) ?_
              refine va_get (D := xD E) (ci := 0) (v := .ref (xa E (xwc 0 0))) (C := RX0) (T := TX0) (N := 15) hx hb hts in_X0 hown hK (xO_X hW) 0 rfl rfl 3 (by decide) (hts _ q416) (fun _ h9 => h9) rfl dX0_passes_2_41 ?_
              refine va_getN (D := xD E) (ci := 4) (v := .ref (xa E (xwc 0 5))) (C := RX4) (T := TX4) (N := 8) hx hb hts in_X4 hown hK (xO_W hW 0 (by decide)) 0 rfl rfl 4 (by decide) (va_Nw.use rfl (F.2.1.2.1 _ q244 rfl)) (fun _ h9 => h9) rfl dX0_passes_2_44 ?_
              refine lv_iconst (v := 4) hx hb dX0_passes_2_47 (by decide) ?_
              refine x_aald (g := fun j => xa E (xwc 0 (6 + j))) (j := 4) F 4 4 5 (xR_5 hW 0 (by decide)) rfl rfl (x_lit (by decide)) (by decide) dX0_passes_2_48 ?_
              refine lv_iload_n hx hb dX0_passes_2_49 rfl (lv_at hl 0 rfl) ?_
              refine lv_aload_n hx hb dX0_passes_2_50 rfl (lv_at hl 1 rfl) ?_
              refine va_get (D := xD E) (ci := 0) (v := .ref (xa E (xwc 0 0))) (C := RX0) (T := TX0) (N := 15) hx hb hts in_X0 hown hK (xO_X hW) 0 rfl rfl 3 (by decide) (hts _ q416) (fun _ h9 => h9) rfl dX0_passes_2_51 ?_
              refine va_getN (D := xD E) (ci := 4) (v := .ref (xa E (xwc 0 1))) (C := RX4) (T := TX4) (N := 8) hx hb hts in_X4 hown hK (xO_W hW 0 (by decide)) 0 rfl rfl 0 (by decide) (va_Nw.use rfl (F.2.1.2.1 _ q232 rfl)) (fun _ h9 => h9) rfl dX0_passes_2_54 ?_
              refine lv_iconst (v := 0) hx hb dX0_passes_2_57 (by decide) ?_
              refine x_aald (g := fun j => xa E (xwc 0 (2 + j))) (j := 0) F 4 4 2 (xR_1 hW 0 (by decide)) rfl rfl (x_lit (by decide)) (by decide) dX0_passes_2_58 ?_
              refine lv_aload_n hx hb dX0_passes_2_59 rfl (lv_at hl 1 rfl) ?_
              refine va_get (D := xD E) (ci := 0) (v := .ref (xa E (xwc 0 0))) (C := RX0) (T := TX0) (N := 15) hx hb hts in_X0 hown hK (xO_X hW) 0 rfl rfl 3 (by decide) (hts _ q416) (fun _ h9 => h9) rfl dX0_passes_2_60 ?_
              refine va_getN (D := xD E) (ci := 4) (v := .ref (xa E (xwc 0 5))) (C := RX4) (T := TX4) (N := 8) hx hb hts in_X4 hown hK (xO_W hW 0 (by decide)) 0 rfl rfl 4 (by decide) (va_Nw.use rfl (F.2.1.2.1 _ q244 rfl)) (fun _ h9 => h9) rfl dX0_passes_2_63 ?_
              refine lv_iconst (v := 1) hx hb dX0_passes_2_66 (by decide) ?_
              refine x_aald (g := fun j => xa E (xwc 0 (6 + j))) (j := 1) F 4 4 5 (xR_5 hW 0 (by decide)) rfl rfl (x_lit (by decide)) (by decide) dX0_passes_2_67 ?_
              refine lv_iload_n hx hb dX0_passes_2_68 rfl (lv_at hl 0 rfl) ?_
              by_cases hi8 : xin x1 8
              · rw [if_pos hi8] at h
                refine va_iald hx hb hK (xV_6 hW 0 1 (by decide) (by decide)) 0 0 rfl rfl hi8 dX0_passes_2_69 ?_
                by_cases hi9 : xin ((xup σ 0 (146 + 5 * x1.toNatClampNeg + 1) r6) 0 (146 + 5 * x1.toNatClampNeg + 1)) 64
                · rw [if_pos hi9] at h
                  refine va_iald hx hb hK (xV_2 hW 0 0 (by decide) (by decide)) 0 0 rfl rfl hi9 dX0_passes_2_70 ?_
                  by_cases hi10 : xin x1 8
                  · rw [if_pos hi10] at h
                    refine x_iast F hW hS (xwc 0 (6 + 4)) 8 0 (fun j => 146 + 5 * j + 4) (xw_lt 0 (by decide) _ (Nat.lt_of_lt_of_le (Nat.add_lt_add_left (by decide) 6 : 6 + 4 < 6 + 5) (by decide))) (xw_6 0 (by decide) 4 (by decide)).1 (xw_6 0 (by decide) 4 (by decide)).2 (by decide) hi10 dX0_passes_2_71 (fun H locs hW hS => ?_)
                    refine lv_iinc (k := 0) (v := (x1 + 1)) (lv' := [(1, .int (x1 + 1)), (0, .ref (xa E 0))]) hx hb dX0_passes_2_72 hl rfl rfl (by decide) rfl (fun ls hl => ?_)
                    refine lv_goto (tgt := 2) hx hb dX0_passes_2_75 (by decide) ?_
                    exact ih (x1 + 1) (xup (xup σ 0 (146 + 5 * x1.toNatClampNeg + 1) r6) 0 (146 + 5 * x1.toNatClampNeg + 4) ((xup σ 0 (146 + 5 * x1.toNatClampNeg + 1) r6) 0 (18 + 64 * 0 + ((xup σ 0 (146 + 5 * x1.toNatClampNeg + 1) r6) 0 (146 + 5 * x1.toNatClampNeg + 1)).toNatClampNeg))) _ h _ _ _ hW hS (lv_sub hl [0, 1] rfl) kk
                  · rw [if_neg hi10] at h; cases h
                · rw [if_neg hi9] at h; cases h
              · rw [if_neg hi8] at h; cases h
            · rw [if_neg hi7] at h; cases h
set_option maxHeartbeats 4000000 in
theorem mX0_passes_2 (l : Launch) (E : xE) (σ : xM) (σ' : xM) (h : fX0_passes_2 σ = some σ') : Met l yX0_passes_2 (ws_ yX0_passes_2 cX0_passes_2 2 none) ({ frames := 13, cells := 0, slots := 0, locals := 283 } : Room) (xPc E σ [.ref (xa E 0)]) (xQc E (.returned none) σ') 0 0 (xA E) := by
  refine x_of (C := RX0) (n := "passes") (d := "()V") (r := none) (by decide) rfl (by first | decide | exact Nat.le_of_ble_eq_true rfl) ?_
  intro p e s m below meth c ls F hr hlk hW hS hl
  have hl : lv_has ls 2 [(0, .ref (xa E 0))] := hl
  obtain ⟨hx, hb, hml, hown, hts⟩ := id F.1
  have hK := F.2.1.1
  unfold fX0_passes_2 at h
  refine lv_iconst (v := 0) hx hb dX0_passes_2_0 (by decide) ?_
  refine lv_istore_n (lv' := [(1, .int 0), (0, .ref (xa E 0))]) hx hb dX0_passes_2_1 rfl hl (by decide) rfl (fun ls hl => ?_)
  cases g11 : gX0_passes_2_2 xfu 0 σ with
  | none => rw [g11] at h; cases h
  | some q12 =>
    rw [g11, Option.bind_some] at h
    refine lX0_passes_2_2 F xfu 0 σ q12 g11 _ _ _ hW hS (lv_sub hl [0, 1] rfl) (fun H locs ls hW hS hl => ?_)
    refine lv_aload_n hx hb dX0_passes_2_78 rfl (lv_at hl 1 rfl) ?_
    refine va_get (D := xD E) (ci := 0) (v := .ref (xa E (xwc 0 0))) (C := RX0) (T := TX0) (N := 15) hx hb hts in_X0 hown hK (xO_X hW) 0 rfl rfl 3 (by decide) (hts _ q416) (fun _ h9 => h9) rfl dX0_passes_2_79 ?_
    refine lv_dup hx hb dX0_passes_2_82 rfl ?_
    refine va_getN (D := xD E) (ci := 4) (v := .int (q12.2 0 0)) (C := RX4) (T := TX4) (N := 8) hx hb hts in_X4 hown hK (xO_W hW 0 (by decide)) 0 rfl rfl 5 (by decide) (va_Nw.use rfl (F.2.1.2.1 _ q246 rfl)) (fun _ h9 => h9) rfl dX0_passes_2_83 ?_
    refine lv_iconst (v := 1) hx hb dX0_passes_2_86 (by decide) ?_
    refine lv_iadd hx hb dX0_passes_2_87 ?_
    refine x_putN (C := RX4) (T := TX4) (N := 8) (ci := 4) (ty := .int) F hW hS in_X4 tyX4 tyX4_ok nmX4 rfl (xwc 0 0) 5 0 0 (xw_lt 0 (by decide) 0 (by decide)) (xw_0 0 (by decide)).1 (by decide) (xw_0 0 (by decide)).2.2.2.2.2.2.1 (by decide) (va_Nw.use rfl (F.2.1.2.1 _ q246 rfl)) (fun _ h9 => h9) rfl (by decide +kernel) rfl rfl dX0_passes_2_88 (fun H locs hW hS => ?_)
    cases h
    exact x_vret F hr hlk hW hS dX0_passes_2_91
/-! WildBells.passes(I)V -/
def gX0_passes_2 (b1 : Int32) : Nat → Int32 → xM → Option (Int32 × xM)
  | 0, _, _ => none
  | n + 1, x2, σ => if b1 ≤ x2 then (some (x2, σ)) else ((fX0_passes_2 σ).bind (fun r3 => gX0_passes_2 b1 n (x2 + 1) r3))
def fX0_passes (σ : xM) (a1 : Int32) : Option xM :=
  (gX0_passes_2 a1 xfu 0 σ).bind (fun q5 => some q5.2)
set_option maxHeartbeats 4000000 in
theorem lX0_passes_2 {p : Program} {l : Launch} {e : Env} {s : State} {m : MethodId} {av : Array Value} {below : List Frame} {meth : Method} {c : Code} {Q : State → Prop} {E : xE} {b1 : Int32} (F : xFx p m c cX0_passes 3 s av RX0 E) : ∀ (n : Nat) (x2 : Int32) (σ : xM) (q : (Int32 × xM)), gX0_passes_2 b1 n x2 σ = some q → ∀ (H : Heap) (locs : List Loc) (ls : Array Slot), xW E σ H → va_S (xA E) s.heap H locs → lv_has ls 3 [(2, .int x2), (0, .ref (xa E 0)), (1, .int b1)] → (∀ (H : Heap) (locs : List Loc) (ls : Array Slot), xW E q.2 H → va_S (xA E) s.heap H locs → lv_has ls 3 [(2, .int q.1), (0, .ref (xa E 0)), (1, .int b1)] → W p l e ({ frames := 14, cells := 0, slots := 0, locals := 304 } : Room) s m av below meth c H locs 0 0 Q (F0 m 17 ls [])) → W p l e ({ frames := 14, cells := 0, slots := 0, locals := 304 } : Room) s m av below meth c H locs 0 0 Q (F0 m 2 ls []) := by
  obtain ⟨hx, hb, hml, hown, hts⟩ := id F.1
  have hK := F.2.1.1
  intro n
  induction n with
  | zero =>
    intro x2 σ q h
    cases h
  | succ n ih =>
    intro x2 σ q h H locs ls hW hS hl kk
    rw [gX0_passes_2] at h
    refine lv_iload_n hx hb dX0_passes_2 rfl (lv_at hl 0 rfl) ?_
    refine lv_iload_n hx hb dX0_passes_3 rfl (lv_at hl 2 rfl) ?_
    refine lv_icmp_ge (tgt := 17) hx hb dX0_passes_4 (by decide) (fun c1 => ?_) (fun c1 => ?_)
    · rw [if_pos c1] at h
      cases h
      exact kk _ _ _ hW hS (lv_sub hl [0, 1, 2] rfl)
    · rw [if_neg c1] at h
      refine lv_aload_n hx hb dX0_passes_7 rfl (lv_at hl 1 rfl) ?_
      cases g2 : fX0_passes_2 σ with
      | none => rw [g2] at h; cases h
      | some r3 =>
        rw [g2, Option.bind_some] at h
        refine x_backv (va_runV (C := RX0) (b := (xa E 0)) (As := []) (rest := []) F.1 (mX0_passes_2 l E σ r3 g2) (cwV 0 hts (lw_V q713 q715 qs10 q99 q716) rfl rfl rfl (by decide +kernel) ⟨Nat.le_of_ble_eq_true rfl, Nat.le_of_ble_eq_true rfl⟩) ⟨xPc.blind, va_recv hK (xO_X hW) (ci := 0) (q0 := 0) rfl rfl, F.pre hW hS (.ref (xa E 0) :: [])⟩ rfl rfl hl.1 rfl (lv_room (Nat.le_of_ble_eq_true rfl)) dX0_passes_8 ⟨Nat.le_refl _, Nat.le_refl _⟩) hS (fun H locs hW hS => ?_)
        refine lv_iinc (k := 0) (v := (x2 + 1)) (lv' := [(2, .int (x2 + 1)), (0, .ref (xa E 0)), (1, .int b1)]) hx hb dX0_passes_11 hl rfl rfl (by decide) rfl (fun ls hl => ?_)
        refine lv_goto (tgt := 2) hx hb dX0_passes_14 (by decide) ?_
        exact ih (x2 + 1) r3 _ h _ _ _ hW hS (lv_sub hl [0, 1, 2] rfl) kk
set_option maxHeartbeats 4000000 in
theorem mX0_passes (l : Launch) (E : xE) (σ : xM) (a1 : Int32) (σ' : xM) (h : fX0_passes σ a1 = some σ') : Met l yX0_passes (ws_ yX0_passes cX0_passes 3 none) ({ frames := 14, cells := 0, slots := 0, locals := 304 } : Room) (xPc E σ [.ref (xa E 0), .int a1]) (xQc E (.returned none) σ') 0 0 (xA E) := by
  refine x_of (C := RX0) (n := "passes") (d := "(I)V") (r := none) (by decide) rfl (by first | decide | exact Nat.le_of_ble_eq_true rfl) ?_
  intro p e s m below meth c ls F hr hlk hW hS hl
  have hl : lv_has ls 3 [(0, .ref (xa E 0)), (1, .int a1)] := hl
  obtain ⟨hx, hb, hml, hown, hts⟩ := id F.1
  have hK := F.2.1.1
  unfold fX0_passes at h
  refine lv_iconst (v := 0) hx hb dX0_passes_0 (by decide) ?_
  refine lv_istore_n (lv' := [(2, .int 0), (0, .ref (xa E 0)), (1, .int a1)]) hx hb dX0_passes_1 rfl hl (by decide) rfl (fun ls hl => ?_)
  cases g4 : gX0_passes_2 a1 xfu 0 σ with
  | none => rw [g4] at h; cases h
  | some q5 =>
    rw [g4, Option.bind_some] at h
    refine lX0_passes_2 F xfu 0 σ q5 g4 _ _ _ hW hS (lv_sub hl [0, 1, 2] rfl) (fun H locs ls hW hS hl => ?_)
    cases h
    exact x_vret F hr hlk hW hS dX0_passes_17
