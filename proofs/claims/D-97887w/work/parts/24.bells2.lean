set_option maxRecDepth 100000
section XDP
variable {p : Program} {l : Launch} {e : Env} {R : Room} {s : State} {m : MethodId} {args : Array Value} {below : List Frame} {meth : Method} {c : Code} {H : Heap} {locs : List Loc} {cells slots : Nat} {Q : State → Prop}
variable {E : xE} {σ : xM} {pc : Nat} {ls : Array Slot} {rest : List Value} {cc : ByteArray} {nL : Nat}
/-- a bell is a Bell -/
theorem x_castB {index : Nat} (F : xFx p m c cc nL s args RX0 E) (hW : xW E σ H) (j : Nat) (hj : j < 56) (hlink : (Cond.classLink RX0 index RX6).before args s = true) (hdg : decode cc pc = .ok (.checkcast index, 3))
    (k : W p l e R s m args below meth c H locs cells slots Q (F0 m (pc + 3) ls (.ref (xa E (61 + 2 * j)) :: rest))) : W p l e R s m args below meth c H locs cells slots Q (F0 m pc ls (.ref (xa E (61 + 2 * j)) :: rest)) := by
  obtain ⟨κ, n, hκ, hn, rfl⟩ : ∃ κ n, κ < 7 ∧ n < 8 ∧ j = 8 * κ + n := ⟨j / 8, j % 8, by omega, by omega, by omega⟩
  obtain ⟨hx, hb, hml, hown, hts⟩ := id F.1
  have hK := F.2.1.1
  have h7 : κ = 0 ∨ κ = 1 ∨ κ = 2 ∨ κ = 3 ∨ κ = 4 ∨ κ = 5 ∨ κ = 6 := by omega
  rcases h7 with rfl | rfl | rfl | rfl | rfl | rfl | rfl
  · exact va_castE hx hb hown hlink (va_recv hK (xO_B hW 0 n (by decide) hn) (ci := 6) (q0 := 0) rfl rfl) hdg k
  · exact va_castY (C := RX7) hx hb hown hlink (F.2.1.2.1 _ q1738 rfl) (va_recv hK (xO_B hW 1 n (by decide) hn) (ci := 7) (q0 := 0) rfl rfl) hdg k
  · exact va_castY (C := RX8) hx hb hown hlink (F.2.1.2.1 _ q1739 rfl) (va_recv hK (xO_B hW 2 n (by decide) hn) (ci := 8) (q0 := 0) rfl rfl) hdg k
  · exact va_castY (C := RX9) hx hb hown hlink (F.2.1.2.1 _ q1741 rfl) (va_recv hK (xO_B hW 3 n (by decide) hn) (ci := 9) (q0 := 0) rfl rfl) hdg k
  · exact va_castY (C := RX10) hx hb hown hlink (F.2.1.2.1 _ q1737 rfl) (va_recv hK (xO_B hW 4 n (by decide) hn) (ci := 10) (q0 := 0) rfl rfl) hdg k
  · exact va_castY (C := RX11) hx hb hown hlink (F.2.1.2.1 _ q1740 rfl) (va_recv hK (xO_B hW 5 n (by decide) hn) (ci := 11) (q0 := 0) rfl rfl) hdg k
  · exact va_castY (C := RX12) hx hb hown hlink (F.2.1.2.1 _ q1742 rfl) (va_recv hK (xO_B hW 6 n (by decide) hn) (ci := 12) (q0 := 0) rfl rfl) hdg k
def xknd (κ : Nat) : Int32 :=
  if κ = 0 then fX6_kind_k0 else if κ = 1 then fX7_kind_k1 else if κ = 2 then fX8_kind_k2 else if κ = 3 then fX9_kind_k3 else if κ = 4 then fX10_kind_k4 else if κ = 5 then fX11_kind_k5 else fX12_kind_k6
set_option maxHeartbeats 4000000 in
theorem x_runKind (F : xFx p m c cc nL s args RX0 E) (hfr : 4 ≤ R.frames) (hlo : 80 ≤ R.locals) {j : Nat} (hj : j < 56) (hW : xW E σ H) (hS : va_S (xA E) s.heap H locs) (hsize : ls.size = nL) (hrs : (rest.map fun v => v.category).sum ≤ 8) (hdg : decode cc pc = .ok (.invokevirtual 198, 3)) (hf : cells ≤ R.cells ∧ slots ≤ R.slots) : va_Run p l e R s m args below meth c H locs cells slots 0 0 (F0 m pc ls (.ref (xa E (61 + 2 * j)) :: rest)) rest (xQc E (.returned (some (.int (xknd (j / 8))))) σ (Value.ref (xa E (61 + 2 * j)) :: []).toArray) (xA E) := by
  obtain ⟨κ, n, hκ, hn, rfl⟩ : ∃ κ n, κ < 7 ∧ n < 8 ∧ j = 8 * κ + n := ⟨j / 8, j % 8, by omega, by omega, by omega⟩
  have e1 : (8 * κ + n) / 8 = κ := by omega
  have e2 : (8 * κ + n) % 8 = n := by omega
  rw [e1]
  obtain ⟨hx, hb, hml, hown, hts⟩ := id F.1
  have hK := F.2.1.1
  have h7 : κ = 0 ∨ κ = 1 ∨ κ = 2 ∨ κ = 3 ∨ κ = 4 ∨ κ = 5 ∨ κ = 6 := by omega
  rcases h7 with rfl | rfl | rfl | rfl | rfl | rfl | rfl
  · exact va_runV (C := RX6) (b := xa E (xbc 0 n)) (As := []) (rest := rest) F.1 (mX6_kind_k0 l E σ n hn) (cwV 0 hts (lw_V q545 q546 q547 q108 q573) rfl rfl rfl (by decide +kernel) ⟨Nat.le_trans (by decide) hfr, Nat.le_trans (by decide) hlo⟩) ⟨xPc.blind, va_recv hK (xO_B hW 0 n (by decide) hn) (ci := 6) (q0 := 0) rfl rfl, F.pre hW hS (.ref (xa E (xbc 0 n)) :: [])⟩ rfl rfl hsize rfl (lv_room hrs) hdg ⟨hf.1, hf.2⟩
  · exact va_runU (C := RX7) (owner := "WildBells$Bell") (b := xa E (xbc 1 n)) (As := []) (rest := rest) F.1 (mX7_kind_k1 l E σ n hn) (va_cwO 0 hts (lw_O q545 q548 q546 q559 q560 q109 q561) rfl rfl rfl q573 (by decide +kernel) ⟨Nat.le_trans (by decide) hfr, Nat.le_trans (by decide) hlo⟩) ⟨xPc.blind, va_recv hK (xO_B hW 1 n (by decide) hn) (ci := 7) (q0 := 0) rfl rfl, F.pre hW hS (.ref (xa E (xbc 1 n)) :: [])⟩ rfl rfl hsize rfl (lv_room hrs) hdg ⟨hf.1, hf.2⟩
  · exact va_runU (C := RX8) (owner := "WildBells$Bell") (b := xa E (xbc 2 n)) (As := []) (rest := rest) F.1 (mX8_kind_k2 l E σ n hn) (va_cwO 0 hts (lw_O q545 q548 q546 q563 q556 q110 q557) rfl rfl rfl q573 (by decide +kernel) ⟨Nat.le_trans (by decide) hfr, Nat.le_trans (by decide) hlo⟩) ⟨xPc.blind, va_recv hK (xO_B hW 2 n (by decide) hn) (ci := 8) (q0 := 0) rfl rfl, F.pre hW hS (.ref (xa E (xbc 2 n)) :: [])⟩ rfl rfl hsize rfl (lv_room hrs) hdg ⟨hf.1, hf.2⟩
  · exact va_runU (C := RX9) (owner := "WildBells$Bell") (b := xa E (xbc 3 n)) (As := []) (rest := rest) F.1 (mX9_kind_k3 l E σ n hn) (va_cwO 0 hts (lw_O q545 q548 q546 q568 q553 q111 q554) rfl rfl rfl q573 (by decide +kernel) ⟨Nat.le_trans (by decide) hfr, Nat.le_trans (by decide) hlo⟩) ⟨xPc.blind, va_recv hK (xO_B hW 3 n (by decide) hn) (ci := 9) (q0 := 0) rfl rfl, F.pre hW hS (.ref (xa E (xbc 3 n)) :: [])⟩ rfl rfl hsize rfl (lv_room hrs) hdg ⟨hf.1, hf.2⟩
  · exact va_runU (C := RX10) (owner := "WildBells$Bell") (b := xa E (xbc 4 n)) (As := []) (rest := rest) F.1 (mX10_kind_k4 l E σ n hn) (va_cwO 0 hts (lw_O q545 q548 q546 q549 q550 q112 q551) rfl rfl rfl q573 (by decide +kernel) ⟨Nat.le_trans (by decide) hfr, Nat.le_trans (by decide) hlo⟩) ⟨xPc.blind, va_recv hK (xO_B hW 4 n (by decide) hn) (ci := 10) (q0 := 0) rfl rfl, F.pre hW hS (.ref (xa E (xbc 4 n)) :: [])⟩ rfl rfl hsize rfl (lv_room hrs) hdg ⟨hf.1, hf.2⟩
  · exact va_runU (C := RX11) (owner := "WildBells$Bell") (b := xa E (xbc 5 n)) (As := []) (rest := rest) F.1 (mX11_kind_k5 l E σ n hn) (va_cwO 0 hts (lw_O q545 q548 q546 q564 q565 q113 q566) rfl rfl rfl q573 (by decide +kernel) ⟨Nat.le_trans (by decide) hfr, Nat.le_trans (by decide) hlo⟩) ⟨xPc.blind, va_recv hK (xO_B hW 5 n (by decide) hn) (ci := 11) (q0 := 0) rfl rfl, F.pre hW hS (.ref (xa E (xbc 5 n)) :: [])⟩ rfl rfl hsize rfl (lv_room hrs) hdg ⟨hf.1, hf.2⟩
  · exact va_runU (C := RX12) (owner := "WildBells$Bell") (b := xa E (xbc 6 n)) (As := []) (rest := rest) F.1 (mX12_kind_k6 l E σ n hn) (va_cwO 0 hts (lw_O q545 q548 q546 q569 q570 q114 q571) rfl rfl rfl q573 (by decide +kernel) ⟨Nat.le_trans (by decide) hfr, Nat.le_trans (by decide) hlo⟩) ⟨xPc.blind, va_recv hK (xO_B hW 6 n (by decide) hn) (ci := 12) (q0 := 0) rfl rfl, F.pre hW hS (.ref (xa E (xbc 6 n)) :: [])⟩ rfl rfl hsize rfl (lv_room hrs) hdg ⟨hf.1, hf.2⟩
def xund (κ : Nat) (a : Int32) : Int32 :=
  if κ = 0 then fX6_isUnder_k0 a else if κ = 1 then fX7_isUnder_k1 a else if κ = 2 then fX8_isUnder_k2 a else if κ = 3 then fX9_isUnder_k3 a else if κ = 4 then fX9_isUnder_k4 a else if κ = 5 then fX6_isUnder_k5 a else fX7_isUnder_k6 a
set_option maxHeartbeats 4000000 in
theorem x_runUnder {x : Int32} (F : xFx p m c cc nL s args RX0 E) (hfr : 7 ≤ R.frames) (hlo : 143 ≤ R.locals) {j : Nat} (hj : j < 56) (hW : xW E σ H) (hS : va_S (xA E) s.heap H locs) (hsize : ls.size = nL) (hrs : (rest.map fun v => v.category).sum ≤ 8) (hdg : decode cc pc = .ok (.invokevirtual 147, 3)) (hf : cells ≤ R.cells ∧ slots ≤ R.slots) : va_Run p l e R s m args below meth c H locs cells slots 0 0 (F0 m pc ls (.int x :: .ref (xa E (61 + 2 * j)) :: rest)) rest (xQc E (.returned (some (.int (xund (j / 8) x)))) σ (Value.ref (xa E (61 + 2 * j)) :: [.int x]).toArray) (xA E) := by
  obtain ⟨κ, n, hκ, hn, rfl⟩ : ∃ κ n, κ < 7 ∧ n < 8 ∧ j = 8 * κ + n := ⟨j / 8, j % 8, by omega, by omega, by omega⟩
  have e1 : (8 * κ + n) / 8 = κ := by omega
  have e2 : (8 * κ + n) % 8 = n := by omega
  rw [e1]
  obtain ⟨hx, hb, hml, hown, hts⟩ := id F.1
  have hK := F.2.1.1
  have h7 : κ = 0 ∨ κ = 1 ∨ κ = 2 ∨ κ = 3 ∨ κ = 4 ∨ κ = 5 ∨ κ = 6 := by omega
  rcases h7 with rfl | rfl | rfl | rfl | rfl | rfl | rfl
  · exact va_runV (C := RX6) (b := xa E (xbc 0 n)) (As := [.int x]) (rest := rest) F.1 (mX6_isUnder_k0 l E σ n hn x) (cwV 1 hts (lw_V q617 q618 q619 q108 q636) rfl rfl rfl (by decide +kernel) ⟨Nat.le_trans (by decide) hfr, Nat.le_trans (by decide) hlo⟩) ⟨xPc.blind, va_recv hK (xO_B hW 0 n (by decide) hn) (ci := 6) (q0 := 0) rfl rfl, F.pre hW hS (.ref (xa E (xbc 0 n)) :: [.int x])⟩ rfl rfl hsize rfl (lv_room hrs) hdg ⟨hf.1, hf.2⟩
  · exact va_runU (C := RX7) (owner := "WildBells$Bell") (b := xa E (xbc 1 n)) (As := [.int x]) (rest := rest) F.1 (mX7_isUnder_k1 l E σ n hn x) (va_cwO 1 hts (lw_O q617 q620 q618 q628 q629 q109 q630) rfl rfl rfl q636 (by decide +kernel) ⟨Nat.le_trans (by decide) hfr, Nat.le_trans (by decide) hlo⟩) ⟨xPc.blind, va_recv hK (xO_B hW 1 n (by decide) hn) (ci := 7) (q0 := 0) rfl rfl, F.pre hW hS (.ref (xa E (xbc 1 n)) :: [.int x])⟩ rfl rfl hsize rfl (lv_room hrs) hdg ⟨hf.1, hf.2⟩
  · exact va_runU (C := RX8) (owner := "WildBells$Bell") (b := xa E (xbc 2 n)) (As := [.int x]) (rest := rest) F.1 (mX8_isUnder_k2 l E σ n hn x) (va_cwO 1 hts (lw_O q617 q620 q618 q632 q625 q110 q626) rfl rfl rfl q636 (by decide +kernel) ⟨Nat.le_trans (by decide) hfr, Nat.le_trans (by decide) hlo⟩) ⟨xPc.blind, va_recv hK (xO_B hW 2 n (by decide) hn) (ci := 8) (q0 := 0) rfl rfl, F.pre hW hS (.ref (xa E (xbc 2 n)) :: [.int x])⟩ rfl rfl hsize rfl (lv_room hrs) hdg ⟨hf.1, hf.2⟩
  · exact va_runU (C := RX9) (owner := "WildBells$Bell") (b := xa E (xbc 3 n)) (As := [.int x]) (rest := rest) F.1 (mX9_isUnder_k3 l E σ n hn x) (va_cwO 1 hts (lw_O q617 q620 q618 q634 q622 q111 q623) rfl rfl rfl q636 (by decide +kernel) ⟨Nat.le_trans (by decide) hfr, Nat.le_trans (by decide) hlo⟩) ⟨xPc.blind, va_recv hK (xO_B hW 3 n (by decide) hn) (ci := 9) (q0 := 0) rfl rfl, F.pre hW hS (.ref (xa E (xbc 3 n)) :: [.int x])⟩ rfl rfl hsize rfl (lv_room hrs) hdg ⟨hf.1, hf.2⟩
  · exact va_runU (C := RX10) (owner := "WildBells$Bell") (b := xa E (xbc 4 n)) (As := [.int x]) (rest := rest) F.1 (mX9_isUnder_k4 l E σ n hn x) (va_cwO 1 hts (lw_O q617 q620 q618 q621 q622 q111 q623) rfl rfl rfl q636 (by decide +kernel) ⟨Nat.le_trans (by decide) hfr, Nat.le_trans (by decide) hlo⟩) ⟨xPc.blind, va_recv hK (xO_B hW 4 n (by decide) hn) (ci := 10) (q0 := 0) rfl rfl, F.pre hW hS (.ref (xa E (xbc 4 n)) :: [.int x])⟩ rfl rfl hsize rfl (lv_room hrs) hdg ⟨hf.1, hf.2⟩
  · exact va_runU (C := RX11) (owner := "WildBells$Bell") (b := xa E (xbc 5 n)) (As := [.int x]) (rest := rest) F.1 (mX6_isUnder_k5 l E σ n hn x) (va_cwO 1 hts (lw_O q617 q620 q618 q633 q618 q108 q636) rfl rfl rfl q636 (by decide +kernel) ⟨Nat.le_trans (by decide) hfr, Nat.le_trans (by decide) hlo⟩) ⟨xPc.blind, va_recv hK (xO_B hW 5 n (by decide) hn) (ci := 11) (q0 := 0) rfl rfl, F.pre hW hS (.ref (xa E (xbc 5 n)) :: [.int x])⟩ rfl rfl hsize rfl (lv_room hrs) hdg ⟨hf.1, hf.2⟩
  · exact va_runU (C := RX12) (owner := "WildBells$Bell") (b := xa E (xbc 6 n)) (As := [.int x]) (rest := rest) F.1 (mX7_isUnder_k6 l E σ n hn x) (va_cwO 1 hts (lw_O q617 q620 q618 q635 q629 q109 q630) rfl rfl rfl q636 (by decide +kernel) ⟨Nat.le_trans (by decide) hfr, Nat.le_trans (by decide) hlo⟩) ⟨xPc.blind, va_recv hK (xO_B hW 6 n (by decide) hn) (ci := 12) (q0 := 0) rfl rfl, F.pre hW hS (.ref (xa E (xbc 6 n)) :: [.int x])⟩ rfl rfl hsize rfl (lv_room hrs) hdg ⟨hf.1, hf.2⟩
end XDP
/-! WildBells.bellOf(I)LWildBells$Bell; -/
def fX0_bellOf (σ : xM) (a1 : Int32) : Option Nat :=
  if xin a1 8 then (if xin ((8 * (σ 0 (146 + 5 * a1.toNatClampNeg + 0))) + a1) 56 then (some (((8 * (σ 0 (146 + 5 * a1.toNatClampNeg + 0))) + a1).toNatClampNeg)) else none) else none
set_option maxHeartbeats 4000000 in
theorem mX0_bellOf (l : Launch) (E : xE) (σ : xM) (a1 : Int32) (r : Nat) (h : fX0_bellOf σ a1 = some r) : Met l yX0_bellOf (ws_ yX0_bellOf cX0_bellOf 2 (some (.object "WildBells$Bell"))) ({ frames := 0, cells := 0, slots := 0, locals := 0 } : Room) (xPc E σ [.ref (xa E 0), .int a1]) (xQc E (.returned (some (.ref (xa E (61 + 2 * r))))) σ) 0 0 (xA E) := by
  refine x_of (C := RX0) (n := "bellOf") (d := "(I)LWildBells$Bell;") (r := (some (.object "WildBells$Bell"))) (by decide) rfl (by first | decide | exact Nat.le_of_ble_eq_true rfl) ?_
  intro p e s m below meth c ls F hr hlk hW hS hl
  have hl : lv_has ls 2 [(0, .ref (xa E 0)), (1, .int a1)] := hl
  obtain ⟨hx, hb, hml, hown, hts⟩ := id F.1
  have hK := F.2.1.1
  unfold fX0_bellOf at h
  refine lv_aload_n hx hb dX0_bellOf_0 rfl (lv_at hl 0 rfl) ?_
  refine va_get (D := xD E) (ci := 0) (v := .ref (xa E 53)) (C := RX0) (T := TX0) (N := 15) hx hb hts in_X0 hown hK (xO_X hW) 0 rfl rfl 7 (by decide) (hts _ q420) (fun _ h9 => h9) rfl dX0_bellOf_1 ?_
  refine lv_bipush (v := 8) hx hb dX0_bellOf_4 (by decide) ?_
  refine lv_aload_n hx hb dX0_bellOf_6 rfl (lv_at hl 0 rfl) ?_
  refine va_get (D := xD E) (ci := 0) (v := .ref (xa E (xwc 0 0))) (C := RX0) (T := TX0) (N := 15) hx hb hts in_X0 hown hK (xO_X hW) 0 rfl rfl 3 (by decide) (hts _ q416) (fun _ h9 => h9) rfl dX0_bellOf_7 ?_
  refine va_getN (D := xD E) (ci := 4) (v := .ref (xa E (xwc 0 5))) (C := RX4) (T := TX4) (N := 8) hx hb hts in_X4 hown hK (xO_W hW 0 (by decide)) 0 rfl rfl 4 (by decide) (va_Nw.use rfl (F.2.1.2.1 _ q244 rfl)) (fun _ h9 => h9) rfl dX0_bellOf_10 ?_
  refine lv_iconst (v := 0) hx hb dX0_bellOf_13 (by decide) ?_
  refine x_aald (g := fun j => xa E (xwc 0 (6 + j))) (j := 0) F 4 4 5 (xR_5 hW 0 (by decide)) rfl rfl (x_lit (by decide)) (by decide) dX0_bellOf_14 ?_
  refine lv_iload_n hx hb dX0_bellOf_15 rfl (lv_at hl 1 rfl) ?_
  by_cases hi1 : xin a1 8
  · rw [if_pos hi1] at h
    refine va_iald hx hb hK (xV_6 hW 0 0 (by decide) (by decide)) 0 0 rfl rfl hi1 dX0_bellOf_16 ?_
    refine lv_imul hx hb dX0_bellOf_17 ?_
    refine lv_iload_n hx hb dX0_bellOf_18 rfl (lv_at hl 1 rfl) ?_
    refine lv_iadd hx hb dX0_bellOf_19 ?_
    by_cases hi2 : xin ((8 * (σ 0 (146 + 5 * a1.toNatClampNeg + 0))) + a1) 56
    · rw [if_pos hi2] at h
      refine x_aald (g := fun j => xa E (60 + 2 * j)) (j := (((8 * (σ 0 (146 + 5 * a1.toNatClampNeg + 0))) + a1).toNatClampNeg)) F 5 5 56 (xR_53 hW) rfl rfl hi2 rfl dX0_bellOf_20 ?_
      refine va_getN (D := xD E) (ci := 5) (v := .ref (xa E (61 + 2 * ((8 * (σ 0 (146 + 5 * a1.toNatClampNeg + 0))) + a1).toNatClampNeg))) (C := RX5) (T := TX5) (N := 1) hx hb hts in_X5 hown hK (xO_sb hW (((8 * (σ 0 (146 + 5 * a1.toNatClampNeg + 0))) + a1).toNatClampNeg) (x_lt hi2)) 0 rfl rfl 0 (by decide) (va_Nw.use rfl (F.2.1.2.1 _ q308 rfl)) (fun _ h9 => h9) rfl dX0_bellOf_21 ?_
      refine x_castB F hW (((8 * (σ 0 (146 + 5 * a1.toNatClampNeg + 0))) + a1).toNatClampNeg) (x_lt hi2) (hts _ q405) dX0_bellOf_24 ?_
      cases h
      exact x_aret F hr (Or.inl ⟨_, rfl⟩) hlk hW hS dX0_bellOf_27
    · rw [if_neg hi2] at h; cases h
  · rw [if_neg hi1] at h; cases h
theorem x_bo {σ : xM} {a : Int32} {r : Nat} (h : fX0_bellOf σ a = some r) : r < 56 := by
  unfold fX0_bellOf at h
  split at h
  · split at h
    · rename_i h2
      cases h
      exact x_lt h2
    · cases h
  · cases h
/-! WildBells.nearest(III)I -/
def gX0_nearest_6 (σ : xM) (b1 : Int32) (b2 : Int32) (b3 : Int32) : Nat → Int32 → Int32 → Option (Int32 × Int32)
  | 0, _, _ => none
  | n + 1, x4, x5 => if (σ 0 2) ≤ x5 then (some (x4, x5)) else (if x5 = b1 then (if xin x5 8 then (gX0_nearest_6 σ b1 b2 b3 n x4 (x5 + 1)) else none) else ((fX4_isCaught σ 0 x5).bind (fun r5 => if r5 = 0 then ((fX0_bellOf σ x5).bind (fun r9 => if (xund (r9 / 8) b3) = 0 then (if xin x5 8 then (gX0_nearest_6 σ b1 b2 b3 n x4 (x5 + 1)) else none) else (if xin x5 8 then (if x4 = (-1) then (gX0_nearest_6 σ b1 b2 b3 n (fX0_apart (σ 0 (146 + 5 * x5.toNatClampNeg + 1)) b2) (x5 + 1)) else (if x4 ≤ (fX0_apart (σ 0 (146 + 5 * x5.toNatClampNeg + 1)) b2) then (gX0_nearest_6 σ b1 b2 b3 n x4 (x5 + 1)) else (gX0_nearest_6 σ b1 b2 b3 n (fX0_apart (σ 0 (146 + 5 * x5.toNatClampNeg + 1)) b2) (x5 + 1)))) else none))) else (if xin x5 8 then (gX0_nearest_6 σ b1 b2 b3 n x4 (x5 + 1)) else none))))
def fX0_nearest (σ : xM) (a1 : Int32) (a2 : Int32) (a3 : Int32) : Option Int32 :=
  (gX0_nearest_6 σ a1 a2 a3 xfu (-1) 0).bind (fun q16 => some q16.1)
set_option maxHeartbeats 4000000 in
theorem lX0_nearest_6 {p : Program} {l : Launch} {e : Env} {s : State} {m : MethodId} {av : Array Value} {below : List Frame} {meth : Method} {c : Code} {Q : State → Prop} {E : xE} {σ : xM} {b1 : Int32} {b2 : Int32} {b3 : Int32} (F : xFx p m c cX0_nearest 8 s av RX0 E) : ∀ (n : Nat) (x4 : Int32) (x5 : Int32) (q : (Int32 × Int32)), gX0_nearest_6 σ b1 b2 b3 n x4 x5 = some q → ∀ (H : Heap) (locs : List Loc) (ls : Array Slot), xW E σ H → va_S (xA E) s.heap H locs → lv_has ls 8 [(5, .int x5), (4, .int x4), (0, .ref (xa E 0)), (1, .int b1), (2, .int b2), (3, .int b3)] → (∀ (H : Heap) (locs : List Loc) (ls : Array Slot), xW E σ H → va_S (xA E) s.heap H locs → lv_has ls 8 [(5, .int q.2), (4, .int q.1), (0, .ref (xa E 0)), (1, .int b1), (2, .int b2), (3, .int b3)] → W p l e ({ frames := 7, cells := 0, slots := 0, locals := 143 } : Room) s m av below meth c H locs 0 0 Q (F0 m 107 ls [])) → W p l e ({ frames := 7, cells := 0, slots := 0, locals := 143 } : Room) s m av below meth c H locs 0 0 Q (F0 m 6 ls []) := by
  obtain ⟨hx, hb, hml, hown, hts⟩ := id F.1
  have hK := F.2.1.1
  intro n
  induction n with
  | zero =>
    intro x4 x5 q h
    cases h
  | succ n ih =>
    intro x4 x5 q h H locs ls hW hS hl kk
    rw [gX0_nearest_6] at h
    refine lv_iload hx hb dX0_nearest_6 (lv_at hl 0 rfl) ?_
    refine lv_aload_n hx hb dX0_nearest_8 rfl (lv_at hl 2 rfl) ?_
    refine va_get (D := xD E) (ci := 0) (v := .ref (xa E (xwc 0 0))) (C := RX0) (T := TX0) (N := 15) hx hb hts in_X0 hown hK (xO_X hW) 0 rfl rfl 3 (by decide) (hts _ q416) (fun _ h9 => h9) rfl dX0_nearest_9 ?_
    refine va_getN (D := xD E) (ci := 4) (v := .int (σ 0 2)) (C := RX4) (T := TX4) (N := 8) hx hb hts in_X4 hown hK (xO_W hW 0 (by decide)) 0 rfl rfl 3 (by decide) (va_Nw.use rfl (F.2.1.2.1 _ q241 rfl)) (fun _ h9 => h9) rfl dX0_nearest_12 ?_
    refine lv_icmp_ge (tgt := 107) hx hb dX0_nearest_15 (by decide) (fun c1 => ?_) (fun c1 => ?_)
    · rw [if_pos c1] at h
      cases h
      exact kk _ _ _ hW hS (lv_sub hl [0, 1, 2, 3, 4, 5] rfl)
    · rw [if_neg c1] at h
      refine lv_iload hx hb dX0_nearest_18 (lv_at hl 0 rfl) ?_
      refine lv_iload_n hx hb dX0_nearest_20 rfl (lv_at hl 3 rfl) ?_
      refine lv_icmp_eq (tgt := 53) hx hb dX0_nearest_21 (by decide) (fun c2 => ?_) (fun c2 => ?_)
      · rw [if_pos c2] at h
        refine lv_iconst (v := 0) hx hb dX0_nearest_53 (by decide) ?_
        refine lv_istore (lv' := [(6, .int 0), (5, .int x5), (4, .int x4), (0, .ref (xa E 0)), (1, .int b1), (2, .int b2), (3, .int b3)]) hx hb dX0_nearest_54 hl (by decide) rfl (fun ls hl => ?_)
        refine lv_aload_n hx hb dX0_nearest_56 rfl (lv_at hl 3 rfl) ?_
        refine va_get (D := xD E) (ci := 0) (v := .ref (xa E (xwc 0 0))) (C := RX0) (T := TX0) (N := 15) hx hb hts in_X0 hown hK (xO_X hW) 0 rfl rfl 3 (by decide) (hts _ q416) (fun _ h9 => h9) rfl dX0_nearest_57 ?_
        refine va_getN (D := xD E) (ci := 4) (v := .ref (xa E (xwc 0 5))) (C := RX4) (T := TX4) (N := 8) hx hb hts in_X4 hown hK (xO_W hW 0 (by decide)) 0 rfl rfl 4 (by decide) (va_Nw.use rfl (F.2.1.2.1 _ q244 rfl)) (fun _ h9 => h9) rfl dX0_nearest_60 ?_
        refine lv_iconst (v := 1) hx hb dX0_nearest_63 (by decide) ?_
        refine x_aald (g := fun j => xa E (xwc 0 (6 + j))) (j := 1) F 4 4 5 (xR_5 hW 0 (by decide)) rfl rfl (x_lit (by decide)) (by decide) dX0_nearest_64 ?_
        refine lv_iload hx hb dX0_nearest_65 (lv_at hl 1 rfl) ?_
        by_cases hi3 : xin x5 8
        · rw [if_pos hi3] at h
          refine va_iald hx hb hK (xV_6 hW 0 1 (by decide) (by decide)) 0 0 rfl rfl hi3 dX0_nearest_67 ?_
          refine lv_iload_n hx hb dX0_nearest_68 rfl (lv_at hl 5 rfl) ?_
          refine x_backi (va_runS (As := [.int (σ 0 (146 + 5 * x5.toNatClampNeg + 1)), .int b2]) (rest := []) F.1 (mX0_apart l E σ (σ 0 (146 + 5 * x5.toNatClampNeg + 1)) b2) (va_cwS 2 hts (lw_S q638 q495 q99 q496) rfl rfl rfl (by decide +kernel) ⟨Nat.le_of_ble_eq_true rfl, Nat.le_of_ble_eq_true rfl⟩) ⟨xPc.blind, F.pre hW hS [.int (σ 0 (146 + 5 * x5.toNatClampNeg + 1)), .int b2]⟩ rfl rfl hl.1 rfl (lv_room (Nat.le_of_ble_eq_true rfl)) dX0_nearest_69 ⟨Nat.le_refl _, Nat.le_refl _⟩) hS (fun H locs hW hS => ?_)
          refine lv_istore (lv' := [(7, .int (fX0_apart (σ 0 (146 + 5 * x5.toNatClampNeg + 1)) b2)), (6, .int 0), (5, .int x5), (4, .int x4), (0, .ref (xa E 0)), (1, .int b1), (2, .int b2), (3, .int b3)]) hx hb dX0_nearest_72 hl (by decide) rfl (fun ls hl => ?_)
          refine lv_iload hx hb dX0_nearest_74 (lv_at hl 1 rfl) ?_
          refine lv_if_eq (tgt := 97) hx hb dX0_nearest_76 (by decide) (fun c => ?_) (fun c => absurd c (by decide))
          refine lv_iload hx hb dX0_nearest_97 (lv_at hl 3 rfl) ?_
          refine lv_istore (lv' := [(4, .int x4), (7, .int (fX0_apart (σ 0 (146 + 5 * x5.toNatClampNeg + 1)) b2)), (6, .int 0), (5, .int x5), (0, .ref (xa E 0)), (1, .int b1), (2, .int b2), (3, .int b3)]) hx hb dX0_nearest_99 hl (by decide) rfl (fun ls hl => ?_)
          refine lv_iinc (k := 3) (v := (x5 + 1)) (lv' := [(5, .int (x5 + 1)), (4, .int x4), (7, .int (fX0_apart (σ 0 (146 + 5 * x5.toNatClampNeg + 1)) b2)), (6, .int 0), (0, .ref (xa E 0)), (1, .int b1), (2, .int b2), (3, .int b3)]) hx hb dX0_nearest_101 hl rfl rfl (by decide) rfl (fun ls hl => ?_)
          refine lv_goto (tgt := 6) hx hb dX0_nearest_104 (by decide) ?_
          exact ih x4 (x5 + 1) _ h _ _ _ hW hS (lv_sub hl [0, 1, 4, 5, 6, 7] rfl) kk
        · rw [if_neg hi3] at h; cases h
      · rw [if_neg c2] at h
        refine lv_aload_n hx hb dX0_nearest_24 rfl (lv_at hl 2 rfl) ?_
        refine va_get (D := xD E) (ci := 0) (v := .ref (xa E (xwc 0 0))) (C := RX0) (T := TX0) (N := 15) hx hb hts in_X0 hown hK (xO_X hW) 0 rfl rfl 3 (by decide) (hts _ q416) (fun _ h9 => h9) rfl dX0_nearest_25 ?_
        refine lv_iload hx hb dX0_nearest_28 (lv_at hl 0 rfl) ?_
        cases g4 : fX4_isCaught σ 0 x5 with
        | none => rw [g4] at h; cases h
        | some r5 =>
          rw [g4, Option.bind_some] at h
          refine x_backi (va_runV (C := RX4) (b := (xa E (xwc 0 0))) (As := [.int x5]) (rest := []) F.1 (mX4_isCaught l E σ 0 (by decide) x5 r5 g4) (cwV 1 hts (lw_V q616 q487 q488 q106 q489) rfl rfl rfl (by decide +kernel) ⟨Nat.le_of_ble_eq_true rfl, Nat.le_of_ble_eq_true rfl⟩) ⟨xPc.blind, va_recv hK (xO_W hW 0 (by decide)) (ci := 4) (q0 := 0) rfl rfl, F.pre hW hS (.ref (xa E (xwc 0 0)) :: [.int x5])⟩ rfl rfl hl.1 rfl (lv_room (Nat.le_of_ble_eq_true rfl)) dX0_nearest_30 ⟨Nat.le_refl _, Nat.le_refl _⟩) hS (fun H locs hW hS => ?_)
          refine lv_if_ne (tgt := 53) hx hb dX0_nearest_33 (by decide) (fun c6 => ?_) (fun c6 => ?_)
          · rw [if_neg c6] at h
            refine lv_iconst (v := 0) hx hb dX0_nearest_53 (by decide) ?_
            refine lv_istore (lv' := [(6, .int 0), (5, .int x5), (4, .int x4), (0, .ref (xa E 0)), (1, .int b1), (2, .int b2), (3, .int b3)]) hx hb dX0_nearest_54 hl (by decide) rfl (fun ls hl => ?_)
            refine lv_aload_n hx hb dX0_nearest_56 rfl (lv_at hl 3 rfl) ?_
            refine va_get (D := xD E) (ci := 0) (v := .ref (xa E (xwc 0 0))) (C := RX0) (T := TX0) (N := 15) hx hb hts in_X0 hown hK (xO_X hW) 0 rfl rfl 3 (by decide) (hts _ q416) (fun _ h9 => h9) rfl dX0_nearest_57 ?_
            refine va_getN (D := xD E) (ci := 4) (v := .ref (xa E (xwc 0 5))) (C := RX4) (T := TX4) (N := 8) hx hb hts in_X4 hown hK (xO_W hW 0 (by decide)) 0 rfl rfl 4 (by decide) (va_Nw.use rfl (F.2.1.2.1 _ q244 rfl)) (fun _ h9 => h9) rfl dX0_nearest_60 ?_
            refine lv_iconst (v := 1) hx hb dX0_nearest_63 (by decide) ?_
            refine x_aald (g := fun j => xa E (xwc 0 (6 + j))) (j := 1) F 4 4 5 (xR_5 hW 0 (by decide)) rfl rfl (x_lit (by decide)) (by decide) dX0_nearest_64 ?_
            refine lv_iload hx hb dX0_nearest_65 (lv_at hl 1 rfl) ?_
            by_cases hi7 : xin x5 8
            · rw [if_pos hi7] at h
              refine va_iald hx hb hK (xV_6 hW 0 1 (by decide) (by decide)) 0 0 rfl rfl hi7 dX0_nearest_67 ?_
              refine lv_iload_n hx hb dX0_nearest_68 rfl (lv_at hl 5 rfl) ?_
              refine x_backi (va_runS (As := [.int (σ 0 (146 + 5 * x5.toNatClampNeg + 1)), .int b2]) (rest := []) F.1 (mX0_apart l E σ (σ 0 (146 + 5 * x5.toNatClampNeg + 1)) b2) (va_cwS 2 hts (lw_S q638 q495 q99 q496) rfl rfl rfl (by decide +kernel) ⟨Nat.le_of_ble_eq_true rfl, Nat.le_of_ble_eq_true rfl⟩) ⟨xPc.blind, F.pre hW hS [.int (σ 0 (146 + 5 * x5.toNatClampNeg + 1)), .int b2]⟩ rfl rfl hl.1 rfl (lv_room (Nat.le_of_ble_eq_true rfl)) dX0_nearest_69 ⟨Nat.le_refl _, Nat.le_refl _⟩) hS (fun H locs hW hS => ?_)
              refine lv_istore (lv' := [(7, .int (fX0_apart (σ 0 (146 + 5 * x5.toNatClampNeg + 1)) b2)), (6, .int 0), (5, .int x5), (4, .int x4), (0, .ref (xa E 0)), (1, .int b1), (2, .int b2), (3, .int b3)]) hx hb dX0_nearest_72 hl (by decide) rfl (fun ls hl => ?_)
              refine lv_iload hx hb dX0_nearest_74 (lv_at hl 1 rfl) ?_
              refine lv_if_eq (tgt := 97) hx hb dX0_nearest_76 (by decide) (fun c => ?_) (fun c => absurd c (by decide))
              refine lv_iload hx hb dX0_nearest_97 (lv_at hl 3 rfl) ?_
              refine lv_istore (lv' := [(4, .int x4), (7, .int (fX0_apart (σ 0 (146 + 5 * x5.toNatClampNeg + 1)) b2)), (6, .int 0), (5, .int x5), (0, .ref (xa E 0)), (1, .int b1), (2, .int b2), (3, .int b3)]) hx hb dX0_nearest_99 hl (by decide) rfl (fun ls hl => ?_)
              refine lv_iinc (k := 3) (v := (x5 + 1)) (lv' := [(5, .int (x5 + 1)), (4, .int x4), (7, .int (fX0_apart (σ 0 (146 + 5 * x5.toNatClampNeg + 1)) b2)), (6, .int 0), (0, .ref (xa E 0)), (1, .int b1), (2, .int b2), (3, .int b3)]) hx hb dX0_nearest_101 hl rfl rfl (by decide) rfl (fun ls hl => ?_)
              refine lv_goto (tgt := 6) hx hb dX0_nearest_104 (by decide) ?_
              exact ih x4 (x5 + 1) _ h _ _ _ hW hS (lv_sub hl [0, 1, 4, 5, 6, 7] rfl) kk
            · rw [if_neg hi7] at h; cases h
          · rw [if_pos c6] at h
            refine lv_aload_n hx hb dX0_nearest_36 rfl (lv_at hl 2 rfl) ?_
            refine lv_iload hx hb dX0_nearest_37 (lv_at hl 0 rfl) ?_
            cases g8 : fX0_bellOf σ x5 with
            | none => rw [g8] at h; cases h
            | some r9 =>
              rw [g8, Option.bind_some] at h
              refine x_backr (va_runV (C := RX0) (b := (xa E 0)) (As := [.int x5]) (rest := []) F.1 (mX0_bellOf l E σ x5 r9 g8) (cwV 1 hts (lw_V q541 q543 qs4 q99 q544) rfl rfl rfl (by decide +kernel) ⟨Nat.le_of_ble_eq_true rfl, Nat.le_of_ble_eq_true rfl⟩) ⟨xPc.blind, va_recv hK (xO_X hW) (ci := 0) (q0 := 0) rfl rfl, F.pre hW hS (.ref (xa E 0) :: [.int x5])⟩ rfl rfl hl.1 rfl (lv_room (Nat.le_of_ble_eq_true rfl)) dX0_nearest_39 ⟨Nat.le_refl _, Nat.le_refl _⟩) hS (fun H locs hW hS => ?_)
              refine lv_iload_n hx hb dX0_nearest_42 rfl (lv_at hl 5 rfl) ?_
              refine x_backi (x_runUnder (x := b3) (rest := []) F (Nat.le_of_ble_eq_true rfl) (Nat.le_of_ble_eq_true rfl) (x_bo g8) hW hS hl.1 (Nat.le_of_ble_eq_true rfl) dX0_nearest_43 ⟨Nat.le_refl _, Nat.le_refl _⟩) hS (fun H locs hW hS => ?_)
              refine lv_if_eq (tgt := 53) hx hb dX0_nearest_46 (by decide) (fun c10 => ?_) (fun c10 => ?_)
              · rw [if_pos c10] at h
                refine lv_iconst (v := 0) hx hb dX0_nearest_53 (by decide) ?_
                refine lv_istore (lv' := [(6, .int 0), (5, .int x5), (4, .int x4), (0, .ref (xa E 0)), (1, .int b1), (2, .int b2), (3, .int b3)]) hx hb dX0_nearest_54 hl (by decide) rfl (fun ls hl => ?_)
                refine lv_aload_n hx hb dX0_nearest_56 rfl (lv_at hl 3 rfl) ?_
                refine va_get (D := xD E) (ci := 0) (v := .ref (xa E (xwc 0 0))) (C := RX0) (T := TX0) (N := 15) hx hb hts in_X0 hown hK (xO_X hW) 0 rfl rfl 3 (by decide) (hts _ q416) (fun _ h9 => h9) rfl dX0_nearest_57 ?_
                refine va_getN (D := xD E) (ci := 4) (v := .ref (xa E (xwc 0 5))) (C := RX4) (T := TX4) (N := 8) hx hb hts in_X4 hown hK (xO_W hW 0 (by decide)) 0 rfl rfl 4 (by decide) (va_Nw.use rfl (F.2.1.2.1 _ q244 rfl)) (fun _ h9 => h9) rfl dX0_nearest_60 ?_
                refine lv_iconst (v := 1) hx hb dX0_nearest_63 (by decide) ?_
                refine x_aald (g := fun j => xa E (xwc 0 (6 + j))) (j := 1) F 4 4 5 (xR_5 hW 0 (by decide)) rfl rfl (x_lit (by decide)) (by decide) dX0_nearest_64 ?_
                refine lv_iload hx hb dX0_nearest_65 (lv_at hl 1 rfl) ?_
                by_cases hi11 : xin x5 8
                · rw [if_pos hi11] at h
                  refine va_iald hx hb hK (xV_6 hW 0 1 (by decide) (by decide)) 0 0 rfl rfl hi11 dX0_nearest_67 ?_
                  refine lv_iload_n hx hb dX0_nearest_68 rfl (lv_at hl 5 rfl) ?_
                  refine x_backi (va_runS (As := [.int (σ 0 (146 + 5 * x5.toNatClampNeg + 1)), .int b2]) (rest := []) F.1 (mX0_apart l E σ (σ 0 (146 + 5 * x5.toNatClampNeg + 1)) b2) (va_cwS 2 hts (lw_S q638 q495 q99 q496) rfl rfl rfl (by decide +kernel) ⟨Nat.le_of_ble_eq_true rfl, Nat.le_of_ble_eq_true rfl⟩) ⟨xPc.blind, F.pre hW hS [.int (σ 0 (146 + 5 * x5.toNatClampNeg + 1)), .int b2]⟩ rfl rfl hl.1 rfl (lv_room (Nat.le_of_ble_eq_true rfl)) dX0_nearest_69 ⟨Nat.le_refl _, Nat.le_refl _⟩) hS (fun H locs hW hS => ?_)
                  refine lv_istore (lv' := [(7, .int (fX0_apart (σ 0 (146 + 5 * x5.toNatClampNeg + 1)) b2)), (6, .int 0), (5, .int x5), (4, .int x4), (0, .ref (xa E 0)), (1, .int b1), (2, .int b2), (3, .int b3)]) hx hb dX0_nearest_72 hl (by decide) rfl (fun ls hl => ?_)
                  refine lv_iload hx hb dX0_nearest_74 (lv_at hl 1 rfl) ?_
                  refine lv_if_eq (tgt := 97) hx hb dX0_nearest_76 (by decide) (fun c => ?_) (fun c => absurd c (by decide))
                  refine lv_iload hx hb dX0_nearest_97 (lv_at hl 3 rfl) ?_
                  refine lv_istore (lv' := [(4, .int x4), (7, .int (fX0_apart (σ 0 (146 + 5 * x5.toNatClampNeg + 1)) b2)), (6, .int 0), (5, .int x5), (0, .ref (xa E 0)), (1, .int b1), (2, .int b2), (3, .int b3)]) hx hb dX0_nearest_99 hl (by decide) rfl (fun ls hl => ?_)
                  refine lv_iinc (k := 3) (v := (x5 + 1)) (lv' := [(5, .int (x5 + 1)), (4, .int x4), (7, .int (fX0_apart (σ 0 (146 + 5 * x5.toNatClampNeg + 1)) b2)), (6, .int 0), (0, .ref (xa E 0)), (1, .int b1), (2, .int b2), (3, .int b3)]) hx hb dX0_nearest_101 hl rfl rfl (by decide) rfl (fun ls hl => ?_)
                  refine lv_goto (tgt := 6) hx hb dX0_nearest_104 (by decide) ?_
                  exact ih x4 (x5 + 1) _ h _ _ _ hW hS (lv_sub hl [0, 1, 4, 5, 6, 7] rfl) kk
                · rw [if_neg hi11] at h; cases h
              · rw [if_neg c10] at h
                refine lv_iconst (v := 1) hx hb dX0_nearest_49 (by decide) ?_
                refine lv_goto (tgt := 54) hx hb dX0_nearest_50 (by decide) ?_
                refine lv_istore (lv' := [(6, .int 1), (5, .int x5), (4, .int x4), (0, .ref (xa E 0)), (1, .int b1), (2, .int b2), (3, .int b3)]) hx hb dX0_nearest_54 hl (by decide) rfl (fun ls hl => ?_)
                refine lv_aload_n hx hb dX0_nearest_56 rfl (lv_at hl 3 rfl) ?_
                refine va_get (D := xD E) (ci := 0) (v := .ref (xa E (xwc 0 0))) (C := RX0) (T := TX0) (N := 15) hx hb hts in_X0 hown hK (xO_X hW) 0 rfl rfl 3 (by decide) (hts _ q416) (fun _ h9 => h9) rfl dX0_nearest_57 ?_
                refine va_getN (D := xD E) (ci := 4) (v := .ref (xa E (xwc 0 5))) (C := RX4) (T := TX4) (N := 8) hx hb hts in_X4 hown hK (xO_W hW 0 (by decide)) 0 rfl rfl 4 (by decide) (va_Nw.use rfl (F.2.1.2.1 _ q244 rfl)) (fun _ h9 => h9) rfl dX0_nearest_60 ?_
                refine lv_iconst (v := 1) hx hb dX0_nearest_63 (by decide) ?_
                refine x_aald (g := fun j => xa E (xwc 0 (6 + j))) (j := 1) F 4 4 5 (xR_5 hW 0 (by decide)) rfl rfl (x_lit (by decide)) (by decide) dX0_nearest_64 ?_
                refine lv_iload hx hb dX0_nearest_65 (lv_at hl 1 rfl) ?_
                by_cases hi12 : xin x5 8
                · rw [if_pos hi12] at h
                  refine va_iald hx hb hK (xV_6 hW 0 1 (by decide) (by decide)) 0 0 rfl rfl hi12 dX0_nearest_67 ?_
                  refine lv_iload_n hx hb dX0_nearest_68 rfl (lv_at hl 5 rfl) ?_
                  refine x_backi (va_runS (As := [.int (σ 0 (146 + 5 * x5.toNatClampNeg + 1)), .int b2]) (rest := []) F.1 (mX0_apart l E σ (σ 0 (146 + 5 * x5.toNatClampNeg + 1)) b2) (va_cwS 2 hts (lw_S q638 q495 q99 q496) rfl rfl rfl (by decide +kernel) ⟨Nat.le_of_ble_eq_true rfl, Nat.le_of_ble_eq_true rfl⟩) ⟨xPc.blind, F.pre hW hS [.int (σ 0 (146 + 5 * x5.toNatClampNeg + 1)), .int b2]⟩ rfl rfl hl.1 rfl (lv_room (Nat.le_of_ble_eq_true rfl)) dX0_nearest_69 ⟨Nat.le_refl _, Nat.le_refl _⟩) hS (fun H locs hW hS => ?_)
                  refine lv_istore (lv' := [(7, .int (fX0_apart (σ 0 (146 + 5 * x5.toNatClampNeg + 1)) b2)), (6, .int 1), (5, .int x5), (4, .int x4), (0, .ref (xa E 0)), (1, .int b1), (2, .int b2), (3, .int b3)]) hx hb dX0_nearest_72 hl (by decide) rfl (fun ls hl => ?_)
                  refine lv_iload hx hb dX0_nearest_74 (lv_at hl 1 rfl) ?_
                  refine lv_if_eq (tgt := 97) hx hb dX0_nearest_76 (by decide) (fun c => absurd c (by decide)) (fun c => ?_)
                  refine lv_iload hx hb dX0_nearest_79 (lv_at hl 3 rfl) ?_
                  refine lv_iconst (v := (-1)) hx hb dX0_nearest_81 (by decide) ?_
                  refine lv_icmp_eq (tgt := 92) hx hb dX0_nearest_82 (by decide) (fun c13 => ?_) (fun c13 => ?_)
                  · rw [if_pos c13] at h
                    refine lv_iload hx hb dX0_nearest_92 (lv_at hl 0 rfl) ?_
                    refine lv_goto (tgt := 99) hx hb dX0_nearest_94 (by decide) ?_
                    refine lv_istore (lv' := [(4, .int (fX0_apart (σ 0 (146 + 5 * x5.toNatClampNeg + 1)) b2)), (7, .int (fX0_apart (σ 0 (146 + 5 * x5.toNatClampNeg + 1)) b2)), (6, .int 1), (5, .int x5), (0, .ref (xa E 0)), (1, .int b1), (2, .int b2), (3, .int b3)]) hx hb dX0_nearest_99 hl (by decide) rfl (fun ls hl => ?_)
                    refine lv_iinc (k := 3) (v := (x5 + 1)) (lv' := [(5, .int (x5 + 1)), (4, .int (fX0_apart (σ 0 (146 + 5 * x5.toNatClampNeg + 1)) b2)), (7, .int (fX0_apart (σ 0 (146 + 5 * x5.toNatClampNeg + 1)) b2)), (6, .int 1), (0, .ref (xa E 0)), (1, .int b1), (2, .int b2), (3, .int b3)]) hx hb dX0_nearest_101 hl rfl rfl (by decide) rfl (fun ls hl => ?_)
                    refine lv_goto (tgt := 6) hx hb dX0_nearest_104 (by decide) ?_
                    exact ih (fX0_apart (σ 0 (146 + 5 * x5.toNatClampNeg + 1)) b2) (x5 + 1) _ h _ _ _ hW hS (lv_sub hl [0, 1, 4, 5, 6, 7] rfl) kk
                  · rw [if_neg c13] at h
                    refine lv_iload hx hb dX0_nearest_85 (lv_at hl 0 rfl) ?_
                    refine lv_iload hx hb dX0_nearest_87 (lv_at hl 3 rfl) ?_
                    refine lv_icmp_ge (tgt := 97) hx hb dX0_nearest_89 (by decide) (fun c14 => ?_) (fun c14 => ?_)
                    · rw [if_pos c14] at h
                      refine lv_iload hx hb dX0_nearest_97 (lv_at hl 3 rfl) ?_
                      refine lv_istore (lv' := [(4, .int x4), (7, .int (fX0_apart (σ 0 (146 + 5 * x5.toNatClampNeg + 1)) b2)), (6, .int 1), (5, .int x5), (0, .ref (xa E 0)), (1, .int b1), (2, .int b2), (3, .int b3)]) hx hb dX0_nearest_99 hl (by decide) rfl (fun ls hl => ?_)
                      refine lv_iinc (k := 3) (v := (x5 + 1)) (lv' := [(5, .int (x5 + 1)), (4, .int x4), (7, .int (fX0_apart (σ 0 (146 + 5 * x5.toNatClampNeg + 1)) b2)), (6, .int 1), (0, .ref (xa E 0)), (1, .int b1), (2, .int b2), (3, .int b3)]) hx hb dX0_nearest_101 hl rfl rfl (by decide) rfl (fun ls hl => ?_)
                      refine lv_goto (tgt := 6) hx hb dX0_nearest_104 (by decide) ?_
                      exact ih x4 (x5 + 1) _ h _ _ _ hW hS (lv_sub hl [0, 1, 4, 5, 6, 7] rfl) kk
                    · rw [if_neg c14] at h
                      refine lv_iload hx hb dX0_nearest_92 (lv_at hl 0 rfl) ?_
                      refine lv_goto (tgt := 99) hx hb dX0_nearest_94 (by decide) ?_
                      refine lv_istore (lv' := [(4, .int (fX0_apart (σ 0 (146 + 5 * x5.toNatClampNeg + 1)) b2)), (7, .int (fX0_apart (σ 0 (146 + 5 * x5.toNatClampNeg + 1)) b2)), (6, .int 1), (5, .int x5), (0, .ref (xa E 0)), (1, .int b1), (2, .int b2), (3, .int b3)]) hx hb dX0_nearest_99 hl (by decide) rfl (fun ls hl => ?_)
                      refine lv_iinc (k := 3) (v := (x5 + 1)) (lv' := [(5, .int (x5 + 1)), (4, .int (fX0_apart (σ 0 (146 + 5 * x5.toNatClampNeg + 1)) b2)), (7, .int (fX0_apart (σ 0 (146 + 5 * x5.toNatClampNeg + 1)) b2)), (6, .int 1), (0, .ref (xa E 0)), (1, .int b1), (2, .int b2), (3, .int b3)]) hx hb dX0_nearest_101 hl rfl rfl (by decide) rfl (fun ls hl => ?_)
                      refine lv_goto (tgt := 6) hx hb dX0_nearest_104 (by decide) ?_
                      exact ih (fX0_apart (σ 0 (146 + 5 * x5.toNatClampNeg + 1)) b2) (x5 + 1) _ h _ _ _ hW hS (lv_sub hl [0, 1, 4, 5, 6, 7] rfl) kk
                · rw [if_neg hi12] at h; cases h
set_option maxHeartbeats 4000000 in
theorem mX0_nearest (l : Launch) (E : xE) (σ : xM) (a1 : Int32) (a2 : Int32) (a3 : Int32) (r : Int32) (h : fX0_nearest σ a1 a2 a3 = some r) : Met l yX0_nearest (ws_ yX0_nearest cX0_nearest 8 (some .int)) ({ frames := 7, cells := 0, slots := 0, locals := 143 } : Room) (xPc E σ [.ref (xa E 0), .int a1, .int a2, .int a3]) (xQc E (.returned (some (.int r))) σ) 0 0 (xA E) := by
  refine x_of (C := RX0) (n := "nearest") (d := "(III)I") (r := (some .int)) (by decide) rfl (by first | decide | exact Nat.le_of_ble_eq_true rfl) ?_
  intro p e s m below meth c ls F hr hlk hW hS hl
  have hl : lv_has ls 8 [(0, .ref (xa E 0)), (1, .int a1), (2, .int a2), (3, .int a3)] := hl
  obtain ⟨hx, hb, hml, hown, hts⟩ := id F.1
  have hK := F.2.1.1
  unfold fX0_nearest at h
  refine lv_iconst (v := (-1)) hx hb dX0_nearest_0 (by decide) ?_
  refine lv_istore (lv' := [(4, .int (-1)), (0, .ref (xa E 0)), (1, .int a1), (2, .int a2), (3, .int a3)]) hx hb dX0_nearest_1 hl (by decide) rfl (fun ls hl => ?_)
  refine lv_iconst (v := 0) hx hb dX0_nearest_3 (by decide) ?_
  refine lv_istore (lv' := [(5, .int 0), (4, .int (-1)), (0, .ref (xa E 0)), (1, .int a1), (2, .int a2), (3, .int a3)]) hx hb dX0_nearest_4 hl (by decide) rfl (fun ls hl => ?_)
  cases g15 : gX0_nearest_6 σ a1 a2 a3 xfu (-1) 0 with
  | none => rw [g15] at h; cases h
  | some q16 =>
    rw [g15, Option.bind_some] at h
    refine lX0_nearest_6 F xfu (-1) 0 q16 g15 _ _ _ hW hS (lv_sub hl [0, 1, 2, 3, 4, 5] rfl) (fun H locs ls hW hS hl => ?_)
    refine lv_iload hx hb dX0_nearest_107 (lv_at hl 1 rfl) ?_
    cases h
    exact x_iret F hr hlk hW hS dX0_nearest_109
