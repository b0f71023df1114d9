set_option maxRecDepth 100000
section XDP
variable {p : Program} {l : Launch} {e : Env} {R : Room} {s : State} {m : MethodId} {args : Array Value} {below : List Frame} {meth : Method} {c : Code} {H : Heap} {locs : List Loc} {cells slots : Nat} {Q : State → Prop}
variable {E : xE} {σ : xM} {pc : Nat} {ls : Array Slot} {rest : List Value} {cc : ByteArray} {nL : Nat}
theorem x_cast1 {index : Nat} (F : xFx p m c cc nL s args RX0 E) (hW : xW E σ H) (j : Nat) (hj : j < 56) (hk : j / 8 = 1 ∨ j / 8 = 6) (hlink : (Cond.classLink RX0 index "WildBells$Herd").before args s = true) (hdg : decode cc pc = .ok (.checkcast index, 3))
    (k : W p l e R s m args below meth c H locs cells slots Q (F0 m (pc + 3) ls (.ref (xa E (61 + 2 * j)) :: rest))) : W p l e R s m args below meth c H locs cells slots Q (F0 m pc ls (.ref (xa E (61 + 2 * j)) :: rest)) := by
  obtain ⟨κ, n, hκ, hn, rfl⟩ : ∃ κ n, κ < 7 ∧ n < 8 ∧ j = 8 * κ + n := ⟨j / 8, j % 8, by omega, by omega, by omega⟩
  obtain ⟨hx, hb, hml, hown, hts⟩ := id F.1
  have hK := F.2.1.1
  have h7 : κ = 1 ∨ κ = 6 := by omega
  rcases h7 with rfl | rfl
  · exact va_castE hx hb hown hlink (va_recv hK (xO_B hW 1 n (by decide) hn) (ci := 7) (q0 := 0) rfl rfl) hdg k
  · exact va_castY (C := RX12) hx hb hown hlink (F.2.1.2.1 _ q1743 rfl) (va_recv hK (xO_B hW 6 n (by decide) hn) (ci := 12) (q0 := 0) rfl rfl) hdg k
theorem x_cast2 {index : Nat} (F : xFx p m c cc nL s args RX0 E) (hW : xW E σ H) (j : Nat) (hj : j < 56) (hk : j / 8 = 2 ∨ j / 8 = 3 ∨ j / 8 = 4) (hlink : (Cond.classLink RX0 index "WildBells$Lone").before args s = true) (hdg : decode cc pc = .ok (.checkcast index, 3))
    (k : W p l e R s m args below meth c H locs cells slots Q (F0 m (pc + 3) ls (.ref (xa E (61 + 2 * j)) :: rest))) : W p l e R s m args below meth c H locs cells slots Q (F0 m pc ls (.ref (xa E (61 + 2 * j)) :: rest)) := by
  obtain ⟨κ, n, hκ, hn, rfl⟩ : ∃ κ n, κ < 7 ∧ n < 8 ∧ j = 8 * κ + n := ⟨j / 8, j % 8, by omega, by omega, by omega⟩
  obtain ⟨hx, hb, hml, hown, hts⟩ := id F.1
  have hK := F.2.1.1
  have h7 : κ = 2 ∨ κ = 3 ∨ κ = 4 := by omega
  rcases h7 with rfl | rfl | rfl
  · exact va_castE hx hb hown hlink (va_recv hK (xO_B hW 2 n (by decide) hn) (ci := 8) (q0 := 0) rfl rfl) hdg k
  · exact va_castY (C := RX9) hx hb hown hlink (F.2.1.2.1 _ q1745 rfl) (va_recv hK (xO_B hW 3 n (by decide) hn) (ci := 9) (q0 := 0) rfl rfl) hdg k
  · exact va_castY (C := RX10) hx hb hown hlink (F.2.1.2.1 _ q1744 rfl) (va_recv hK (xO_B hW 4 n (by decide) hn) (ci := 10) (q0 := 0) rfl rfl) hdg k
theorem x_cast3 {index : Nat} (F : xFx p m c cc nL s args RX0 E) (hW : xW E σ H) (j : Nat) (hj : j < 56) (hk : j / 8 = 3 ∨ j / 8 = 4) (hlink : (Cond.classLink RX0 index "WildBells$Tenor").before args s = true) (hdg : decode cc pc = .ok (.checkcast index, 3))
    (k : W p l e R s m args below meth c H locs cells slots Q (F0 m (pc + 3) ls (.ref (xa E (61 + 2 * j)) :: rest))) : W p l e R s m args below meth c H locs cells slots Q (F0 m pc ls (.ref (xa E (61 + 2 * j)) :: rest)) := by
  obtain ⟨κ, n, hκ, hn, rfl⟩ : ∃ κ n, κ < 7 ∧ n < 8 ∧ j = 8 * κ + n := ⟨j / 8, j % 8, by omega, by omega, by omega⟩
  obtain ⟨hx, hb, hml, hown, hts⟩ := id F.1
  have hK := F.2.1.1
  have h7 : κ = 3 ∨ κ = 4 := by omega
  rcases h7 with rfl | rfl
  · exact va_castE hx hb hown hlink (va_recv hK (xO_B hW 3 n (by decide) hn) (ci := 9) (q0 := 0) rfl rfl) hdg k
  · exact va_castY (C := RX10) hx hb hown hlink (F.2.1.2.1 _ q1746 rfl) (va_recv hK (xO_B hW 4 n (by decide) hn) (ci := 10) (q0 := 0) rfl rfl) hdg k
theorem x_cast4 {index : Nat} (F : xFx p m c cc nL s args RX0 E) (hW : xW E σ H) (j : Nat) (hj : j < 56) (hk : j / 8 = 4) (hlink : (Cond.classLink RX0 index "WildBells$Eldest").before args s = true) (hdg : decode cc pc = .ok (.checkcast index, 3))
    (k : W p l e R s m args below meth c H locs cells slots Q (F0 m (pc + 3) ls (.ref (xa E (61 + 2 * j)) :: rest))) : W p l e R s m args below meth c H locs cells slots Q (F0 m pc ls (.ref (xa E (61 + 2 * j)) :: rest)) := by
  obtain ⟨κ, n, hκ, hn, rfl⟩ : ∃ κ n, κ < 7 ∧ n < 8 ∧ j = 8 * κ + n := ⟨j / 8, j % 8, by omega, by omega, by omega⟩
  obtain ⟨hx, hb, hml, hown, hts⟩ := id F.1
  have hK := F.2.1.1
  have h7 : κ = 4 := by omega
  subst h7
  exact va_castE hx hb hown hlink (va_recv hK (xO_B hW 4 n (by decide) hn) (ci := 10) (q0 := 0) rfl rfl) hdg k
theorem x_cast5 {index : Nat} (F : xFx p m c cc nL s args RX0 E) (hW : xW E σ H) (j : Nat) (hj : j < 56) (hk : j / 8 = 5) (hlink : (Cond.classLink RX0 index "WildBells$Tame").before args s = true) (hdg : decode cc pc = .ok (.checkcast index, 3))
    (k : W p l e R s m args below meth c H locs cells slots Q (F0 m (pc + 3) ls (.ref (xa E (61 + 2 * j)) :: rest))) : W p l e R s m args below meth c H locs cells slots Q (F0 m pc ls (.ref (xa E (61 + 2 * j)) :: rest)) := by
  obtain ⟨κ, n, hκ, hn, rfl⟩ : ∃ κ n, κ < 7 ∧ n < 8 ∧ j = 8 * κ + n := ⟨j / 8, j % 8, by omega, by omega, by omega⟩
  obtain ⟨hx, hb, hml, hown, hts⟩ := id F.1
  have hK := F.2.1.1
  have h7 : κ = 5 := by omega
  subst h7
  exact va_castE hx hb hown hlink (va_recv hK (xO_B hW 5 n (by decide) hn) (ci := 11) (q0 := 0) rfl rfl) hdg k
theorem x_cast6 {index : Nat} (F : xFx p m c cc nL s args RX0 E) (hW : xW E σ H) (j : Nat) (hj : j < 56) (hk : j / 8 = 6) (hlink : (Cond.classLink RX0 index "WildBells$Young").before args s = true) (hdg : decode cc pc = .ok (.checkcast index, 3))
    (k : W p l e R s m args below meth c H locs cells slots Q (F0 m (pc + 3) ls (.ref (xa E (61 + 2 * j)) :: rest))) : W p l e R s m args below meth c H locs cells slots Q (F0 m pc ls (.ref (xa E (61 + 2 * j)) :: rest)) := by
  obtain ⟨κ, n, hκ, hn, rfl⟩ : ∃ κ n, κ < 7 ∧ n < 8 ∧ j = 8 * κ + n := ⟨j / 8, j % 8, by omega, by omega, by omega⟩
  obtain ⟨hx, hb, hml, hown, hts⟩ := id F.1
  have hK := F.2.1.1
  have h7 : κ = 6 := by omega
  subst h7
  exact va_castE hx hb hown hlink (va_recv hK (xO_B hW 6 n (by decide) hn) (ci := 12) (q0 := 0) rfl rfl) hdg k
theorem x_instBell {index : Nat} (F : xFx p m c cc nL s args RX0 E) (hW : xW E σ H) (j : Nat) (hj : j < 56) (hlink : (Cond.classLink RX0 index RX6).before args s = true) (hdg : decode cc pc = .ok (.instanceof index, 3))
    (k : W p l e R s m args below meth c H locs cells slots Q (F0 m (pc + 3) ls (.int 1 :: rest))) : W p l e R s m args below meth c H locs cells slots Q (F0 m pc ls (.ref (xa E (61 + 2 * j)) :: rest)) := by
  obtain ⟨κ, n, hκ, hn, rfl⟩ : ∃ κ n, κ < 7 ∧ n < 8 ∧ j = 8 * κ + n := ⟨j / 8, j % 8, by omega, by omega, by omega⟩
  obtain ⟨hx, hb, hml, hown, hts⟩ := id F.1
  have hK := F.2.1.1
  have h7 : κ = 0 ∨ κ = 1 ∨ κ = 2 ∨ κ = 3 ∨ κ = 4 ∨ κ = 5 ∨ κ = 6 := by omega
  rcases h7 with rfl | rfl | rfl | rfl | rfl | rfl | rfl
  · exact va_instE hx hb hown hlink (va_recv hK (xO_B hW 0 n (by decide) hn) (ci := 6) (q0 := 0) rfl rfl) hdg k
  · exact va_instY (C := RX7) hx hb hown hlink (F.2.1.2.1 _ q1738 rfl) (va_recv hK (xO_B hW 1 n (by decide) hn) (ci := 7) (q0 := 0) rfl rfl) hdg k
  · exact va_instY (C := RX8) hx hb hown hlink (F.2.1.2.1 _ q1739 rfl) (va_recv hK (xO_B hW 2 n (by decide) hn) (ci := 8) (q0 := 0) rfl rfl) hdg k
  · exact va_instY (C := RX9) hx hb hown hlink (F.2.1.2.1 _ q1741 rfl) (va_recv hK (xO_B hW 3 n (by decide) hn) (ci := 9) (q0 := 0) rfl rfl) hdg k
  · exact va_instY (C := RX10) hx hb hown hlink (F.2.1.2.1 _ q1737 rfl) (va_recv hK (xO_B hW 4 n (by decide) hn) (ci := 10) (q0 := 0) rfl rfl) hdg k
  · exact va_instY (C := RX11) hx hb hown hlink (F.2.1.2.1 _ q1740 rfl) (va_recv hK (xO_B hW 5 n (by decide) hn) (ci := 11) (q0 := 0) rfl rfl) hdg k
  · exact va_instY (C := RX12) hx hb hown hlink (F.2.1.2.1 _ q1742 rfl) (va_recv hK (xO_B hW 6 n (by decide) hn) (ci := 12) (q0 := 0) rfl rfl) hdg k
theorem x_num {index : Nat} (F : xFx p m c cc nL s args RX0 E) (hW : xW E σ H) (j : Nat) (hj : j < 56) (hlink : (Cond.fieldLink RX0 index RX6 "number" "I").before args s = true) (hdg : decode cc pc = .ok (.getfield index, 3))
    (k : W p l e R s m args below meth c H locs cells slots Q (F0 m (pc + 3) ls (.int (Int32.ofNat (j % 8)) :: rest))) : W p l e R s m args below meth c H locs cells slots Q (F0 m pc ls (.ref (xa E (61 + 2 * j)) :: rest)) := by
  obtain ⟨κ, n, hκ, hn, rfl⟩ : ∃ κ n, κ < 7 ∧ n < 8 ∧ j = 8 * κ + n := ⟨j / 8, j % 8, by omega, by omega, by omega⟩
  rw [show (8 * κ + n) % 8 = n by omega] at k
  obtain ⟨hx, hb, hml, hown, hts⟩ := id F.1
  have hK := F.2.1.1
  have h7 : κ = 0 ∨ κ = 1 ∨ κ = 2 ∨ κ = 3 ∨ κ = 4 ∨ κ = 5 ∨ κ = 6 := by omega
  rcases h7 with rfl | rfl | rfl | rfl | rfl | rfl | rfl
  · exact va_get (D := xD E) (ci := 6) (v := .int (Int32.ofNat n)) (C := RX6) (T := TX6) (N := 2) hx hb hts in_X6 hown hK (xO_B hW 0 n (by decide) hn) 0 rfl rfl 0 (by decide) hlink (fun _ h9 => h9) rfl hdg k
  · exact va_get (D := xD E) (ci := 7) (v := .int (Int32.ofNat n)) (C := RX7) (T := TX7) (N := 3) hx hb hts in_X7 hown hK (xO_B hW 1 n (by decide) hn) 0 rfl rfl 0 (by decide) hlink (fun _ h9 => h9) rfl hdg k
  · exact va_get (D := xD E) (ci := 8) (v := .int (Int32.ofNat n)) (C := RX8) (T := TX8) (N := 3) hx hb hts in_X8 hown hK (xO_B hW 2 n (by decide) hn) 0 rfl rfl 0 (by decide) hlink (fun _ h9 => h9) rfl hdg k
  · exact va_get (D := xD E) (ci := 9) (v := .int (Int32.ofNat n)) (C := RX9) (T := TX9) (N := 4) hx hb hts in_X9 hown hK (xO_B hW 3 n (by decide) hn) 0 rfl rfl 0 (by decide) hlink (fun _ h9 => h9) rfl hdg k
  · exact va_get (D := xD E) (ci := 10) (v := .int (Int32.ofNat n)) (C := RX10) (T := TX10) (N := 5) hx hb hts in_X10 hown hK (xO_B hW 4 n (by decide) hn) 0 rfl rfl 0 (by decide) hlink (fun _ h9 => h9) rfl hdg k
  · exact va_get (D := xD E) (ci := 11) (v := .int (Int32.ofNat n)) (C := RX11) (T := TX11) (N := 3) hx hb hts in_X11 hown hK (xO_B hW 5 n (by decide) hn) 0 rfl rfl 0 (by decide) hlink (fun _ h9 => h9) rfl hdg k
  · exact va_get (D := xD E) (ci := 12) (v := .int (Int32.ofNat n)) (C := RX12) (T := TX12) (N := 4) hx hb hts in_X12 hown hK (xO_B hW 6 n (by decide) hn) 0 rfl rfl 0 (by decide) hlink (fun _ h9 => h9) rfl hdg k
theorem x_spv {E : xE} {b : Nat} (hb : b < 56) : va_rf (if Int32.ofNat (61 + 2 * b) < 0 then none else some (xa E (Int32.ofNat (61 + 2 * b)).toNatClampNeg)) = .ref (xa E (61 + 2 * b)) := by
  have h1 : ∀ b, b < 56 → ¬ Int32.ofNat (61 + 2 * b) < 0 := by decide
  have h2 : ∀ b, b < 56 → (Int32.ofNat (61 + 2 * b)).toNatClampNeg = 61 + 2 * b := by decide
  rw [if_neg (h1 b hb), h2 b hb]
  rfl
theorem x_spB {E : xE} {σ : xM} {j b : Nat} (hb : b < 56) : va_rf (if xup σ 12 j (Int32.ofNat (61 + 2 * b)) 12 j < 0 then none else some (xa E (xup σ 12 j (Int32.ofNat (61 + 2 * b)) 12 j).toNatClampNeg)) = .ref (xa E (61 + 2 * b)) := by
  have e : xup σ 12 j (Int32.ofNat (61 + 2 * b)) 12 j = Int32.ofNat (61 + 2 * b) := by unfold xup; rw [if_pos ⟨rfl, rfl⟩]
  rw [e]
  exact x_spv hb
theorem x_spN {E : xE} {σ : xM} {j : Nat} : va_rf (if xup σ 12 j (-1) 12 j < 0 then none else some (xa E (xup σ 12 j (-1) 12 j).toNatClampNeg)) = .null := by
  have e : xup σ 12 j (-1) 12 j = -1 := by unfold xup; rw [if_pos ⟨rfl, rfl⟩]
  rw [e]
  rfl
/-- a reference is put into a slot of the world -/
theorem x_putVN {ref C host : String} {T : u_T} {N ci index : Nat} (F : xFx p m c cc nL s args RX0 E) (hW : xW E σ H) (hS0 : va_S (xA E) s.heap H locs) (hin : ∀ w ∈ u_ws C T N, w ∈ lw_all) (ty0 : Nat → FieldType) (hty : ∀ k, k < N → parseFieldDescriptor (T k).2.2.1 = some (ty0 k)) (hnm : ∀ a, a < N → ∀ b, b < N → a ≠ b → (T a).2.1 ≠ (T b).2.1) (hc : xCl[ci]? = some (C, T, N)) (k j0 : Nat) (hk : k < 201) (hs : xsh k = (0, ci, N)) (hj : j0 < N)
    (hlink : (Cond.fieldLinkNest RX0 index ref (T j0).2.1 (T j0).2.2.1 host).before args s = true) (hsame : ∀ x, s.fieldFound? (T j0).1 (T j0).2.1 (T j0).2.2.1 = some x → s.fieldFound? ref (T j0).2.1 (T j0).2.2.1 = some x) (hfin : (T j0).2.2.2 = false) {ty : FieldType} {x : Value} (hd : parseFieldDescriptor (T j0).2.2.1 = some ty) (hn : narrow ty x = x) (hfit : fits ty x = true) (hdg : decode cc pc = .ok (.putfield index, 3))
    (kk : ∀ (H1 : Heap) (locs1 : List Loc), va_at (xD E) xCl (xa E k, .inr (ci, ((List.range N).map (fun j => xcv E σ (xlc k j))).set j0 x)) H1 → H1.size = H.size → (∀ q, q ≠ xa E k → H1[q]? = H[q]?) → va_S (xA E) s.heap H1 locs1 → W p l e R s m args below meth c H1 locs1 cells slots Q (F0 m (pc + 3) ls rest)) (hcat : x.category = 1) : W p l e R s m args below meth c H locs cells slots Q (F0 m pc ls (x :: .ref (xa E k) :: rest)) := by
  have hts := F.1.2.2.2.2
  have hK := F.2.1.1
  have hap := va_apart (own := RX0) hts hin ty0 hty hnm hK hc
  obtain ⟨r, h1, cell, q1, q2, q3, q4⟩ := (hW.obj k ci N hk hs rfl) 0 _ rfl
  have hr : r = (C, T, N) := Option.some.inj (h1.symm.trans hc)
  subst hr
  obtain ⟨hSl, hfc, kC, hkC, hkind⟩ := hK.1 ci _ hc
  obtain ⟨cf, kf, fi, f, hi, hsl⟩ := hSl j0 hj
  have hlay := hts _ (hin _ (u_in_lay hj))
  unfold u_lay at hlay
  rw [if_neg (by rw [hfin]; decide)] at hlay
  have hst := (u_facts hfc hkC (u_lays hts hin hj) hi).1
  have h6 := u_store hfc hkC hkind hlay hi hd hn hfit
  refine va_WputK F.1.1 F.1.2.1 (f := f) F.1.2.2.2.1 hlink (hsame _ hi) hst (by rw [q2]; exact h6) q1 q3 (by rw [hsl]; exact k2_hasslot (q4 j0 hj)) rfl rfl hdg fun H' e1 e2 e3 => ?_
  rw [hsl] at e1 ⊢
  exact kk H' _ ⟨_, hc, t_OB.to (V := updV (vp_V _) j0 x) ⟨_, e1, q2, q3, t_set q4 hap hj x⟩ (fun j _ => vp_updV_set (by simpa using hj) x j)⟩ e2 e3 (hS0.put e2 e3 (xA_xa E k))
theorem x_putSp {index : Nat} (F : xFx p m c cc nL s args RX0 E) (hW : xW E σ H) (hS : va_S (xA E) s.heap H locs) (j : Nat) (hj : j < 10) (hlink : (Cond.fieldLinkNest RX0 index RX5 "thing" "Ljava/lang/Object;" "WildBells").before args s = true) (x : Int32) (v : Value) (hv : va_rf (if x < 0 then none else some (xa E x.toNatClampNeg)) = v) (hfit : fits (.object "java/lang/Object") v = true) (hdg : decode cc pc = .ok (.putfield index, 3))
    (kk : ∀ (H1 : Heap) (locs1 : List Loc), xW E (xup σ 12 j x) H1 → va_S (xA E) s.heap H1 locs1 → W p l e R s m args below meth c H1 locs1 cells slots Q (F0 m (pc + 3) ls rest)) : W p l e R s m args below meth c H locs cells slots Q (F0 m pc ls (v :: .ref (xa E (172 + j)) :: rest)) := by
  have hcat : v.category = 1 := by
    rw [← hv]
    split <;> rfl
  have hn : narrow (.object "java/lang/Object") v = v := by
    rw [← hv]
    split <;> rfl
  refine x_putVN (C := RX5) (T := TX5) (N := 1) (ci := 5) (ty := .object "java/lang/Object") F hW hS in_X5 tyX5 tyX5_ok nmX5 rfl (172 + j) 0 (by omega) (xs_sp j hj).1 (by decide) hlink (fun _ h9 => h9) rfl (by decide +kernel) hn hfit hdg (fun H1 locs1 h1 hz oq hS1 => ?_) hcat
  refine kk H1 locs1 ?_ hS1
  have ho : xown 12 j = 172 + j := rfl
  refine hW.upd (Or.inl (by decide)) hz (by rw [ho]; exact oq) ?_ (by rw [ho]; omega)
  rw [ho]
  unfold xent
  rw [(xs_sp j hj).1]
  have e : ((List.range 1).map (fun t => xcv E σ (xlc (172 + j) t))).set 0 v = (List.range 1).map (fun t => xcv E (xup σ 12 j x) (xlc (172 + j) t)) := by
    show [v] = [xcv E (xup σ 12 j x) (xlc (172 + j) 0)]
    rw [(xs_sp j hj).2]
    unfold xcv
    have e1 : xup σ 12 j x 12 j = x := by unfold xup; rw [if_pos ⟨rfl, rfl⟩]
    simp only [e1]
    rw [← hv]
    rfl
  rw [e] at h1
  exact h1
theorem x_backn {σ' : xM} {a : Array Value} {st0 : List Value} (hr : va_Run p l e R s m args below meth c H locs cells slots 0 0 (F0 m pc ls st0) rest (xQc E (.returned (some .null)) σ' a) (xA E)) (hS : va_S (xA E) s.heap H locs)
    (kk : ∀ (H1 : Heap) (locs1 : List Loc), xW E σ' H1 → va_S (xA E) s.heap H1 locs1 → W p l e R s m args below meth c H1 locs1 cells slots Q (F0 m (pc + 3) ls (.null :: rest))) : W p l e R s m args below meth c H locs cells slots Q (F0 m pc ls st0) := x_back hr rfl hS kk
end XDP
/-! WildBells.thingAt(I)Ljava/lang/Object; -/
def fX0_thingAt (σ : xM) (a1 : Int32) : Option (Option Nat × xM) :=
  if xin a1 10 then (if xin a1 10 then (if (σ 0 (4 + a1.toNatClampNeg)) = (-1) then (if xin a1 10 then (some (none, (xup σ 12 a1.toNatClampNeg (-1)))) else none) else ((fX0_bellOf σ (σ 0 (4 + a1.toNatClampNeg))).bind (fun r5 => if xin a1 10 then (some (some r5, (xup σ 12 a1.toNatClampNeg (Int32.ofNat (61 + 2 * r5))))) else none))) else none) else none
set_option maxHeartbeats 4000000 in
theorem mX0_thingAt (l : Launch) (E : xE) (σ : xM) (a1 : Int32) (r : Option Nat) (σ' : xM) (h : fX0_thingAt σ a1 = some (r, σ')) : Met l yX0_thingAt (ws_ yX0_thingAt cX0_thingAt 3 (some (.object "java/lang/Object"))) ({ frames := 1, cells := 0, slots := 0, locals := 21 } : Room) (xPc E σ [.ref (xa E 0), .int a1]) (xQc E (.returned (some (va_rf (r.map (fun j => xa E (61 + 2 * j)))))) σ') 0 0 (xA E) := by
  refine x_of (C := RX0) (n := "thingAt") (d := "(I)Ljava/lang/Object;") (r := (some (.object "java/lang/Object"))) (by decide) rfl (by first | decide | exact Nat.le_of_ble_eq_true rfl) ?_
  intro p e s m below meth c ls F hr hlk hW hS hl
  have hl : lv_has ls 3 [(0, .ref (xa E 0)), (1, .int a1)] := hl
  obtain ⟨hx, hb, hml, hown, hts⟩ := id F.1
  have hK := F.2.1.1
  unfold fX0_thingAt at h
  refine lv_aload_n hx hb dX0_thingAt_0 rfl (lv_at hl 0 rfl) ?_
  refine va_get (D := xD E) (ci := 0) (v := .ref (xa E (xwc 0 0))) (C := RX0) (T := TX0) (N := 15) hx hb hts in_X0 hown hK (xO_X hW) 0 rfl rfl 3 (by decide) (hts _ q416) (fun _ h9 => h9) rfl dX0_thingAt_1 ?_
  refine va_getN (D := xD E) (ci := 4) (v := .ref (xa E (xwc 0 11))) (C := RX4) (T := TX4) (N := 8) hx hb hts in_X4 hown hK (xO_W hW 0 (by decide)) 0 rfl rfl 7 (by decide) (va_Nw.use rfl (F.2.1.2.1 _ q250 rfl)) (fun _ h9 => h9) rfl dX0_thingAt_4 ?_
  refine lv_iload_n hx hb dX0_thingAt_7 rfl (lv_at hl 1 rfl) ?_
  by_cases hi1 : xin a1 10
  · rw [if_pos hi1] at h
    refine va_iald hx hb hK (xV_11 hW 0 (by decide)) 0 0 rfl rfl hi1 dX0_thingAt_8 ?_
    refine lv_istore_n (lv' := [(2, .int (σ 0 (4 + a1.toNatClampNeg))), (0, .ref (xa E 0)), (1, .int a1)]) hx hb dX0_thingAt_9 rfl hl (by decide) rfl (fun ls hl => ?_)
    refine lv_aload_n hx hb dX0_thingAt_10 rfl (lv_at hl 1 rfl) ?_
    refine va_get (D := xD E) (ci := 0) (v := .ref (xa E 54)) (C := RX0) (T := TX0) (N := 15) hx hb hts in_X0 hown hK (xO_X hW) 0 rfl rfl 8 (by decide) (hts _ q421) (fun _ h9 => h9) rfl dX0_thingAt_11 ?_
    refine lv_iload_n hx hb dX0_thingAt_14 rfl (lv_at hl 2 rfl) ?_
    by_cases hi2 : xin a1 10
    · rw [if_pos hi2] at h
      refine x_aald (g := fun j => xa E (172 + j)) (j := (a1.toNatClampNeg)) F 5 5 10 (xR_54 hW) rfl rfl hi2 rfl dX0_thingAt_15 ?_
      refine lv_iload_n hx hb dX0_thingAt_16 rfl (lv_at hl 0 rfl) ?_
      refine lv_iconst (v := (-1)) hx hb dX0_thingAt_17 (by decide) ?_
      refine lv_icmp_ne (tgt := 25) hx hb dX0_thingAt_18 (by decide) (fun c3 => ?_) (fun c3 => ?_)
      · rw [if_neg c3] at h
        refine lv_aload_n hx hb dX0_thingAt_25 rfl (lv_at hl 1 rfl) ?_
        refine lv_iload_n hx hb dX0_thingAt_26 rfl (lv_at hl 0 rfl) ?_
        cases g4 : fX0_bellOf σ (σ 0 (4 + a1.toNatClampNeg)) with
        | none => rw [g4] at h; cases h
        | some r5 =>
          rw [g4, Option.bind_some] at h
          refine x_backr (va_runV (C := RX0) (b := (xa E 0)) (As := [.int (σ 0 (4 + a1.toNatClampNeg))]) (rest := [.ref (xa E (172 + a1.toNatClampNeg))]) F.1 (mX0_bellOf l E σ (σ 0 (4 + a1.toNatClampNeg)) r5 g4) (cwV 1 hts (lw_V q541 q543 qs4 q99 q544) rfl rfl rfl (by decide +kernel) ⟨Nat.le_of_ble_eq_true rfl, Nat.le_of_ble_eq_true rfl⟩) ⟨xPc.blind, va_recv hK (xO_X hW) (ci := 0) (q0 := 0) rfl rfl, F.pre hW hS (.ref (xa E 0) :: [.int (σ 0 (4 + a1.toNatClampNeg))])⟩ rfl rfl hl.1 rfl (lv_room (Nat.le_of_ble_eq_true rfl)) dX0_thingAt_27 ⟨Nat.le_refl _, Nat.le_refl _⟩) hS (fun H locs hW hS => ?_)
          refine x_putSp F hW hS a1.toNatClampNeg (x_lt hi2) (va_Nw.use rfl (F.2.1.2.1 _ q308 rfl)) (Int32.ofNat (61 + 2 * r5)) (.ref (xa E (61 + 2 * r5))) (x_spv (x_bo g4)) rfl dX0_thingAt_30 (fun H locs hW hS => ?_)
          refine lv_aload_n hx hb dX0_thingAt_33 rfl (lv_at hl 1 rfl) ?_
          refine va_get (D := xD E) (ci := 0) (v := .ref (xa E 54)) (C := RX0) (T := TX0) (N := 15) hx hb hts in_X0 hown hK (xO_X hW) 0 rfl rfl 8 (by decide) (hts _ q421) (fun _ h9 => h9) rfl dX0_thingAt_34 ?_
          refine lv_iload_n hx hb dX0_thingAt_37 rfl (lv_at hl 2 rfl) ?_
          by_cases hi6 : xin a1 10
          · rw [if_pos hi6] at h
            refine x_aald (g := fun j => xa E (172 + j)) (j := (a1.toNatClampNeg)) F 5 5 10 (xR_54 hW) rfl rfl hi6 rfl dX0_thingAt_38 ?_
            have hv : va_P (xD E) xCl [(xa E (172 + a1.toNatClampNeg), .inr (5, [.ref (xa E (61 + 2 * r5))]))] H := by
              have h9 := xO_sp hW a1.toNatClampNeg (x_lt hi6)
              rw [x_spB (x_bo g4)] at h9
              exact h9
            refine va_getN (D := xD E) (ci := 5) (v := .ref (xa E (61 + 2 * r5))) (C := RX5) (T := TX5) (N := 1) hx hb hts in_X5 hown hK hv 0 rfl rfl 0 (by decide) (va_Nw.use rfl (F.2.1.2.1 _ q308 rfl)) (fun _ h9 => h9) rfl dX0_thingAt_39 ?_
            obtain ⟨h1, h2⟩ := Prod.mk.inj (Option.some.inj h); subst h1; subst h2
            exact x_aret F hr (Or.inl ⟨_, rfl⟩) hlk hW hS dX0_thingAt_42
          · rw [if_neg hi6] at h; cases h
      · rw [if_pos c3] at h
        refine lv_null hx hb dX0_thingAt_21 ?_
        refine lv_goto (tgt := 30) hx hb dX0_thingAt_22 (by decide) ?_
        refine x_putSp F hW hS a1.toNatClampNeg (x_lt hi2) (va_Nw.use rfl (F.2.1.2.1 _ q308 rfl)) (-1) (.null) rfl rfl dX0_thingAt_30 (fun H locs hW hS => ?_)
        refine lv_aload_n hx hb dX0_thingAt_33 rfl (lv_at hl 1 rfl) ?_
        refine va_get (D := xD E) (ci := 0) (v := .ref (xa E 54)) (C := RX0) (T := TX0) (N := 15) hx hb hts in_X0 hown hK (xO_X hW) 0 rfl rfl 8 (by decide) (hts _ q421) (fun _ h9 => h9) rfl dX0_thingAt_34 ?_
        refine lv_iload_n hx hb dX0_thingAt_37 rfl (lv_at hl 2 rfl) ?_
        by_cases hi7 : xin a1 10
        · rw [if_pos hi7] at h
          refine x_aald (g := fun j => xa E (172 + j)) (j := (a1.toNatClampNeg)) F 5 5 10 (xR_54 hW) rfl rfl hi7 rfl dX0_thingAt_38 ?_
          have hv : va_P (xD E) xCl [(xa E (172 + a1.toNatClampNeg), .inr (5, [.null]))] H := by
            have h9 := xO_sp hW a1.toNatClampNeg (x_lt hi7)
            rw [x_spN] at h9
            exact h9
          refine va_getN (D := xD E) (ci := 5) (v := .null) (C := RX5) (T := TX5) (N := 1) hx hb hts in_X5 hown hK hv 0 rfl rfl 0 (by decide) (va_Nw.use rfl (F.2.1.2.1 _ q308 rfl)) (fun _ h9 => h9) rfl dX0_thingAt_39 ?_
          obtain ⟨h1, h2⟩ := Prod.mk.inj (Option.some.inj h); subst h1; subst h2
          exact x_aretN F hr (Or.inl ⟨_, rfl⟩) hlk hW hS dX0_thingAt_42
        · rw [if_neg hi7] at h; cases h
    · rw [if_neg hi2] at h; cases h
  · rw [if_neg hi1] at h; cases h
/-! WildBells.cast(Ljava/lang/Object;I)LWildBells$Bell; -/
def fX0_cast_b (j0 : Nat) (a1 : Int32) : Option Nat :=
  (if a1 = 1 then (if j0 / 8 = 1 ∨ j0 / 8 = 6 then (some j0) else none) else (if a1 = 2 then (if j0 / 8 = 2 ∨ j0 / 8 = 3 ∨ j0 / 8 = 4 then (some j0) else none) else (if a1 = 3 then (if j0 / 8 = 3 ∨ j0 / 8 = 4 then (some j0) else none) else (if a1 = 4 then (if j0 / 8 = 4 then (some j0) else none) else (if a1 = 5 then (if j0 / 8 = 5 then (some j0) else none) else (if a1 = 6 then (if j0 / 8 = 6 then (some j0) else none) else (some j0)))))))
set_option maxHeartbeats 4000000 in
theorem mX0_cast_b (l : Launch) (E : xE) (σ : xM) (j0 : Nat) (hj0 : j0 < 56) (a1 : Int32) (r : Nat) (h : fX0_cast_b j0 a1 = some r) : Met l yX0_cast (ws_ yX0_cast cX0_cast 2 (some (.object "WildBells$Bell"))) ({ frames := 0, cells := 0, slots := 0, locals := 0 } : Room) (xPc E σ [.ref (xa E (61 + 2 * j0)), .int a1]) (xQc E (.returned (some (.ref (xa E (61 + 2 * r))))) σ) 0 0 (xA E) := by
  refine x_of (C := RX0) (n := "cast") (d := "(Ljava/lang/Object;I)LWildBells$Bell;") (r := (some (.object "WildBells$Bell"))) (by decide) rfl (by first | decide | exact Nat.le_of_ble_eq_true rfl) ?_
  intro p e s m below meth c ls F hr hlk hW hS hl
  have hl : lv_has ls 2 [(0, .ref (xa E (61 + 2 * j0))), (1, .int a1)] := hl
  obtain ⟨hx, hb, hml, hown, hts⟩ := id F.1
  have hK := F.2.1.1
  unfold fX0_cast_b at h
  refine lv_iload_n hx hb dX0_cast_0 rfl (lv_at hl 1 rfl) ?_
  by_cases c1 : a1 = 1
  · rw [if_pos c1] at h
    refine lv_tableIn (tgt := 40) hx hb dX0_cast_1 (by rw [c1]; decide) (by rw [c1]; decide) (by rw [c1]; rfl) (by decide) ?_
    refine lv_aload_n hx hb dX0_cast_40 rfl (lv_at hl 0 rfl) ?_
    by_cases hs2 : j0 / 8 = 1 ∨ j0 / 8 = 6
    · rw [if_pos hs2] at h
      refine x_cast1 F hW j0 hj0 hs2 (hts _ q317) dX0_cast_41 ?_
      have h := Option.some.inj h; subst h
      exact x_aret F hr (Or.inl ⟨_, rfl⟩) hlk hW hS dX0_cast_44
    · rw [if_neg hs2] at h; cases h
  · rw [if_neg c1] at h
    by_cases c3 : a1 = 2
    · rw [if_pos c3] at h
      refine lv_tableIn (tgt := 45) hx hb dX0_cast_1 (by rw [c3]; decide) (by rw [c3]; decide) (by rw [c3]; rfl) (by decide) ?_
      refine lv_aload_n hx hb dX0_cast_45 rfl (lv_at hl 0 rfl) ?_
      by_cases hs4 : j0 / 8 = 2 ∨ j0 / 8 = 3 ∨ j0 / 8 = 4
      · rw [if_pos hs4] at h
        refine x_cast2 F hW j0 hj0 hs4 (hts _ q341) dX0_cast_46 ?_
        have h := Option.some.inj h; subst h
        exact x_aret F hr (Or.inl ⟨_, rfl⟩) hlk hW hS dX0_cast_49
      · rw [if_neg hs4] at h; cases h
    · rw [if_neg c3] at h
      by_cases c5 : a1 = 3
      · rw [if_pos c5] at h
        refine lv_tableIn (tgt := 50) hx hb dX0_cast_1 (by rw [c5]; decide) (by rw [c5]; decide) (by rw [c5]; rfl) (by decide) ?_
        refine lv_aload_n hx hb dX0_cast_50 rfl (lv_at hl 0 rfl) ?_
        by_cases hs6 : j0 / 8 = 3 ∨ j0 / 8 = 4
        · rw [if_pos hs6] at h
          refine x_cast3 F hW j0 hj0 hs6 (hts _ q353) dX0_cast_51 ?_
          have h := Option.some.inj h; subst h
          exact x_aret F hr (Or.inl ⟨_, rfl⟩) hlk hW hS dX0_cast_54
        · rw [if_neg hs6] at h; cases h
      · rw [if_neg c5] at h
        by_cases c7 : a1 = 4
        · rw [if_pos c7] at h
          refine lv_tableIn (tgt := 55) hx hb dX0_cast_1 (by rw [c7]; decide) (by rw [c7]; decide) (by rw [c7]; rfl) (by decide) ?_
          refine lv_aload_n hx hb dX0_cast_55 rfl (lv_at hl 0 rfl) ?_
          by_cases hs8 : j0 / 8 = 4
          · rw [if_pos hs8] at h
            refine x_cast4 F hW j0 hj0 hs8 (hts _ q366) dX0_cast_56 ?_
            have h := Option.some.inj h; subst h
            exact x_aret F hr (Or.inl ⟨_, rfl⟩) hlk hW hS dX0_cast_59
          · rw [if_neg hs8] at h; cases h
        · rw [if_neg c7] at h
          by_cases c9 : a1 = 5
          · rw [if_pos c9] at h
            refine lv_tableIn (tgt := 60) hx hb dX0_cast_1 (by rw [c9]; decide) (by rw [c9]; decide) (by rw [c9]; rfl) (by decide) ?_
            refine lv_aload_n hx hb dX0_cast_60 rfl (lv_at hl 0 rfl) ?_
            by_cases hs10 : j0 / 8 = 5
            · rw [if_pos hs10] at h
              refine x_cast5 F hW j0 hj0 hs10 (hts _ q380) dX0_cast_61 ?_
              have h := Option.some.inj h; subst h
              exact x_aret F hr (Or.inl ⟨_, rfl⟩) hlk hW hS dX0_cast_64
            · rw [if_neg hs10] at h; cases h
          · rw [if_neg c9] at h
            by_cases c11 : a1 = 6
            · rw [if_pos c11] at h
              refine lv_tableIn (tgt := 65) hx hb dX0_cast_1 (by rw [c11]; decide) (by rw [c11]; decide) (by rw [c11]; rfl) (by decide) ?_
              refine lv_aload_n hx hb dX0_cast_65 rfl (lv_at hl 0 rfl) ?_
              by_cases hs12 : j0 / 8 = 6
              · rw [if_pos hs12] at h
                refine x_cast6 F hW j0 hj0 hs12 (hts _ q392) dX0_cast_66 ?_
                have h := Option.some.inj h; subst h
                exact x_aret F hr (Or.inl ⟨_, rfl⟩) hlk hW hS dX0_cast_69
              · rw [if_neg hs12] at h; cases h
            · rw [if_neg c11] at h
              refine lv_tableOut (tgt := 70) hx hb dX0_cast_1 (by have := lv_neT (a := 1) c1 rfl; have := lv_neT (a := 2) c3 rfl; have := lv_neT (a := 3) c5 rfl; have := lv_neT (a := 4) c7 rfl; have := lv_neT (a := 5) c9 rfl; have := lv_neT (a := 6) c11 rfl; omega) (by decide) ?_
              refine lv_aload_n hx hb dX0_cast_70 rfl (lv_at hl 0 rfl) ?_
              refine x_castB F hW j0 hj0 (hts _ q405) dX0_cast_71 ?_
              have h := Option.some.inj h; subst h
              exact x_aret F hr (Or.inl ⟨_, rfl⟩) hlk hW hS dX0_cast_74
theorem x_ca {j r : Nat} {a : Int32} (hj : j < 56) (h : fX0_cast_b j a = some r) : r < 56 := by
  have e : r = j := by
    unfold fX0_cast_b at h
    repeat' split at h
    all_goals first | (cases h; rfl) | cases h
  rw [e]
  exact hj
/-! WildBells.as(II)I -/
def fX0_as (σ : xM) (a1 : Int32) (a2 : Int32) : Option (Int32 × xM) :=
  if (fX0_isSpot a1) = 0 then ((fX0_finding σ 0).bind (fun r3 => some (r3.1, r3.2))) else (if (fX0_isKind a2) = 0 then ((fX0_finding σ 0).bind (fun r18 => some (r18.1, r18.2))) else ((fX0_thingAt σ a1).bind (fun r6 => xro r6.1 ((fX0_finding r6.2 5).bind (fun r11 => some (r11.1, r11.2))) (fun j7 => if j7 < 56 then (if (xund (j7 / 8) a2) = 0 then ((fX0_finding r6.2 2).bind (fun r14 => some (r14.1, r14.2))) else ((fX0_cast_b j7 a2).bind (fun r16 => some ((Int32.ofNat (r16 % 8)), r6.2)))) else none))))
set_option maxHeartbeats 4000000 in
theorem mX0_as (l : Launch) (E : xE) (σ : xM) (a1 : Int32) (a2 : Int32) (r : Int32) (σ' : xM) (h : fX0_as σ a1 a2 = some (r, σ')) : Met l yX0_as (ws_ yX0_as cX0_as 5 (some .int)) ({ frames := 7, cells := 0, slots := 0, locals := 143 } : Room) (xPc E σ [.ref (xa E 0), .int a1, .int a2]) (xQc E (.returned (some (.int r))) σ') 0 0 (xA E) := by
  refine x_of (C := RX0) (n := "as") (d := "(II)I") (r := (some .int)) (by decide) rfl (by first | decide | exact Nat.le_of_ble_eq_true rfl) ?_
  intro p e s m below meth c ls F hr hlk hW hS hl
  have hl : lv_has ls 5 [(0, .ref (xa E 0)), (1, .int a1), (2, .int a2)] := hl
  obtain ⟨hx, hb, hml, hown, hts⟩ := id F.1
  have hK := F.2.1.1
  unfold fX0_as at h
  refine lv_iload_n hx hb dX0_as_0 rfl (lv_at hl 1 rfl) ?_
  refine x_backi (va_runS (As := [.int a1]) (rest := []) F.1 (mX0_isSpot l E σ a1) (va_cwS 1 hts (lw_S q1104 q1105 q99 q1106) rfl rfl rfl (by decide +kernel) ⟨Nat.le_of_ble_eq_true rfl, Nat.le_of_ble_eq_true rfl⟩) ⟨xPc.blind, F.pre hW hS [.int a1]⟩ rfl rfl hl.1 rfl (lv_room (Nat.le_of_ble_eq_true rfl)) dX0_as_1 ⟨Nat.le_refl _, Nat.le_refl _⟩) hS (fun H locs hW hS => ?_)
  refine lv_if_eq (tgt := 14) hx hb dX0_as_4 (by decide) (fun c1 => ?_) (fun c1 => ?_)
  · rw [if_pos c1] at h
    refine lv_aload_n hx hb dX0_as_14 rfl (lv_at hl 0 rfl) ?_
    refine lv_iconst (v := 0) hx hb dX0_as_15 (by decide) ?_
    cases g2 : fX0_finding σ 0 with
    | none => rw [g2] at h; cases h
    | some r3 =>
      rw [g2, Option.bind_some] at h
      refine x_backi (va_runV (C := RX0) (b := (xa E 0)) (As := [.int 0]) (rest := []) F.1 (mX0_finding l E σ 0 r3.1 r3.2 g2) (cwV 1 hts (lw_V q469 q471 qs2 q99 q472) rfl rfl rfl (by decide +kernel) ⟨Nat.le_of_ble_eq_true rfl, Nat.le_of_ble_eq_true rfl⟩) ⟨xPc.blind, va_recv hK (xO_X hW) (ci := 0) (q0 := 0) rfl rfl, F.pre hW hS (.ref (xa E 0) :: [.int 0])⟩ rfl rfl hl.1 rfl (lv_room (Nat.le_of_ble_eq_true rfl)) dX0_as_16 ⟨Nat.le_refl _, Nat.le_refl _⟩) hS (fun H locs hW hS => ?_)
      obtain ⟨h1, h2⟩ := Prod.mk.inj (Option.some.inj h); subst h1; subst h2
      exact x_iret F hr hlk hW hS dX0_as_19
  · rw [if_neg c1] at h
    refine lv_iload_n hx hb dX0_as_7 rfl (lv_at hl 2 rfl) ?_
    refine x_backi (va_runS (As := [.int a2]) (rest := []) F.1 (mX0_isKind l E σ a2) (va_cwS 1 hts (lw_S q526 q527 q99 q528) rfl rfl rfl (by decide +kernel) ⟨Nat.le_of_ble_eq_true rfl, Nat.le_of_ble_eq_true rfl⟩) ⟨xPc.blind, F.pre hW hS [.int a2]⟩ rfl rfl hl.1 rfl (lv_room (Nat.le_of_ble_eq_true rfl)) dX0_as_8 ⟨Nat.le_refl _, Nat.le_refl _⟩) hS (fun H locs hW hS => ?_)
    refine lv_if_ne (tgt := 20) hx hb dX0_as_11 (by decide) (fun c4 => ?_) (fun c4 => ?_)
    · rw [if_neg c4] at h
      refine lv_aload_n hx hb dX0_as_20 rfl (lv_at hl 0 rfl) ?_
      refine lv_iload_n hx hb dX0_as_21 rfl (lv_at hl 1 rfl) ?_
      rcases g5 : fX0_thingAt σ a1 with _ | ⟨_ | j7, σ9⟩
      · rw [g5] at h; cases h
      · rw [g5, Option.bind_some, xro_n] at h
        refine x_backn (va_runV (C := RX0) (b := (xa E 0)) (As := [.int a1]) (rest := []) F.1 (mX0_thingAt l E σ a1 none σ9 g5) (cwV 1 hts (lw_V q1111 q1113 qs48 q99 q1114) rfl rfl rfl (by decide +kernel) ⟨Nat.le_of_ble_eq_true rfl, Nat.le_of_ble_eq_true rfl⟩) ⟨xPc.blind, va_recv hK (xO_X hW) (ci := 0) (q0 := 0) rfl rfl, F.pre hW hS (.ref (xa E 0) :: [.int a1])⟩ rfl rfl hl.1 rfl (lv_room (Nat.le_of_ble_eq_true rfl)) dX0_as_22 ⟨Nat.le_refl _, Nat.le_refl _⟩) hS (fun H locs hW hS => ?_)
        refine lv_astore_nN (lv' := [(3, .null), (0, .ref (xa E 0)), (1, .int a1), (2, .int a2)]) hx hb dX0_as_25 rfl hl (by decide) rfl (fun ls hl => ?_)
        refine lv_aload_nN hx hb dX0_as_26 rfl (lv_at hl 0 rfl) ?_
        refine lv_ifnonnullN hx hb dX0_as_27 ?_
        refine lv_aload_n hx hb dX0_as_30 rfl (lv_at hl 1 rfl) ?_
        refine lv_iconst (v := 5) hx hb dX0_as_31 (by decide) ?_
        cases g10 : fX0_finding σ9 5 with
        | none => rw [g10] at h; cases h
        | some r11 =>
          rw [g10, Option.bind_some] at h
          refine x_backi (va_runV (C := RX0) (b := (xa E 0)) (As := [.int 5]) (rest := []) F.1 (mX0_finding l E σ9 5 r11.1 r11.2 g10) (cwV 1 hts (lw_V q469 q471 qs2 q99 q472) rfl rfl rfl (by decide +kernel) ⟨Nat.le_of_ble_eq_true rfl, Nat.le_of_ble_eq_true rfl⟩) ⟨xPc.blind, va_recv hK (xO_X hW) (ci := 0) (q0 := 0) rfl rfl, F.pre hW hS (.ref (xa E 0) :: [.int 5])⟩ rfl rfl hl.1 rfl (lv_room (Nat.le_of_ble_eq_true rfl)) dX0_as_32 ⟨Nat.le_refl _, Nat.le_refl _⟩) hS (fun H locs hW hS => ?_)
          obtain ⟨h1, h2⟩ := Prod.mk.inj (Option.some.inj h); subst h1; subst h2
          exact x_iret F hr hlk hW hS dX0_as_35
      · rw [g5, Option.bind_some, xro_s] at h
        by_cases hj8 : j7 < 56
        · rw [if_pos hj8] at h
          refine x_backr (va_runV (C := RX0) (b := (xa E 0)) (As := [.int a1]) (rest := []) F.1 (mX0_thingAt l E σ a1 (some j7) σ9 g5) (cwV 1 hts (lw_V q1111 q1113 qs48 q99 q1114) rfl rfl rfl (by decide +kernel) ⟨Nat.le_of_ble_eq_true rfl, Nat.le_of_ble_eq_true rfl⟩) ⟨xPc.blind, va_recv hK (xO_X hW) (ci := 0) (q0 := 0) rfl rfl, F.pre hW hS (.ref (xa E 0) :: [.int a1])⟩ rfl rfl hl.1 rfl (lv_room (Nat.le_of_ble_eq_true rfl)) dX0_as_22 ⟨Nat.le_refl _, Nat.le_refl _⟩) hS (fun H locs hW hS => ?_)
          refine lv_astore_n (lv' := [(3, .ref (xa E (61 + 2 * j7))), (0, .ref (xa E 0)), (1, .int a1), (2, .int a2)]) hx hb dX0_as_25 rfl hl (by decide) rfl (fun ls hl => ?_)
          refine lv_aload_n hx hb dX0_as_26 rfl (lv_at hl 0 rfl) ?_
          refine lv_ifnonnull (tgt := 36) hx hb dX0_as_27 (by decide) ?_
          refine lv_aload_n hx hb dX0_as_36 rfl (lv_at hl 0 rfl) ?_
          refine x_instBell F hW j7 hj8 (hts _ q405) dX0_as_37 ?_
          refine lv_if_eq (tgt := 58) hx hb dX0_as_40 (by decide) (fun c => absurd c (by decide)) (fun c => ?_)
          refine lv_aload_n hx hb dX0_as_43 rfl (lv_at hl 0 rfl) ?_
          refine x_castB F hW j7 hj8 (hts _ q405) dX0_as_44 ?_
          refine lv_iload_n hx hb dX0_as_47 rfl (lv_at hl 3 rfl) ?_
          refine x_backi (x_runUnder (x := a2) (rest := []) F (Nat.le_of_ble_eq_true rfl) (Nat.le_of_ble_eq_true rfl) hj8 hW hS hl.1 (Nat.le_of_ble_eq_true rfl) dX0_as_48 ⟨Nat.le_refl _, Nat.le_refl _⟩) hS (fun H locs hW hS => ?_)
          refine lv_if_eq (tgt := 58) hx hb dX0_as_51 (by decide) (fun c12 => ?_) (fun c12 => ?_)
          · rw [if_pos c12] at h
            refine lv_iconst (v := 0) hx hb dX0_as_58 (by decide) ?_
            refine lv_istore (lv' := [(4, .int 0), (3, .ref (xa E (61 + 2 * j7))), (0, .ref (xa E 0)), (1, .int a1), (2, .int a2)]) hx hb dX0_as_59 hl (by decide) rfl (fun ls hl => ?_)
            refine lv_iload hx hb dX0_as_61 (lv_at hl 0 rfl) ?_
            refine lv_if_eq (tgt := 77) hx hb dX0_as_63 (by decide) (fun c => ?_) (fun c => absurd c (by decide))
            refine lv_aload_n hx hb dX0_as_77 rfl (lv_at hl 2 rfl) ?_
            refine lv_iconst (v := 2) hx hb dX0_as_78 (by decide) ?_
            cases g13 : fX0_finding σ9 2 with
            | none => rw [g13] at h; cases h
            | some r14 =>
              rw [g13, Option.bind_some] at h
              refine x_backi (va_runV (C := RX0) (b := (xa E 0)) (As := [.int 2]) (rest := []) F.1 (mX0_finding l E σ9 2 r14.1 r14.2 g13) (cwV 1 hts (lw_V q469 q471 qs2 q99 q472) rfl rfl rfl (by decide +kernel) ⟨Nat.le_of_ble_eq_true rfl, Nat.le_of_ble_eq_true rfl⟩) ⟨xPc.blind, va_recv hK (xO_X hW) (ci := 0) (q0 := 0) rfl rfl, F.pre hW hS (.ref (xa E 0) :: [.int 2])⟩ rfl rfl hl.1 rfl (lv_room (Nat.le_of_ble_eq_true rfl)) dX0_as_79 ⟨Nat.le_refl _, Nat.le_refl _⟩) hS (fun H locs hW hS => ?_)
              obtain ⟨h1, h2⟩ := Prod.mk.inj (Option.some.inj h); subst h1; subst h2
              exact x_iret F hr hlk hW hS dX0_as_82
          · rw [if_neg c12] at h
            refine lv_iconst (v := 1) hx hb dX0_as_54 (by decide) ?_
            refine lv_goto (tgt := 59) hx hb dX0_as_55 (by decide) ?_
            refine lv_istore (lv' := [(4, .int 1), (3, .ref (xa E (61 + 2 * j7))), (0, .ref (xa E 0)), (1, .int a1), (2, .int a2)]) hx hb dX0_as_59 hl (by decide) rfl (fun ls hl => ?_)
            refine lv_iload hx hb dX0_as_61 (lv_at hl 0 rfl) ?_
            refine lv_if_eq (tgt := 77) hx hb dX0_as_63 (by decide) (fun c => absurd c (by decide)) (fun c => ?_)
            refine lv_aload_n hx hb dX0_as_66 rfl (lv_at hl 1 rfl) ?_
            refine lv_iload_n hx hb dX0_as_67 rfl (lv_at hl 4 rfl) ?_
            cases g15 : fX0_cast_b j7 a2 with
            | none => rw [g15] at h; cases h
            | some r16 =>
              rw [g15, Option.bind_some] at h
              refine x_backr (va_runS (As := [.ref (xa E (61 + 2 * j7)), .int a2]) (rest := []) F.1 (mX0_cast_b l E σ9 j7 hj8 a2 r16 g15) (va_cwS 2 hts (lw_S q1115 q1116 q99 q1117) rfl rfl rfl (by decide +kernel) ⟨Nat.le_of_ble_eq_true rfl, Nat.le_of_ble_eq_true rfl⟩) ⟨xPc.blind, F.pre hW hS [.ref (xa E (61 + 2 * j7)), .int a2]⟩ rfl rfl hl.1 rfl (lv_room (Nat.le_of_ble_eq_true rfl)) dX0_as_68 ⟨Nat.le_refl _, Nat.le_refl _⟩) hS (fun H locs hW hS => ?_)
              refine x_num F hW r16 (x_ca hj8 g15) (hts _ q332) dX0_as_71 ?_
              refine lv_goto (tgt := 82) hx hb dX0_as_74 (by decide) ?_
              obtain ⟨h1, h2⟩ := Prod.mk.inj (Option.some.inj h); subst h1; subst h2
              exact x_iret F hr hlk hW hS dX0_as_82
        · rw [if_neg hj8] at h; cases h
    · rw [if_pos c4] at h
      refine lv_aload_n hx hb dX0_as_14 rfl (lv_at hl 0 rfl) ?_
      refine lv_iconst (v := 0) hx hb dX0_as_15 (by decide) ?_
      cases g17 : fX0_finding σ 0 with
      | none => rw [g17] at h; cases h
      | some r18 =>
        rw [g17, Option.bind_some] at h
        refine x_backi (va_runV (C := RX0) (b := (xa E 0)) (As := [.int 0]) (rest := []) F.1 (mX0_finding l E σ 0 r18.1 r18.2 g17) (cwV 1 hts (lw_V q469 q471 qs2 q99 q472) rfl rfl rfl (by decide +kernel) ⟨Nat.le_of_ble_eq_true rfl, Nat.le_of_ble_eq_true rfl⟩) ⟨xPc.blind, va_recv hK (xO_X hW) (ci := 0) (q0 := 0) rfl rfl, F.pre hW hS (.ref (xa E 0) :: [.int 0])⟩ rfl rfl hl.1 rfl (lv_room (Nat.le_of_ble_eq_true rfl)) dX0_as_16 ⟨Nat.le_refl _, Nat.le_refl _⟩) hS (fun H locs hW hS => ?_)
        obtain ⟨h1, h2⟩ := Prod.mk.inj (Option.some.inj h); subst h1; subst h2
        exact x_iret F hr hlk hW hS dX0_as_19
/-! WildBells.text()I -/
def fX0_text (σ : xM) : Option (Int32 × xM) :=
  (fX4_become (xup (xup σ 4 0 (σ 6 0)) 6 0 0) 3 0).bind (fun r2 => xct (fX2_whole r2) (fun r4 σ5 => (fX4_become σ5 0 3).bind (fun r7 => some (r4, r7))) (fun σ5 => some (((-1) - (σ5 4 2)), σ5)))
set_option maxHeartbeats 4000000 in
theorem mX0_text (l : Launch) (E : xE) (σ : xM) (r : Int32) (σ' : xM) (h : fX0_text σ = some (r, σ')) : Met l yX0_text (wsW_ yX0_text cX0_text 2 (some .int) [(30, 53, 54, 370)]) ({ frames := 13, cells := 0, slots := 0, locals := 282 } : Room) (xPc E σ [.ref (xa E 0)]) (xQc E (.returned (some (.int r))) σ') 0 0 (xA E) := by
  refine x_ofW (C := RX0) (n := "text") (d := "()I") (r := (some .int)) (hh := [(30, 53, 54, 370)]) (by decide) (by first | decide | exact Nat.le_of_ble_eq_true rfl) ?_
  intro p e s m below meth c ls F hr hlk htb hW hS hl
  have hl : lv_has ls 2 [(0, .ref (xa E 0))] := hl
  obtain ⟨hx, hb, hml, hown, hts⟩ := id F.1
  have hK := F.2.1.1
  unfold fX0_text at h
  refine lv_aload_n hx hb dX0_text_0 rfl (lv_at hl 0 rfl) ?_
  refine va_get (D := xD E) (ci := 0) (v := .ref (xa E 2)) (C := RX0) (T := TX0) (N := 15) hx hb hts in_X0 hown hK (xO_X hW) 0 rfl rfl 1 (by decide) (hts _ q412) (fun _ h9 => h9) rfl dX0_text_1 ?_
  refine lv_aload_n hx hb dX0_text_4 rfl (lv_at hl 0 rfl) ?_
  refine va_get (D := xD E) (ci := 0) (v := .int (σ 6 0)) (C := RX0) (T := TX0) (N := 15) hx hb hts in_X0 hown hK (xO_X hW) 0 rfl rfl 2 (by decide) (hts _ q413) (fun _ h9 => h9) rfl dX0_text_5 ?_
  refine x_putN (C := RX2) (T := TX2) (N := 8) (ci := 2) (ty := .int) F hW hS in_X2 tyX2 tyX2_ok nmX2 rfl 2 3 4 0 (by decide) rfl (by decide) rfl (by decide) (va_Nw.use rfl (F.2.1.2.1 _ q276 rfl)) (fun _ h9 => h9) rfl (by decide +kernel) rfl rfl dX0_text_8 (fun H locs hW hS => ?_)
  refine lv_aload_n hx hb dX0_text_11 rfl (lv_at hl 0 rfl) ?_
  refine lv_iconst (v := 0) hx hb dX0_text_12 (by decide) ?_
  refine x_put (C := RX0) (T := TX0) (N := 15) (ci := 0) (ty := .int) F hW hS in_X0 tyX0 tyX0_ok nmX0 rfl 0 2 6 0 (by decide) rfl (by decide) rfl (by decide) (hts _ q413) (fun _ h9 => h9) rfl (by decide +kernel) rfl rfl dX0_text_13 (fun H locs hW hS => ?_)
  refine lv_aload_n hx hb dX0_text_16 rfl (lv_at hl 0 rfl) ?_
  refine va_get (D := xD E) (ci := 0) (v := .ref (xa E 2)) (C := RX0) (T := TX0) (N := 15) hx hb hts in_X0 hown hK (xO_X hW) 0 rfl rfl 1 (by decide) (hts _ q412) (fun _ h9 => h9) rfl dX0_text_17 ?_
  refine va_getN (D := xD E) (ci := 2) (v := .ref (xa E (xwc 3 0))) (C := RX2) (T := TX2) (N := 8) hx hb hts in_X2 hown hK (xO_R hW) 0 rfl rfl 2 (by decide) (va_Nw.use rfl (F.2.1.2.1 _ q274 rfl)) (fun _ h9 => h9) rfl dX0_text_20 ?_
  refine lv_aload_n hx hb dX0_text_23 rfl (lv_at hl 0 rfl) ?_
  refine va_get (D := xD E) (ci := 0) (v := .ref (xa E (xwc 0 0))) (C := RX0) (T := TX0) (N := 15) hx hb hts in_X0 hown hK (xO_X hW) 0 rfl rfl 3 (by decide) (hts _ q416) (fun _ h9 => h9) rfl dX0_text_24 ?_
  cases g1 : fX4_become (xup (xup σ 4 0 (σ 6 0)) 6 0 0) 3 0 with
  | none => rw [g1] at h; cases h
  | some r2 =>
    rw [g1, Option.bind_some] at h
    refine x_backv (va_runV (C := RX4) (b := (xa E (xwc 3 0))) (As := [.ref (xa E (xwc 0 0))]) (rest := []) F.1 (mX4_become l E (xup (xup σ 4 0 (σ 6 0)) 6 0 0) 3 (by decide) 0 (by decide) (by decide) r2 g1) (cwV 1 hts (lw_V q751 q752 q753 q106 q754) rfl rfl rfl (by decide +kernel) ⟨Nat.le_of_ble_eq_true rfl, Nat.le_of_ble_eq_true rfl⟩) ⟨xPc.blind, va_recv hK (xO_W hW 3 (by decide)) (ci := 4) (q0 := 0) rfl rfl, F.pre hW hS (.ref (xa E (xwc 3 0)) :: [.ref (xa E (xwc 0 0))])⟩ rfl rfl hl.1 rfl (lv_room (Nat.le_of_ble_eq_true rfl)) dX0_text_27 ⟨Nat.le_refl _, Nat.le_refl _⟩) hS (fun H locs hW hS => ?_)
    refine lv_aload_n hx hb dX0_text_30 rfl (lv_at hl 0 rfl) ?_
    refine va_get (D := xD E) (ci := 0) (v := .ref (xa E 2)) (C := RX0) (T := TX0) (N := 15) hx hb hts in_X0 hown hK (xO_X hW) 0 rfl rfl 1 (by decide) (hts _ q412) (fun _ h9 => h9) rfl dX0_text_31 ?_
    rcases g3 : fX2_whole r2 with _ | ⟨_ | r4, σ5⟩
    · rw [g3] at h; cases h
    · rw [g3, xct_t] at h
      refine x_backTc F (x_runVT (C := RX2) (b := (xa E 2)) (As := []) (rest := []) F.1 (mX2_whole l E r2 none σ5 g3) (cwV 0 hts (lw_V q991 q992 q993 q104 q994) rfl rfl rfl (by decide +kernel) ⟨Nat.le_of_ble_eq_true rfl, Nat.le_of_ble_eq_true rfl⟩) ⟨xPc.blind, va_recv hK (xO_R hW) (ci := 2) (q0 := 0) rfl rfl, F.pre hW hS (.ref (xa E 2) :: [])⟩ rfl rfl hl.1 rfl (lv_room (Nat.le_of_ble_eq_true rfl)) dX0_text_34 ⟨Nat.le_refl _, Nat.le_refl _⟩) hS htb ⟨by decide, by decide⟩ (by decide) (hts _ q990) (fun H1 hW1 => va_recv hK (xO_Wr hW1) (ci := 3) (q0 := 0) rfl rfl) (fun H locs hW hS => ?_)
      refine lv_astore_n (lv' := [(1, .ref (xa E 3)), (0, .ref (xa E 0))]) hx hb dX0_text_54 rfl hl (by decide) rfl (fun ls hl => ?_)
      refine lv_iconst (v := (-1)) hx hb dX0_text_55 (by decide) ?_
      refine lv_aload_n hx hb dX0_text_56 rfl (lv_at hl 1 rfl) ?_
      refine va_get (D := xD E) (ci := 0) (v := .ref (xa E 2)) (C := RX0) (T := TX0) (N := 15) hx hb hts in_X0 hown hK (xO_X hW) 0 rfl rfl 1 (by decide) (hts _ q412) (fun _ h9 => h9) rfl dX0_text_57 ?_
      refine va_getN (D := xD E) (ci := 2) (v := .int (σ5 4 2)) (C := RX2) (T := TX2) (N := 8) hx hb hts in_X2 hown hK (xO_R hW) 0 rfl rfl 5 (by decide) (va_Nw.use rfl (F.2.1.2.1 _ q279 rfl)) (fun _ h9 => h9) rfl dX0_text_60 ?_
      refine lv_isub hx hb dX0_text_63 ?_
      obtain ⟨h1, h2⟩ := Prod.mk.inj (Option.some.inj h); subst h1; subst h2
      exact x_iret F hr hlk hW hS dX0_text_64
    · rw [g3, xct_r] at h
      refine x_backTi (x_runVT (C := RX2) (b := (xa E 2)) (As := []) (rest := []) F.1 (mX2_whole l E r2 (some r4) σ5 g3) (cwV 0 hts (lw_V q991 q992 q993 q104 q994) rfl rfl rfl (by decide +kernel) ⟨Nat.le_of_ble_eq_true rfl, Nat.le_of_ble_eq_true rfl⟩) ⟨xPc.blind, va_recv hK (xO_R hW) (ci := 2) (q0 := 0) rfl rfl, F.pre hW hS (.ref (xa E 2) :: [])⟩ rfl rfl hl.1 rfl (lv_room (Nat.le_of_ble_eq_true rfl)) dX0_text_34 ⟨Nat.le_refl _, Nat.le_refl _⟩) hS (fun H locs hW hS => ?_)
      refine lv_istore_n (lv' := [(1, .int r4), (0, .ref (xa E 0))]) hx hb dX0_text_37 rfl hl (by decide) rfl (fun ls hl => ?_)
      refine lv_aload_n hx hb dX0_text_38 rfl (lv_at hl 1 rfl) ?_
      refine va_get (D := xD E) (ci := 0) (v := .ref (xa E (xwc 0 0))) (C := RX0) (T := TX0) (N := 15) hx hb hts in_X0 hown hK (xO_X hW) 0 rfl rfl 3 (by decide) (hts _ q416) (fun _ h9 => h9) rfl dX0_text_39 ?_
      refine lv_aload_n hx hb dX0_text_42 rfl (lv_at hl 1 rfl) ?_
      refine va_get (D := xD E) (ci := 0) (v := .ref (xa E 2)) (C := RX0) (T := TX0) (N := 15) hx hb hts in_X0 hown hK (xO_X hW) 0 rfl rfl 1 (by decide) (hts _ q412) (fun _ h9 => h9) rfl dX0_text_43 ?_
      refine va_getN (D := xD E) (ci := 2) (v := .ref (xa E (xwc 3 0))) (C := RX2) (T := TX2) (N := 8) hx hb hts in_X2 hown hK (xO_R hW) 0 rfl rfl 2 (by decide) (va_Nw.use rfl (F.2.1.2.1 _ q274 rfl)) (fun _ h9 => h9) rfl dX0_text_46 ?_
      cases g6 : fX4_become σ5 0 3 with
      | none => rw [g6] at h; cases h
      | some r7 =>
        rw [g6, Option.bind_some] at h
        refine x_backv (va_runV (C := RX4) (b := (xa E (xwc 0 0))) (As := [.ref (xa E (xwc 3 0))]) (rest := []) F.1 (mX4_become l E σ5 0 (by decide) 3 (by decide) (by decide) r7 g6) (cwV 1 hts (lw_V q751 q752 q753 q106 q754) rfl rfl rfl (by decide +kernel) ⟨Nat.le_of_ble_eq_true rfl, Nat.le_of_ble_eq_true rfl⟩) ⟨xPc.blind, va_recv hK (xO_W hW 0 (by decide)) (ci := 4) (q0 := 0) rfl rfl, F.pre hW hS (.ref (xa E (xwc 0 0)) :: [.ref (xa E (xwc 3 0))])⟩ rfl rfl hl.1 rfl (lv_room (Nat.le_of_ble_eq_true rfl)) dX0_text_49 ⟨Nat.le_refl _, Nat.le_refl _⟩) hS (fun H locs hW hS => ?_)
        refine lv_iload_n hx hb dX0_text_52 rfl (lv_at hl 0 rfl) ?_
        obtain ⟨h1, h2⟩ := Prod.mk.inj (Option.some.inj h); subst h1; subst h2
        exact x_iret F hr hlk hW hS dX0_text_53
