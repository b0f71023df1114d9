set_option maxRecDepth 100000
/-! the sheets: arrays of three kinds at addresses of their own -/
theorem xent_eq {E : xE} {σ σ' : xM} {k : Nat} (hk : k < 201) (heq : ∀ a b, xown a b < 201 → σ' a b = σ a b) (e13 : ∀ b, σ' 13 b = σ 13 b) {H : Heap} (hH : va_at (xD E) xCl (xa E k, xent E σ k) H) : va_at (xD E) xCl (xa E k, xent E σ' k) H := by
  have key : ∀ j, j < (xsh k).2.2 → ((xlc k j).1 = 0 ∨ (xlc k j).1 = 4) → σ' (xlc k j).2.1 (xlc k j).2.2 = σ (xlc k j).2.1 (xlc k j).2.2 := by
    intro j hj hc
    exact heq _ _ (by rw [(xown_ok k hk j hj hc).1]; exact hk)
  unfold xent at hH ⊢
  by_cases h0 : (xsh k).1 = 0
  · rw [if_pos h0] at hH ⊢
    have e : (List.range (xsh k).2.2).map (fun j => xcv E σ' (xlc k j)) = (List.range (xsh k).2.2).map (fun j => xcv E σ (xlc k j)) := by
      apply List.map_congr_left
      intro j hj
      have kj := key j (List.mem_range.mp hj)
      unfold xcv
      by_cases c0 : (xlc k j).1 = 0
      · rw [if_pos c0, if_pos c0, kj (Or.inl c0)]
      · by_cases c4 : (xlc k j).1 = 4
        · simp only [c4, kj (Or.inr c4)]
          rfl
        · simp only [c0, c4, if_false, e13]
    rw [e]
    exact hH
  · rw [if_neg h0] at hH ⊢
    by_cases h1 : (xsh k).1 = 1
    · rw [if_pos h1] at hH ⊢
      have hH' : H[xa E k]? = some (arrV (xak E (xsh k).2.1) (xsh k).2.2 (fun j => .int (σ (xlc k j).2.1 (xlc k j).2.2))) := hH
      show H[xa E k]? = some (arrV (xak E (xsh k).2.1) (xsh k).2.2 (fun j => .int (σ' (xlc k j).2.1 (xlc k j).2.2)))
      rw [hH']
      congr 1
      unfold arrV
      congr 2
      funext j
      have hj0 := ((xkind_ok k hk).1 h1 j.val j.isLt)
      simp only [key j.val j.isLt (Or.inl hj0)]
    · rw [if_neg h1] at hH ⊢
      exact hH
abbrev xs40 (σ : xM) : Prop := ∀ t, t < 4 → (σ 14 t).toNatClampNeg ≤ 40
section XSH
variable {p : Program} {l : Launch} {e : Env} {R : Room} {s : State} {m : MethodId} {args : Array Value} {below : List Frame} {meth : Method} {c : Code} {H : Heap} {locs : List Loc} {cells slots : Nat} {Q : State → Prop}
variable {cc : ByteArray} {nL : Nat} {E : xE} {σ : xM} {pc : Nat} {ls : Array Slot} {rest : List Value}
theorem xV_s (hW : xW E σ H) (j : Nat) (hj : j < 4) (hnz : ¬ σ 13 j = 0) (k : Nat) (hk : xsk (σ 13 j) = k) : va_P (xD E) xCl [(xq E j, .inl (xak E k, (σ 14 j).toNatClampNeg, .inl (fun i => σ 15 (40 * j + i))))] H := by
  intro i q hq
  have h0 : i < 1 := (List.getElem?_eq_some_iff.mp hq).1
  rw [show i = 0 by omega] at hq
  cases hq
  rw [← hk]
  exact (hW.2.1 j hj hnz).1
theorem x_fc (F : xFx p m c cc nL s args RX0 E) : s.vm.findClass "[B" = some (xak E 1) ∧ s.vm.findClass "[S" = some (xak E 2) ∧ s.vm.findClass "[I" = some (xak E 0) := ⟨(F.2.1.1.2 1 _ rfl).2, (F.2.1.1.2 2 _ rfl).2, (F.2.1.1.2 0 _ rfl).2⟩
theorem x_rcv (hW : xW E σ H) (j : Nat) (hj : j < 4) (hnz : ¬ σ 13 j = 0) (k : Nat) (hk : xsk (σ 13 j) = k) {nm : String} (hnm : s.vm.findClass nm = some (xak E k)) : ∃ cell : Cell, H[xq E j]? = some cell ∧ cell.vm.isStatics = false ∧ s.vm.findClass nm = some cell.cls :=
  ⟨_, (xV_s hW j hj hnz k hk) 0 _ rfl, rfl, hnm⟩
theorem xsk_lt (x : Int32) : xsk x = 1 ∨ xsk x = 2 ∨ xsk x = 0 := by
  unfold xsk
  split
  · exact Or.inl rfl
  · split
    · exact Or.inr (Or.inl rfl)
    · exact Or.inr (Or.inr rfl)
theorem x_instB {index : Nat} (F : xFx p m c cc nL s args RX0 E) (hW : xW E σ H) (j : Nat) (hj : j < 4) (hnz : ¬ σ 13 j = 0) (hlink : (Cond.classLink RX0 index "[B").before args s = true) (hdg : decode cc pc = .ok (.instanceof index, 3))
    (k1 : xsk (σ 13 j) = 1 → W p l e R s m args below meth c H locs cells slots Q (F0 m (pc + 3) ls (.int 1 :: rest))) (k0 : ¬ xsk (σ 13 j) = 1 → W p l e R s m args below meth c H locs cells slots Q (F0 m (pc + 3) ls (.int 0 :: rest))) : W p l e R s m args below meth c H locs cells slots Q (F0 m pc ls (.ref (xq E j) :: rest)) := by
  rcases xsk_lt (σ 13 j) with hk | hk | hk
  · exact va_instE F.1.1 F.1.2.1 F.1.2.2.2.1 hlink (x_rcv hW j hj hnz 1 hk (x_fc F).1) hdg (k1 hk)
  · exact va_instNo F.1.1 F.1.2.1 F.1.2.2.2.1 hlink F.2.1.2.2.2.2.1.1 (x_rcv hW j hj hnz 2 hk (x_fc F).2.1) hdg (k0 (by rw [hk]; decide))
  · exact va_instNo F.1.1 F.1.2.1 F.1.2.2.2.1 hlink F.2.1.2.2.2.2.1.2.1 (x_rcv hW j hj hnz 0 hk (x_fc F).2.2) hdg (k0 (by rw [hk]; decide))
theorem x_instS {index : Nat} (F : xFx p m c cc nL s args RX0 E) (hW : xW E σ H) (j : Nat) (hj : j < 4) (hnz : ¬ σ 13 j = 0) (h1 : ¬ xsk (σ 13 j) = 1) (hlink : (Cond.classLink RX0 index "[S").before args s = true) (hdg : decode cc pc = .ok (.instanceof index, 3))
    (k1 : xsk (σ 13 j) = 2 → W p l e R s m args below meth c H locs cells slots Q (F0 m (pc + 3) ls (.int 1 :: rest))) (k0 : ¬ xsk (σ 13 j) = 2 → W p l e R s m args below meth c H locs cells slots Q (F0 m (pc + 3) ls (.int 0 :: rest))) : W p l e R s m args below meth c H locs cells slots Q (F0 m pc ls (.ref (xq E j) :: rest)) := by
  rcases xsk_lt (σ 13 j) with hk | hk | hk
  · exact absurd hk h1
  · exact va_instE F.1.1 F.1.2.1 F.1.2.2.2.1 hlink (x_rcv hW j hj hnz 2 hk (x_fc F).2.1) hdg (k1 hk)
  · exact va_instNo F.1.1 F.1.2.1 F.1.2.2.2.1 hlink F.2.1.2.2.2.2.1.2.2 (x_rcv hW j hj hnz 0 hk (x_fc F).2.2) hdg (k0 (by rw [hk]; decide))
theorem x_k0 {x : Int32} (h1 : ¬ xsk x = 1) (h2 : ¬ xsk x = 2) : xsk x = 0 := by
  rcases xsk_lt x with h | h | h
  · exact absurd h h1
  · exact absurd h h2
  · exact h
/-- a place of a sheet is written -/
theorem xW.shSet {H1 : Heap} (hW : xW E σ H) (j : Nat) (hj : j < 4) (hnz : ¬ σ 13 j = 0) (hs : xs40 σ) {i0 : Nat} (hi : i0 < (σ 14 j).toNatClampNeg) {x : Int32}
    (h1 : H1[xq E j]? = some (arrV (xak E (xsk (σ 13 j))) (σ 14 j).toNatClampNeg (updV (fun i => .int (σ 15 (40 * j + i))) i0 (.int x)))) (oq : ∀ q, q ≠ xq E j → H1[q]? = H[q]?) : xW E (xup σ 15 (40 * j + i0) x) H1 := by
  have e13 : ∀ b, xup σ 15 (40 * j + i0) x 13 b = σ 13 b := fun b => by unfold xup; rw [if_neg (fun q => by omega)]
  have e14 : ∀ b, xup σ 15 (40 * j + i0) x 14 b = σ 14 b := fun b => by unfold xup; rw [if_neg (fun q => by omega)]
  have hjz := (hW.2.1 j hj hnz).2
  refine ⟨fun k hk => ?_, fun t ht h => ?_, fun a b ha hb h1 h2 => ?_⟩
  · have h2 := xent_up (x := x) (v := 15) (i := 40 * j + i0) hk (by decide) (by have : xown 15 (40 * j + i0) = 999 := rfl; omega) (hW.1 k hk)
    exact h2.kept (oq (xa E k) (fun q => by unfold xa at q; omega))
  · rw [e13] at h
    have h2 := hW.2.1 t ht h
    unfold xSh at h2 ⊢
    simp only [e13, e14]
    refine ⟨?_, h2.2⟩
    by_cases htj : t = j
    · subst htj
      rw [h1, vp_cell_i]
      congr 1
      unfold arrV
      congr 2
      funext i
      unfold updV xup
      by_cases e : i.val = i0
      · simp [e]
      · simp [e]
    · rw [oq (xq E t) (fun q => htj (hW.2.2 t j ht hj h hnz q)), h2.1, vp_cell_i, vp_cell_i]
      congr 1
      unfold arrV
      congr 2
      funext i
      have hb := hs t ht
      have hbj := hs j hj
      have hil := i.isLt
      unfold xup
      dsimp only
      rw [if_neg (fun q => by omega)]
  · rw [e13] at h1 h2
    exact hW.2.2 a b ha hb h1 h2
theorem xA_xq (hW : xW E σ H) (j : Nat) (hj : j < 4) (hnz : ¬ σ 13 j = 0) : xA E (xq E j) := by
  have := (hW.2.1 j hj hnz).2
  unfold xA
  omega
theorem x_riast (F : xFx p m c cc nL s args RX0 E) (hW : xW E σ H) (hS : va_S (xA E) s.heap H locs) (j : Nat) (hj : j < 4) (hnz : ¬ σ 13 j = 0) (hs : xs40 σ) (hk : xsk (σ 13 j) = 0) {i x : Int32} (hin : vp_in i (σ 14 j).toNatClampNeg) (hdg : decode cc pc = .ok (.iastore, 1))
    (kk : ∀ (H1 : Heap) (locs1 : List Loc), xW E (xup σ 15 (40 * j + i.toNatClampNeg) x) H1 → va_S (xA E) s.heap H1 locs1 → W p l e R s m args below meth c H1 locs1 cells slots Q (F0 m (pc + 1) ls rest)) : W p l e R s m args below meth c H locs cells slots Q (F0 m pc ls (.int x :: .int i :: .ref (xq E j) :: rest)) := by
  have hlt : i.toNatClampNeg < (σ 14 j).toNatClampNeg := Nat.not_le.mp fun q => hin (Or.inr q)
  refine W.iast F.1.1 F.1.2.1 ((xV_s hW j hj hnz 0 hk) 0 _ rfl) ((F.2.1.1.2 0 _ rfl).1 _ (fun i => .int (σ 15 (40 * j + i)))) (fun q => by cases q) (by show ¬ (i < 0 ∨ (arrV _ _ _).slots.size ≤ _); rw [arrV_size]; exact hin) rfl rfl hdg fun H1 e z oq => ?_
  refine kk H1 _ (hW.shSet j hj hnz hs hlt ?_ oq) (hS.put z oq (xA_xq hW j hj hnz))
  rw [e, vp_cell_i, arrV_store, hk]
theorem x_rbast (F : xFx p m c cc nL s args RX0 E) (hW : xW E σ H) (hS : va_S (xA E) s.heap H locs) (j : Nat) (hj : j < 4) (hnz : ¬ σ 13 j = 0) (hs : xs40 σ) (hk : xsk (σ 13 j) = 1) {i x : Int32} (hin : vp_in i (σ 14 j).toNatClampNeg) (hdg : decode cc pc = .ok (.bastore, 1))
    (kk : ∀ (H1 : Heap) (locs1 : List Loc), xW E (xup σ 15 (40 * j + i.toNatClampNeg) x.toInt8.toInt32) H1 → va_S (xA E) s.heap H1 locs1 → W p l e R s m args below meth c H1 locs1 cells slots Q (F0 m (pc + 1) ls rest)) : W p l e R s m args below meth c H locs cells slots Q (F0 m pc ls (.int x :: .int i :: .ref (xq E j) :: rest)) := by
  have hlt : i.toNatClampNeg < (σ 14 j).toNatClampNeg := Nat.not_le.mp fun q => hin (Or.inr q)
  refine W.bast F.1.1 F.1.2.1 ((xV_s hW j hj hnz 1 hk) 0 _ rfl) ((F.2.1.1.2 1 _ rfl).1 _ (fun i => .int (σ 15 (40 * j + i)))) (fun q => by cases q) (by show ¬ (i < 0 ∨ (arrV _ _ _).slots.size ≤ _); rw [arrV_size]; exact hin) rfl rfl hdg fun H1 e z oq => ?_
  refine kk H1 _ (hW.shSet j hj hnz hs hlt ?_ oq) (hS.put z oq (xA_xq hW j hj hnz))
  rw [e, vp_cell_i, narrow_byte, arrV_store, hk]
theorem x_rsast (F : xFx p m c cc nL s args RX0 E) (hW : xW E σ H) (hS : va_S (xA E) s.heap H locs) (j : Nat) (hj : j < 4) (hnz : ¬ σ 13 j = 0) (hs : xs40 σ) (hk : xsk (σ 13 j) = 2) {i x : Int32} (hin : vp_in i (σ 14 j).toNatClampNeg) (hdg : decode cc pc = .ok (.sastore, 1))
    (kk : ∀ (H1 : Heap) (locs1 : List Loc), xW E (xup σ 15 (40 * j + i.toNatClampNeg) x.toInt16.toInt32) H1 → va_S (xA E) s.heap H1 locs1 → W p l e R s m args below meth c H1 locs1 cells slots Q (F0 m (pc + 1) ls rest)) : W p l e R s m args below meth c H locs cells slots Q (F0 m pc ls (.int x :: .int i :: .ref (xq E j) :: rest)) := by
  have hlt : i.toNatClampNeg < (σ 14 j).toNatClampNeg := Nat.not_le.mp fun q => hin (Or.inr q)
  refine W.sast F.1.1 F.1.2.1 ((xV_s hW j hj hnz 2 hk) 0 _ rfl) ((F.2.1.1.2 2 _ rfl).1 _ (fun i => .int (σ 15 (40 * j + i)))) (fun q => by cases q) (by show ¬ (i < 0 ∨ (arrV _ _ _).slots.size ≤ _); rw [arrV_size]; exact hin) rfl rfl hdg fun H1 e z oq => ?_
  refine kk H1 _ (hW.shSet j hj hnz hs hlt ?_ oq) (hS.put z oq (xA_xq hW j hj hnz))
  rw [e, vp_cell_i, narrow_short, arrV_store, hk]
/-- a stretch of a sheet's places becomes a stretch of another's -/
def xcs (σ : xM) (j1 a j2 b n : Nat) : xM := fun v i => if v = 15 ∧ 40 * j2 + b ≤ i ∧ i < 40 * j2 + b + n then σ 15 (40 * j1 + a + (i - (40 * j2 + b))) else σ v i
theorem xW.shRow {H1 : Heap} {σ' : xM} (hW : xW E σ H) (j : Nat) (hj : j < 4) (hnz : ¬ σ 13 j = 0) (hs : xs40 σ) (hoff : ∀ v i, (v ≠ 15 ∨ i < 40 * j ∨ 40 * j + 40 ≤ i) → σ' v i = σ v i)
    (h1 : H1[xq E j]? = some (arrV (xak E (xsk (σ 13 j))) (σ 14 j).toNatClampNeg (fun i => .int (σ' 15 (40 * j + i))))) (oq : ∀ q, q ≠ xq E j → H1[q]? = H[q]?) : xW E σ' H1 := by
  have e13 : ∀ b, σ' 13 b = σ 13 b := fun b => hoff 13 b (Or.inl (by decide))
  have e14 : ∀ b, σ' 14 b = σ 14 b := fun b => hoff 14 b (Or.inl (by decide))
  have hjz := (hW.2.1 j hj hnz).2
  refine ⟨fun k hk => ?_, fun t ht h => ?_, fun a b ha hb h1 h2 => ?_⟩
  · have h2 := xent_eq (σ' := σ') hk (fun v i hv => by
      by_cases h15 : v = 15
      · subst h15
        have : xown 15 i = 999 := rfl
        omega
      · exact hoff v i (Or.inl h15)) e13 (hW.1 k hk)
    exact h2.kept (oq (xa E k) (fun q => by unfold xa at q; omega))
  · rw [e13] at h
    have h2 := hW.2.1 t ht h
    unfold xSh at h2 ⊢
    simp only [e13, e14]
    refine ⟨?_, h2.2⟩
    by_cases htj : t = j
    · subst htj
      rw [h1, vp_cell_i]
    · rw [oq (xq E t) (fun q => htj (hW.2.2 t j ht hj h hnz q)), h2.1, vp_cell_i, vp_cell_i]
      congr 1
      unfold arrV
      congr 2
      funext i
      have hb := hs t ht
      have hil := i.isLt
      dsimp only
      rw [hoff 15 _ (by omega)]
  · rw [e13] at h1 h2
    exact hW.2.2 a b ha hb h1 h2
theorem x_rcopy {index : Nat} (F : xFx p m c cc nL s args RX0 E) (hsz : ls.size = nL) (hlink : (Cond.methodLink RX0 index arraycopyName).before args s = true) (hW : xW E σ H) (hS : va_S (xA E) s.heap H locs) (j1 j2 : Nat) (hj1 : j1 < 4) (hn1 : ¬ σ 13 j1 = 0) (hj2 : j2 < 4) (hn2 : ¬ σ 13 j2 = 0) (hs : xs40 σ) (k : Nat) (ty : FieldType) (hk1 : xsk (σ 13 j1) = k) (hk2 : xsk (σ 13 j2) = k) (ht : (xtys E)[k]? = some (xak E k, ty)) (hprim : refKind ty = false)
    {sp dp n : Int32} (h1 : ¬ sp < 0) (h2 : ¬ dp < 0) (h3 : ¬ n < 0) (h4 : sp.toNatClampNeg + n.toNatClampNeg ≤ (σ 14 j1).toNatClampNeg) (h5 : dp.toNatClampNeg + n.toNatClampNeg ≤ (σ 14 j2).toNatClampNeg) (hfit : ∀ i, i < n.toNatClampNeg → fits ty (.int (σ 15 (40 * j1 + (sp.toNatClampNeg + i)))) = true)
    (hframes : 1 ≤ R.frames) (hlocals : (rest.map fun v => v.category).sum + (nativeFrameWords "java/lang/System" "arraycopy" 5 + 11) ≤ R.locals) (hdg : decode cc pc = .ok (.invokestatic index, 3))
    (kk : ∀ (H1 : Heap) (locs1 : List Loc), xW E (xcs σ j1 sp.toNatClampNeg j2 dp.toNatClampNeg n.toNatClampNeg) H1 → va_S (xA E) s.heap H1 locs1 → W p l e R s m args below meth c H1 locs1 cells slots Q (F0 m (pc + 3) ls rest)) : W p l e R s m args below meth c H locs cells slots Q (F0 m pc ls (.int n :: .int dp :: .ref (xq E j2) :: .int sp :: .ref (xq E j1) :: rest)) := by
  have nn : ∀ z : Int32, ¬ z < 0 → z.toInt = (z.toNatClampNeg : Int) := by
    intro z hz
    have hz0 : (0 : Int) ≤ z.toInt := by
      have := Int32.not_lt.mp hz
      simpa using Int32.le_iff_toInt_le.mp this
    show z.toInt = ((z.toInt.toNat : Nat) : Int)
    omega
  intro T hT X
  have hml := F.1.2.2.1
  have hts := F.1.2.2.2.2
  have hc0 : H[xq E j1]? = some (vp_cell (xak E k) ((σ 14 j1).toNatClampNeg, .inl (fun i => σ 15 (40 * j1 + i)))) := (xV_s hW j1 hj1 hn1 k hk1) 0 _ rfl
  have hc1 : H[xq E j2]? = some (vp_cell (xak E k) ((σ 14 j2).toNatClampNeg, .inl (fun i => σ 15 (40 * j2 + i)))) := (xV_s hW j2 hj2 hn2 k hk2) 0 _ rfl
  obtain ⟨-, k0, hk0, cm0, hkk0⟩ := (F.2.1.1.2 k _ ht).1 (σ 14 j1).toNatClampNeg (fun i => .int (σ 15 (40 * j1 + i)))
  have hk0 : s.vm.classes[xak E k]? = some k0 := hk0
  have hkk0 : k0.kind = .array cm0 ty := hkk0
  obtain ⟨vm', X', step⟩ := X.arraycopy F.1.1 F.1.2.2.2.1 hlink (hts _ q763) (hts _ q762) (hts _ q118) (src := xq E j1) (dst := xq E j2) (cs := vp_cell (xak E k) ((σ 14 j1).toNatClampNeg, .inl (fun i => σ 15 (40 * j1 + i)))) (cd := vp_cell (xak E k) ((σ 14 j2).toNatClampNeg, .inl (fun i => σ 15 (40 * j2 + i)))) (srcPos := sp) (destPos := dp) (n := n) (by rw [hT]; exact hc0) (by rw [hT]; exact hc1)
    (fun _ h => by cases h) (fun _ h => by cases h) (fun h => by cases h) (fun h => by cases h) hk0 hk0 hkk0 hkk0 (by simp [hprim]) h1 h2 h3
    (by rw [nn sp h1, nn n h3]; show ¬ _ > ((arrV (xak E k) (σ 14 j1).toNatClampNeg _).slots.size : Int); rw [arrV_size]; omega)
    (by rw [nn dp h2, nn n h3]; show ¬ _ > ((arrV (xak E k) (σ 14 j2).toNatClampNeg _).slots.size : Int); rw [arrV_size]; omega)
    (fun vm₁ _ i hi => by
      have e : (vp_cell (xak E k) ((σ 14 j1).toNatClampNeg, .inl (fun i => σ 15 (40 * j1 + i)))).slots.getD (sp.toNatClampNeg + i) .null = .int (σ 15 (40 * j1 + (sp.toNatClampNeg + i))) := by
        show (arrV (xak E k) (σ 14 j1).toNatClampNeg (fun i => .int (σ 15 (40 * j1 + i)))).slots.getD _ _ = _
        rw [Array.getD_eq_getD_getElem?, arrV_read _ _ (by omega)]
        rfl
      refine ⟨?_, ?_⟩
      · rw [e]; exact hfit i hi
      · rw [e]; exact trivial)
    (g := F0 m pc ls (.int n :: .int dp :: .ref (xq E j2) :: .int sp :: .ref (xq E j1) :: rest)) rfl (by rw [hml]; exact hsz) (rest := rest) rfl (by rw [F.1.2.1]; exact hdg) hframes (by show 2 * 0 + _ + _ ≤ _; omega)
  have e1 : copied (vp_cell (xak E k) ((σ 14 j1).toNatClampNeg, .inl (fun i => σ 15 (40 * j1 + i)))) (vp_cell (xak E k) ((σ 14 j2).toNatClampNeg, .inl (fun i => σ 15 (40 * j2 + i)))) sp dp n = vp_cell (xak E k) ((σ 14 j2).toNatClampNeg, .inl (va_cpy (fun i => σ 15 (40 * j1 + i)) (fun i => σ 15 (40 * j2 + i)) sp.toNatClampNeg dp.toNatClampNeg n.toNatClampNeg)) := va_copied (n1 := (σ 14 j2).toNatClampNeg) (fun z => .int z) (xak E k) (xak E k) (fun i => σ 15 (40 * j1 + i)) (fun i => σ 15 (40 * j2 + i)) h4
  rw [e1] at X' step
  have hl : xq E j2 < H.size := (Array.getElem?_eq_some_iff.mp hc1).1
  generalize hcell : vp_cell (xak E k) ((σ 14 j2).toNatClampNeg, .inl (va_cpy (fun i => σ 15 (40 * j1 + i)) (fun i => σ 15 (40 * j2 + i)) sp.toNatClampNeg dp.toNatClampNeg n.toNatClampNeg)) = ncell at X' step
  have oq : ∀ q : Nat, q ≠ xq E j2 → (H.setIfInBounds (xq E j2) ncell)[q]? = H[q]? := fun q hq => by simp [Array.getElem?_setIfInBounds, Ne.symm hq]
  have hheap : ((T.setVm vm').setCell (xq E j2) ncell).heap = H.setIfInBounds (xq E j2) ncell := by rw [← hT]; rfl
  have hb1 := hs j1 hj1
  have hb2 := hs j2 hj2
  have hW1 : xW E (xcs σ j1 sp.toNatClampNeg j2 dp.toNatClampNeg n.toNatClampNeg) (H.setIfInBounds (xq E j2) ncell) := by
    refine hW.shRow j2 hj2 hn2 hs (fun v i hvi => by unfold xcs; rw [if_neg (fun q => by omega)]) ?_ oq
    rw [show (H.setIfInBounds (xq E j2) ncell)[xq E j2]? = some ncell by simp [Array.getElem?_setIfInBounds, hl], ← hcell, vp_cell_i, hk2]
    congr 1
    unfold arrV
    congr 2
    funext i
    have hil := i.isLt
    dsimp only
    unfold va_cpy xcs
    by_cases hc : dp.toNatClampNeg ≤ i.val ∧ i.val < dp.toNatClampNeg + n.toNatClampNeg
    · rw [if_pos hc, if_pos ⟨rfl, by omega, by omega⟩]
      show Value.int (σ 15 (40 * j1 + (sp.toNatClampNeg + (i.val - dp.toNatClampNeg)))) = _
      rw [show 40 * j1 + (sp.toNatClampNeg + (i.val - dp.toNatClampNeg)) = 40 * j1 + sp.toNatClampNeg + (40 * j2 + i.val - (40 * j2 + dp.toNatClampNeg)) by omega]
    · rw [if_neg hc, if_neg (fun q => hc ⟨by have := q.2.1; omega, by have := q.2.2; omega⟩)]
  obtain ⟨t, a1, b1⟩ := kk _ _ hW1 ⟨by simp; exact hS.1, fun q g1 g2 => by
      rw [oq q (fun e => g2 (by rw [e]; exact xA_xq hW j2 hj2 hn2))]
      exact hS.2.1 q g1 g2, fun q hq => by
      rcases List.mem_append.mp hq with h | h
      · exact hS.2.2 q h
      · obtain ⟨z, -, hz⟩ := List.mem_map.mp h
        rw [← hz]
        exact xA_xq hW j2 hj2 hn2⟩ _ hheap X'
  exact ⟨t, step t a1, b1⟩
theorem x_aretN (F : xFx p m c cc nL s args RX0 E) {rt : FieldType} (hr : meth.sig.returnType = some rt) (hrt : (∃ n, rt = .object n) ∨ ∃ t, rt = .array t) (hlocks : meth.locks = false) (hW : xW E σ H) (hS : va_S (xA E) s.heap H locs) (hdg : decode cc pc = .ok (.areturn, 1)) : W p l e R s m args below meth c H locs cells slots (MQ below (xQc E (.returned (some .null)) σ) args s cells slots (xA E)) (F0 m pc ls [.null]) :=
  W.aret F.1.1 F.1.2.1 hr hrt (Or.inl rfl) (fun t ht _ => ⟨rfl, by rw [ht]; exact hW, x_F hS ht⟩) hS.2.2 hdg hlocks
end XSH
