set_option maxRecDepth 100000
/-! the world while it is made: how many cells there are, and what each holds -/
def xB (E : xE) (n : Nat) (f : Nat → va_E) (H : Heap) : Prop := H.size = xz E + n ∧ ∀ k, k < n → va_at (xD E) xCl (xa E k, f k) H
def xud (f : Nat → va_E) (k : Nat) (e : va_E) : Nat → va_E := fun t => if t = k then e else f t
theorem xud_same {f : Nat → va_E} {k : Nat} {e : va_E} : xud f k e k = e := if_pos rfl
theorem xud_ne {f : Nat → va_E} {k t : Nat} {e : va_E} (h : t ≠ k) : xud f k e t = f t := if_neg h
theorem xud_twice {f : Nat → va_E} {k : Nat} {e e2 : va_E} : xud (xud f k e) k e2 = xud f k e2 := by
  funext t
  unfold xud
  by_cases h : t = k
  · rw [if_pos h, if_pos h]
  · rw [if_neg h, if_neg h, if_neg h]
theorem xB.set {E : xE} {n : Nat} {f : Nat → va_E} {H H1 : Heap} {k : Nat} {e : va_E} (h : xB E n f H) (hz : H1.size = H.size) (oq : ∀ q, q ≠ xa E k → H1[q]? = H[q]?) (hn : va_at (xD E) xCl (xa E k, e) H1) : xB E n (xud f k e) H1 := by
  refine ⟨hz.trans h.1, fun t ht => ?_⟩
  by_cases hk : t = k
  · subst hk
    rw [xud_same]
    exact hn
  · rw [xud_ne hk]
    exact (h.2 t ht).kept (oq _ (fun q => hk (by unfold xa at q; omega)))
theorem xB.push {E : xE} {n : Nat} {f : Nat → va_E} {H H1 : Heap} {e : va_E} (h : xB E n f H) (hz : H1.size = H.size + 1) (oq : ∀ q, q < H.size → H1[q]? = H[q]?) (hn : va_at (xD E) xCl (xa E n, e) H1) : xB E (n + 1) (xud f n e) H1 := by
  refine ⟨by rw [hz, h.1]; omega, fun t ht => ?_⟩
  by_cases hk : t = n
  · subst hk
    rw [xud_same]
    exact hn
  · rw [xud_ne hk]
    have h2 := h.2 t (by omega)
    exact h2.kept (oq _ h2.lt)
theorem xB.P {E : xE} {n : Nat} {f : Nat → va_E} {H : Heap} (h : xB E n f H) (k : Nat) (hk : k < n) {e : va_E} (he : f k = e) : va_P (xD E) xCl [(xa E k, e)] H := by
  intro j q hq
  have h0 : j < 1 := (List.getElem?_eq_some_iff.mp hq).1
  rw [show j = 0 by omega] at hq
  cases hq
  rw [← he]
  exact h.2 k hk
theorem xB.end {E : xE} {n : Nat} {f : Nat → va_E} {H : Heap} (h : xB E n f H) : H.size = xa E n := h.1
def xKc (E : xE) (U : State) : Prop := xK E U ∧ va_AO RX5 U ∧ va_AO "java/lang/String" U
def xGc (E : xE) (U : State) (H : Heap) : Prop := xG E U H ∧ va_Zq "java/lang/Throwable" "UNASSIGNED_STACK" "[Ljava/lang/StackTraceElement;" (xA E) U H ∧ va_Zq "java/lang/Throwable" "SUPPRESSED_SENTINEL" "Ljava/util/List;" (xA E) U H
theorem xKc.warm {E : xE} {s U : State} (hW : s.WarmedH U.vm) (h : xKc E s) : xKc E U := ⟨h.1.warm hW, va_AO.moved hW.alike h.2.1, va_AO.moved hW.alike h.2.2⟩
theorem xGc.warm {E : xE} {s U : State} {H : Heap} (hW : s.WarmedH U.vm) (h : xGc E s H) : xGc E U H := ⟨h.1.warm hW, va_Zq.moved hW.alike h.2.1, va_Zq.moved hW.alike h.2.2⟩
theorem xGc.kept {E : xE} {s : State} {H H1 : Heap} {locs : List Loc} (h : xGc E s H) (hS : va_S (xA E) H H1 locs) : xGc E s H1 := ⟨h.1.kept hS, h.2.1.kept hS.2.1, h.2.2.kept hS.2.1⟩
theorem xKc.calling {E : xE} {U : State} {g : JFrame} {mk : MethodId} {a : Array Value} (h : xKc E U) : xKc E (U.calling g mk a) := ⟨h.1.calling, va_AO.moved (Vm.Alike.refl U.vm) h.2.1, va_AO.moved (Vm.Alike.refl U.vm) h.2.2⟩
theorem xGc.calling {E : xE} {U : State} {g : JFrame} {mk : MethodId} {a : Array Value} {H : Heap} (h : xGc E U H) : xGc E (U.calling g mk a) H := ⟨h.1.calling, va_Zq.moved (Vm.Alike.refl U.vm) h.2.1, va_Zq.moved (Vm.Alike.refl U.vm) h.2.2⟩
def xPk (E : xE) (n : Nat) (f : Nat → va_E) (av : List Value) : Array Value → State → Prop := fun v U => v = av.toArray ∧ xKc E U ∧ xGc E U U.heap ∧ xB E n f U.heap
def xQk (E : xE) (oc : Outcome) (n : Nat) (f : Nat → va_E) : Array Value → State → Outcome → State → Prop := fun _ st o t => o = oc ∧ xB E n f t.heap ∧ va_F (xA E) st t
theorem xPk.blind {E : xE} {n : Nat} {f : Nat → va_E} {av : List Value} : FrameBlind (xPk E n f av) := fun _ _ _ _ h => ⟨h.1, h.2.1.calling, h.2.2.1.calling, h.2.2.2⟩
abbrev xFk (p : Program) (m : MethodId) (c : Code) (cc : ByteArray) (nL : Nat) (s : State) (args : Array Value) (own : String) (E : xE) : Prop :=
  CallFix p m c cc nL s args lw_all own ∧ xKc E s ∧ xGc E s s.heap
section XGR
variable {p : Program} {l : Launch} {e : Env} {R : Room} {s : State} {m : MethodId} {args : Array Value} {below : List Frame} {meth : Method} {c : Code} {H : Heap} {locs : List Loc} {cells slots : Nat} {Q : State → Prop}
variable {cc : ByteArray} {nL : Nat} {own : String} {E : xE} {n : Nat} {f : Nat → va_E} {pc : Nat} {ls : Array Slot} {rest : List Value}
theorem xFk.pre (F : xFk p m c cc nL s args own E) (hB : xB E n f H) (hS : va_S (xA E) s.heap H locs) (av : List Value) : ∀ U : State, U.heap = H → s.WarmedH U.vm → xPk E n f av av.toArray U := fun U hU hw => ⟨rfl, F.2.1.warm hw, by rw [hU]; exact (F.2.2.kept hS).warm hw, by rw [hU]; exact hB⟩
/-- an object is made -/
theorem x_knew {C : String} {T : u_T} {N ci index : Nat} (F : xFk p m c cc nL s args own E) (hB : xB E n f H) (hS : va_S (xA E) s.heap H locs) (hin : ∀ w ∈ u_ws C T N, w ∈ lw_all) (ty : Nat → FieldType) (hty : ∀ k, k < N → parseFieldDescriptor (T k).2.2.1 = some (ty k)) (hcl : (Cond.classLink own index C).before args s = true) (hinst : (Cond.instantiable C N).before args s = true) (hini : (Cond.initialized C).before args s = true) (hc : xCl[ci]? = some (C, T, N)) {fs : List Value} (hfs : ∀ j, j < N → defaultValue (ty j) = vp_V fs j)
    (hcells : cells + 1 ≤ R.cells) (hslots : slots + N ≤ R.slots) (hdg : decode cc pc = .ok (.new index, 3))
    (kk : ∀ H1 : Heap, xB E (n + 1) (xud f n (.inr (ci, fs))) H1 → va_S (xA E) s.heap H1 locs → W p l e R s m args below meth c H1 locs (cells + 1) (slots + N) Q (F0 m (pc + 3) ls (.ref (xa E n) :: rest))) : W p l e R s m args below meth c H locs cells slots Q (F0 m pc ls rest) := by
  have hKn := F.2.1.1.1.1 ci _ hc
  refine W.newcK F.1.1 F.1.2.1 F.1.2.2.2.1 hcl hinst hini rfl hdg hcells hslots hKn.2.1 hB.1 fun H1 kC hkC e1 z1 o1 => ?_
  refine kk H1 (hB.push (by rw [z1, hB.1]) (by rw [hB.1]; exact o1) ⟨_, hc, (u_born ty F.1.2.2.2.2 hin hKn hkC e1 hty).to hfs⟩) ⟨Nat.le_trans hS.1 (by rw [hB.1, z1]; omega), fun x h1 h2 => (o1 x (by have := hS.1; have := hB.1; omega)).trans (hS.2.1 x h1 h2), hS.2.2⟩
/-- an array of ints is made -/
theorem x_knewa {atype : ArrayType} (F : xFk p m c cc nL s args own E) (hB : xB E n f H) (hS : va_S (xA E) s.heap H locs) (k N : Nat) (ty : FieldType) (harr : (Cond.arrayClass ty).before args s = true) (hty : newarray.typeOf atype = ty) (hfc : s.vm.findClass ("[" ++ ty.toString) = some (xak E k)) (hdv : defaultValue ty = .int 0)
    {i : Int32} (hn : ¬ i < 0) (hN : i.toNatClampNeg = N) (hbytes : N * componentBytes ty ≤ 536870912) (hcells : cells + 1 ≤ R.cells) (hslots : slots + N ≤ R.slots) (hdg : decode cc pc = .ok (.newarray atype, 2))
    (kk : ∀ H1 : Heap, xB E (n + 1) (xud f n (.inl (xak E k, N, .inl (fun _ => 0)))) H1 → va_S (xA E) s.heap H1 locs → W p l e R s m args below meth c H1 locs (cells + 1) (slots + N) Q (F0 m (pc + 2) ls (.ref (xa E n) :: rest))) : W p l e R s m args below meth c H locs cells slots Q (F0 m pc ls (.int i :: rest)) := by
  subst hty
  refine va_newaK F.1.1 F.1.2.1 harr rfl hdg rfl hn hN hbytes hcells hslots hB.1 fun H1 cA e1 z1 o1 hAr hNm => ?_
  have hcA : cA = xak E k := Option.some.inj (hNm.symm.trans hfc)
  subst hcA
  rw [hdv] at e1
  exact kk H1 (hB.push (by rw [z1, hB.1]) (by rw [hB.1]; exact o1) e1) ⟨Nat.le_trans hS.1 (by rw [hB.1, z1]; omega), fun x h1 h2 => (o1 x (by have := hS.1; have := hB.1; omega)).trans (hS.2.1 x h1 h2), hS.2.2⟩
/-- an array of references is made -/
theorem x_knewq {C : String} {index : Nat} (F : xFk p m c cc nL s args own E) (hB : xB E n f H) (hS : va_S (xA E) s.heap H locs) (k N : Nat) (hclink : (Cond.classLink own index C).before args s = true) (hover : va_AO C s) (hfc : s.vm.findClass ("[" ++ (FieldType.object C).toString) = some (xak E k))
    {i : Int32} (hn : ¬ i < 0) (hN : i.toNatClampNeg = N) (hbytes : N * 4 ≤ 536870912) (hcells : cells + 1 ≤ R.cells) (hslots : slots + N ≤ R.slots) (hdg : decode cc pc = .ok (.anewarray index, 3))
    (kk : ∀ H1 : Heap, xB E (n + 1) (xud f n (.inl (xak E k, N, .inr (.inr (.inr (.inr (fun _ => none))))))) H1 → va_S (xA E) s.heap H1 locs → W p l e R s m args below meth c H1 locs (cells + 1) (slots + N) Q (F0 m (pc + 3) ls (.ref (xa E n) :: rest))) : W p l e R s m args below meth c H locs cells slots Q (F0 m pc ls (.int i :: rest)) := by
  subst hN
  refine W.anew F.1.1 F.1.2.1 F.1.2.2.2.1 hclink (va_AO.use hover) rfl hdg rfl hn hbytes hcells hslots fun cA kA comp f1 f2 f3 f4 => ?_
  have hcA : cA = xak E k := Option.some.inj (f1.symm.trans hfc)
  subst hcA
  generalize hH1 : H.push ({ cls := xak E k, slots := Array.replicate i.toNatClampNeg .null, vm := .none } : Cell) = H1
  have z1 : H1.size = H.size + 1 := by rw [← hH1, Array.size_push]
  have e1 : H1[H.size]? = some (arrV (xak E k) i.toNatClampNeg (fun _ => .null)) := by rw [← hH1, Array.getElem?_push_size, ← arrV_new]
  have o1 : ∀ q : Nat, q < H.size → H1[q]? = H[q]? := fun q hq => by rw [← hH1, Array.getElem?_push, if_neg (Nat.ne_of_lt hq)]
  have h9 := kk H1 (hB.push z1 o1 (by rw [hB.1] at e1; exact e1)) ⟨Nat.le_trans hS.1 (by omega), fun x h1 h2 => (o1 x (Nat.lt_of_lt_of_le h1 hS.1)).trans (hS.2.1 x h1 h2), hS.2.2⟩
  have e9 : xa E n = H.size := hB.1.symm
  rw [e9] at h9
  exact h9
end XGR
