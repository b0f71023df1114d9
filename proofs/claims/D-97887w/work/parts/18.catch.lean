set_option maxRecDepth 100000
/-! a handler found, its class resolved there if it wasn't yet -/
def xFinds (e : Env) (s : State) (f : JFrame) (a : Addr) (pc : Nat) (vm' : Vm) : Prop :=
  ∀ (Q : Handler → Pre) (E : CtlPost) (d : Bool) (acts : List Action), wp (findHandler f a) Q E e d acts s ↔ Q (.found pc) d acts (s.setVm vm')
theorem x_findsCold {e : Env} {s : State} {f : JFrame} {a : Addr} {meth : Method} {code : Code} (hm : s.vm.method? f.method = some meth) (hc : meth.code = some code) {x : ExceptionTableEntry} (htb : code.exceptionTable.toList = [x]) (hx : covers x f.pc = true) (h0 : x.catchType ≠ 0) {c : ClassId} {vm' : Vm}
    (hg : (Jvm.resolveClass f.method.cls x.catchType).Gives e.toSetting s.vm (.ok c) vm') (hsz : vm'.classes.size ≤ s.vm.classes.size) {cell : Cell} (hcell : s.heap[a]? = some cell) (hobj : ∀ k, cell.vm ≠ .statics k)
    (hk : ∃ k, vm'.classes[cell.cls]? = some k) (hcl : ∃ k, vm'.classes[c]? = some k) (hfit : vm'.assignable cell.cls c = true) : xFinds e s f a x.handlerPc vm' := by
  intro Q E d acts
  rw [W.findHandler_eq hm hc, htb]
  obtain ⟨ha, ht⟩ := hg.op (op := VmOp.resolveClass f.method.cls x.catchType) rfl
  simp only [covers] at hx
  obtain ⟨k1, hk1⟩ := hk
  obtain ⟨k2, hk2⟩ := hcl
  simp [findHandler.go, hx, h0, ha, ht, hsz, hcell, hobj, hk1, hk2, hfit]
  exact Iff.rfl
theorem x_stepCatch {e : Env} {s : State} {a : Addr} {f : JFrame} {r : List Frame} {pc : Nat} {vm' : Vm} (hfind : xFinds e s f a pc vm') :
    (stepThrowing e s a (.java f :: r)).Is ((s.setVm vm').setFrames (.java { f with pc := pc, stack := [.ref a] } :: r)) [] := by
  simp only [stepThrowing, searchFrame, vmDo]
  generalize hr : Sem.go _ e false [] s = res
  obtain ⟨as, rfl, ha⟩ := Sem.eq_ok_of hr (a := Handler.found pc) (s' := s.setVm vm') (acts' := []) (by simp [hfind _ _ _ _])
  exact ⟨rfl, ha⟩
theorem x_caught {tb : Tables} {e : Env} {s target : State} {g : JFrame} {c : Code} {below : List Frame} {a : Addr} (h : At s g.method c below) {pc : Nat} {vm' : Vm} (hfind : xFinds e ((s.setTop g).pushFrame (.throwing a)) g a pc vm')
    (hrest : Steps tb e below ((s.setVm vm').setTop { g with pc := pc, stack := [.ref a] }) target) : Steps tb e below ((s.setTop g).pushFrame (.throwing a)) target := by
  obtain ⟨hgo, hw⟩ := h.throwing a
  refine Steps.head hgo hw ?_
  rw [stepThread_throwing (frames_entered h.top _), (x_stepCatch (s := (s.setTop g).pushFrame (.throwing a)) hfind).1]
  obtain ⟨g₀, hg⟩ := Option.isSome_iff_exists.mp h.top
  obtain ⟨r, hr⟩ := State.topJava?_eq_some.mp hg
  have hr' : (s.setVm vm').frames = .java g₀ :: r := hr
  rw [State.setTop_of_frames _ hr'] at hrest
  have e1 : (((s.setTop g).pushFrame (.throwing a)).setVm vm').setFrames (.java { g with pc := pc, stack := [.ref a] } :: s.frames.tail) = (s.setVm vm').setFrames (.java { g with pc := pc, stack := [.ref a] } :: r) := by
    rw [State.pushFrame, State.setTop_of_frames _ hr, State.setFrames_setFrames, hr]
    show ((s.setFrames _).setFrames _).setVm vm' = _
    rw [State.setFrames_setFrames]
    rfl
  rw [e1]
  exact hrest
section XCA
variable {p : Program} {l : Launch} {e : Env} {R : Room} {s : State} {m : MethodId} {args : Array Value} {below : List Frame} {meth : Method} {c : Code} {H : Heap} {locs : List Loc} {cells slots : Nat} {Q : State → Prop}
variable {E : xE} {pc : Nat} {ls : Array Slot} {rest st0 : List Value} {σ' : xM} {av : Array Value}
/-- what came of a call whose outcome is known -/
abbrev xRun (p : Program) (l : Launch) (e : Env) (R : Room) (s : State) (m : MethodId) (args : Array Value) (below : List Frame) (meth : Method) (c : Code) (H : Heap) (locs : List Loc) (cells slots : Nat) (g : JFrame) (rest : List Value) (Qa : State → Outcome → State → Prop) (free : Addr → Prop) : Prop :=
  ∀ T : State, T.heap = H → Stand p l e R s m args below meth c T locs cells slots → ∃ (o : Outcome) (st₀ t T' : State) (L : List Loc), st₀.heap = H ∧ Stand p l e R s m args below meth c T' (locs ++ L) cells slots ∧ (∀ q ∈ L, free q.base) ∧ T'.heap = t.heap ∧ Qa st₀ o t ∧
      (∀ v, o = .returned v → ∀ tg, Steps p.tables e below (T'.setTop { g with pc := g.pc + 3, stack := v.toList ++ rest }) tg → Steps p.tables e below (T.setTop g) tg) ∧
      (∀ a, o = .threw a → ∀ tg, Steps p.tables e below ((T'.setTop { g with stack := rest }).pushFrame (.throwing a)) tg → Steps p.tables e below (T.setTop g) tg)
theorem x_goS {T T' t st₀ : State} {L : List Loc} {oc o : Outcome} (hS : va_S (xA E) s.heap H locs) (h0 : st₀.heap = H) (e1 : T'.heap = t.heap) (hL : ∀ q ∈ L, xA E q.base) (hq : xQc E oc σ' av st₀ o t) : o = oc ∧ xW E σ' T'.heap ∧ va_S (xA E) s.heap T'.heap (locs ++ L) := by
  obtain ⟨hv, hw, hz1, hk⟩ := hq
  rw [h0] at hz1 hk
  exact ⟨hv, by rw [e1]; exact hw, Nat.le_trans hS.1 (by rw [e1]; exact hz1), fun q h1 h2 => by rw [e1, hk q (Nat.lt_of_lt_of_le h1 hS.1) h2]; exact hS.2.1 q h1 h2, fun q hq => by
      rcases List.mem_append.mp hq with h | h
      · exact hS.2.2 q h
      · exact hL q h⟩
theorem x_backT {v : Option Value} (hr : xRun p l e R s m args below meth c H locs cells slots (F0 m pc ls st0) rest (xQc E (.returned v) σ' av) (xA E)) (hS : va_S (xA E) s.heap H locs)
    (kk : ∀ (H1 : Heap) (locs1 : List Loc), xW E σ' H1 → va_S (xA E) s.heap H1 locs1 → W p l e R s m args below meth c H1 locs1 cells slots Q (F0 m (pc + 3) ls (v.toList ++ rest))) : W p l e R s m args below meth c H locs cells slots Q (F0 m pc ls st0) := by
  intro T hT X
  obtain ⟨o, st₀, t, T', L, h0, X', hL, e1, hq, k1, -⟩ := hr T hT X
  obtain ⟨ho, hW1, hS1⟩ := x_goS (T := T) hS h0 e1 hL hq
  obtain ⟨t2, a1, b1⟩ := kk T'.heap _ hW1 hS1 T' rfl X'
  exact ⟨t2, k1 v ho t2 a1, b1⟩
theorem x_backTi {r : Int32} (hr : xRun p l e R s m args below meth c H locs cells slots (F0 m pc ls st0) rest (xQc E (.returned (some (.int r))) σ' av) (xA E)) (hS : va_S (xA E) s.heap H locs)
    (kk : ∀ (H1 : Heap) (locs1 : List Loc), xW E σ' H1 → va_S (xA E) s.heap H1 locs1 → W p l e R s m args below meth c H1 locs1 cells slots Q (F0 m (pc + 3) ls (.int r :: rest))) : W p l e R s m args below meth c H locs cells slots Q (F0 m pc ls st0) := x_backT hr hS kk
theorem x_backTr {r : Nat} (hr : xRun p l e R s m args below meth c H locs cells slots (F0 m pc ls st0) rest (xQc E (.returned (some (.ref r))) σ' av) (xA E)) (hS : va_S (xA E) s.heap H locs)
    (kk : ∀ (H1 : Heap) (locs1 : List Loc), xW E σ' H1 → va_S (xA E) s.heap H1 locs1 → W p l e R s m args below meth c H1 locs1 cells slots Q (F0 m (pc + 3) ls (.ref r :: rest))) : W p l e R s m args below meth c H locs cells slots Q (F0 m pc ls st0) := x_backT hr hS kk
theorem x_backTn (hr : xRun p l e R s m args below meth c H locs cells slots (F0 m pc ls st0) rest (xQc E (.returned (some .null)) σ' av) (xA E)) (hS : va_S (xA E) s.heap H locs)
    (kk : ∀ (H1 : Heap) (locs1 : List Loc), xW E σ' H1 → va_S (xA E) s.heap H1 locs1 → W p l e R s m args below meth c H1 locs1 cells slots Q (F0 m (pc + 3) ls (.null :: rest))) : W p l e R s m args below meth c H locs cells slots Q (F0 m pc ls st0) := x_backT hr hS kk
theorem x_backTv (hr : xRun p l e R s m args below meth c H locs cells slots (F0 m pc ls st0) rest (xQc E (.returned none) σ' av) (xA E)) (hS : va_S (xA E) s.heap H locs)
    (kk : ∀ (H1 : Heap) (locs1 : List Loc), xW E σ' H1 → va_S (xA E) s.heap H1 locs1 → W p l e R s m args below meth c H1 locs1 cells slots Q (F0 m (pc + 3) ls rest)) : W p l e R s m args below meth c H locs cells slots Q (F0 m pc ls st0) := x_backT hr hS kk
/-- it threw, and no handler is here: so does this method -/
theorem x_backTl {a : Addr} (hr : xRun p l e R s m args below meth c H locs 0 0 (F0 m pc ls st0) rest (xQc E (.threw a) σ' av) (xA E)) (hS : va_S (xA E) s.heap H locs) (hlk : meth.locks = false) (hno : ∀ x ∈ c.exceptionTable.toList, covers x pc = false) :
    W p l e R s m args below meth c H locs 0 0 (xMQ below (xQc E (.threw a) σ') args s (xA E)) (F0 m pc ls st0) := by
  intro T hT X
  obtain ⟨o, st₀, t, T', L, h0, X', hL, e1, hq, -, k2⟩ := hr T hT X
  obtain ⟨ho, hW1, hS1⟩ := x_goS (T := T) hS h0 e1 hL hq
  obtain ⟨hwalk, hrun, hend, hW2, hsame⟩ := X'.leaveThrown a (g := { F0 m pc ls st0 with stack := rest }) rfl rfl rfl hno hlk
  exact ⟨_, k2 a ho _ hwalk, .threw a, hrun, hend, ⟨rfl, hW1, x_F hS1 rfl⟩, locs ++ L, ⟨hW2, hsame⟩, hS1.2.2⟩
/-- it threw, and the one handler of this method takes it -/
theorem x_backTc {cc : ByteArray} {nL : Nat} {own C : String} {a : Addr} {hp : Nat} {idx : Nat} (F : xFx p m c cc nL s args own E) (hr : xRun p l e R s m args below meth c H locs cells slots (F0 m pc ls st0) rest (xQc E (.threw a) σ' av) (xA E)) (hS : va_S (xA E) s.heap H locs)
    {lo hi : Nat} (htb : c.exceptionTable.toList.map (fun h => (h.startPc, h.endPc, h.handlerPc, h.catchType)) = [(lo, hi, hp, idx)]) (hcv : lo ≤ pc ∧ pc < hi) (hix : idx ≠ 0) (hlink : (Cond.classLink own idx C).before args s = true)
    (hrv : ∀ H1 : Heap, xW E σ' H1 → ∃ cell : Cell, H1[a]? = some cell ∧ cell.vm.isStatics = false ∧ s.vm.findClass C = some cell.cls)
    (kk : ∀ (H1 : Heap) (locs1 : List Loc), xW E σ' H1 → va_S (xA E) s.heap H1 locs1 → W p l e R s m args below meth c H1 locs1 cells slots Q (F0 m hp ls [.ref a])) : W p l e R s m args below meth c H locs cells slots Q (F0 m pc ls st0) := by
  intro T hT X
  obtain ⟨o, st₀, t, T', L, h0, X', hL, e1, hq, -, k2⟩ := hr T hT X
  obtain ⟨ho, hW1, hS1⟩ := x_goS (T := T) hS h0 e1 hL hq
  obtain ⟨cell, hc1, hc2, hc3⟩ := hrv _ hW1
  have hown := F.1.2.2.2.1
  have hpl : e.platform.magicAccessors = ({} : Platform).magicAccessors := by rw [X'.admits.platform]
  obtain ⟨c', hc', hcl⟩ := Cond.classLink_spec hown hlink e.platform hpl
  cases hc3.symm.trans hc'
  obtain ⟨dk, _, _, kt, hd, _, _, _, _, hkt, _, hopen⟩ := hcl.here
  have hcl₀ := X'.warmed.classLinks hcl
  have hW' : s.WarmedH (T'.vm.noted m.cls idx (.cls cell.cls)) := X'.warmed.noted hd hopen (State.rightAt_cls hcl)
  obtain ⟨kt', hkt', -⟩ := hW'.alike.2.2 _ _ hkt
  obtain ⟨x, hx⟩ : ∃ x, c.exceptionTable.toList = [x] := by
    match h : c.exceptionTable.toList with
    | [] => rw [h] at htb; cases htb
    | [x] => exact ⟨x, rfl⟩
    | x :: y :: r => rw [h] at htb; cases htb
  rw [hx] at htb
  have hx4 : x.startPc = lo ∧ x.endPc = hi ∧ x.handlerPc = hp ∧ x.catchType = idx := by
    simpa using htb
  have hfind : xFinds e ((T'.setTop { F0 m pc ls st0 with stack := rest }).pushFrame (.throwing a)) { F0 m pc ls st0 with stack := rest } a x.handlerPc (T'.vm.noted m.cls idx (.cls cell.cls)) := by
    refine x_findsCold (c := cell.cls) (cell := cell) (meth := meth) (code := c) (by rw [Stand.throwing_vm]; exact X'.method') X'.code hx ?_ (by rw [hx4.2.2.2]; exact hix) ?_ ?_ (by rw [Stand.throwing_heap]; exact hc1) (fun k h => by rw [h] at hc2; cases hc2) ⟨kt', hkt'⟩ ⟨kt', hkt'⟩ (va_asg _ _)
    · show (decide (x.startPc ≤ pc) && decide (pc < x.endPc)) = true
      rw [hx4.1, hx4.2.1]
      simp [hcv.1, hcv.2]
    · rw [Stand.throwing_vm, hx4.2.2.2]
      exact resolveClass_links e.toSetting hcl₀
    · rw [Stand.throwing_vm]
      exact Nat.le_of_eq (by simp [Vm.noted])
  have hA : At T' ({ F0 m pc ls st0 with stack := rest } : JFrame).method c below := X'.here
  have X'' := X'.noted hW'
  obtain ⟨t2, a1, b1⟩ := kk T'.heap _ hW1 hS1 (T'.setVm (T'.vm.noted m.cls idx (.cls cell.cls))) rfl X''
  refine ⟨t2, k2 a ho t2 (x_caught hA hfind ?_), b1⟩
  rw [hx4.2.2.1]
  exact a1
/-- athrow, out of the method -/
theorem x_athrow {cc : ByteArray} {nL : Nat} {own : String} {σ : xM} {a : Addr} (F : xFx p m c cc nL s args own E) (hlk : meth.locks = false) (hno : ∀ x ∈ c.exceptionTable.toList, covers x pc = false) (hW : xW E σ H) (hS : va_S (xA E) s.heap H locs) (hdg : decode cc pc = .ok (.athrow, 1)) :
    W p l e R s m args below meth c H locs 0 0 (xMQ below (xQc E (.threw a) σ) args s (xA E)) (F0 m pc ls (.ref a :: rest)) := by
  intro T hT X
  obtain ⟨hwalk, hrun, hend, hW2, hsame⟩ := X.athrowLeaves F.1.1 (g := F0 m pc ls (.ref a :: rest)) rfl rfl rfl hno rfl (by rw [F.1.2.1]; exact hdg) hlk
  refine ⟨_, hwalk, .threw a, hrun, hend, ⟨rfl, ?_, ?_⟩, locs, ⟨hW2, hsame⟩, hS.2.2⟩
  · show xW E σ T.heap
    rw [hT]; exact hW
  · exact x_F hS (show T.heap = H from hT)
end XCA
