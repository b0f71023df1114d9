set_option maxRecDepth 100000
/-! methods that may throw; methods with handlers -/
def xFE (first t : State) (L : List Loc) : Prop := first.WarmedH t.vm ∧ first.sameButNew ({ t with vm := first.vm } : State) L 0 0
def xMT (l : Launch) (y : MethodName) (ws : List Cond) (rm : Room) (Pc : Array Value → State → Prop) (Qc : Array Value → State → Outcome → State → Prop) (free : Addr → Prop) : Prop :=
  MetFree l y (headSpec ws rm) Pc (fun _ _ _ _ _ => True) (fun a st o t => Qc a st o t ∧ ∃ L, xFE st t L ∧ ∀ q ∈ L, free q.base)
def xMQ (below : List Frame) (Qc : Array Value → State → Outcome → State → Prop) (a : Array Value) (s : State) (free : Addr → Prop) : State → Prop := fun t =>
  ∃ o, t.status = .running ∧ Ended t below o ∧ Qc a s o t ∧ ∃ L, xFE s t L ∧ ∀ q ∈ L, free q.base
theorem xMQ.of {below : List Frame} {Qc : Array Value → State → Outcome → State → Prop} {a : Array Value} {s : State} {free : Addr → Prop} (t : State) (h : MQ below Qc a s 0 0 free t) : xMQ below Qc a s free t := by
  obtain ⟨o, h1, h2, h3, L, hF, hL⟩ := h
  exact ⟨o, h1, h2, h3, L, hF.2, hL⟩
theorem xMT.of {l : Launch} {y : MethodName} {ws : List Cond} {rm : Room} {Pc : Array Value → State → Prop} {Qc : Array Value → State → Outcome → State → Prop} {free : Addr → Prop} (h : Met l y ws rm Pc Qc 0 0 free) : xMT l y ws rm Pc Qc free := by
  intro p e ha hc hk s m args below hf happ hP hK
  obtain ⟨n, o, h1, h2, h3, h4, L, hF, hL⟩ := h p e ha hc hk s m args below hf happ hP hK
  exact ⟨n, o, h1, h2, h3, h4, L, hF.2, hL⟩
section XTA
variable {p : Program} {l : Launch} {e : Env} {R : Room} {s : State} {m : MethodId} {args : Array Value} {below : List Frame} {meth : Method} {c : Code} {H : Heap} {locs : List Loc} {cells slots : Nat} {Q Q' : State → Prop}
theorem x_mono {g : JFrame} (h : ∀ t, Q t → Q' t) (k : W p l e R s m args below meth c H locs cells slots Q g) : W p l e R s m args below meth c H locs cells slots Q' g := by
  intro T hT X
  obtain ⟨t, a1, b1⟩ := k T hT X
  exact ⟨t, a1, h t b1⟩
variable {y : MethodName} {ws : List Cond} {rm : Room} {Pc : Array Value → State → Prop} {Qc : Array Value → State → Outcome → State → Prop} {free : Addr → Prop} {bytes cc : ByteArray} {maxL nL n index : Nat} {ret : Option FieldType} {Ts : List Cond} {own C : String} {b : Addr} {As rest : List Value} {g : JFrame}
/-- a call through an object, of a method that may throw: what comes of it -/
theorem x_runVT (S : CallFix p m c cc nL s args Ts own) (hM : xMT l y ws rm Pc Qc free) (cw : CallW R s args own C index y bytes maxL ret ws rm 0 0 n) (hp : PreV s H C b Pc As)
    (hg : g.method = m) (hn : As.length = n) (hsize : g.locals.size = nL) (hstack : g.stack = As.reverse ++ .ref b :: rest) (hWr : 2 * g.monitorRoom + (rest.map fun v => v.category).sum ≤ 8) (hdg : decode cc g.pc = .ok (.invokevirtual index, 3)) (hf : cells ≤ R.cells ∧ slots ≤ R.slots) :
    ∀ T : State, T.heap = H → Stand p l e R s m args below meth c T locs cells slots → ∃ (o : Outcome) (st₀ t T' : State) (L : List Loc), st₀.heap = H ∧ Stand p l e R s m args below meth c T' (locs ++ L) cells slots ∧ (∀ q ∈ L, free q.base) ∧ T'.heap = t.heap ∧ Qc (Value.ref b :: As).toArray st₀ o t ∧
      (∀ v, o = .returned v → ∀ tg, Steps p.tables e below (T'.setTop { g with pc := g.pc + 3, stack := v.toList ++ rest }) tg → Steps p.tables e below (T.setTop g) tg) ∧
      (∀ a, o = .threw a → ∀ tg, Steps p.tables e below ((T'.setTop { g with stack := rest }).pushFrame (.throwing a)) tg → Steps p.tables e below (T.setTop g) tg) := by
  obtain ⟨⟨hrc, hrs, hfr, hlo, hws, hcw, hcode, hini, hy, hlen, hlink⟩, hinst, hsel⟩ := cw
  obtain ⟨hexec, hb, hml, hown, -⟩ := S
  obtain ⟨hblind, ⟨cellB, hcell, hobj, hcls⟩, hPc⟩ := hp
  intro T hT X
  obtain ⟨mk, methM, hnamed, hmethM, hstM, habM⟩ := Cond.instanceMethod_spec hinst
  obtain ⟨methM', cM, hmethM', -, -, -, -, -, -, hsigM⟩ := Cond.code_spec hnamed hcode
  cases hmethM.symm.trans hmethM'
  obtain ⟨c2, r2, m2, q1, q2, q3, q4, kP, hkP, hkPi⟩ := Cond.selects_spec hsel
  cases hcls.symm.trans q1
  cases (State.methodFound?_of_named hnamed hy).symm.trans q2
  cases hnamed.symm.trans q3
  have hselP : selectMethod e.platform s.vm cellB.cls mk = .method mk := by rw [Launch.admits_selectMethod X.admits]; exact q4
  have hdg' : decode c.code g.pc = .ok (.invokevirtual index, 3) := by rw [hb]; exact hdg
  obtain ⟨vm₁, X₁, hstep₁⟩ := X.invokevirtual hexec hown hlink hnamed hmethM hstM hkP hkPi hy (a := b) (cell := cellB) (by rw [hT]; exact hcell)
    (fun z h => by rw [h] at hobj; cases hobj) hselP hmethM habM hkP hkPi (g := g) hg (argsL := As) (rest := rest) (hn.trans (hlen _ hsigM)) hstack hdg'
  generalize hU : T.setVm vm₁ = U at X₁ hstep₁
  have hUh : U.heap = H := by rw [← hU]; exact hT
  generalize hg1 : ({ g with stack := rest } : JFrame) = g₁ at hstep₁
  have hgm : g₁.method = m := by rw [← hg1]; exact hg
  have hgs : g₁.locals.size = c.maxLocals := by rw [← hg1, hml]; exact hsize
  have hgd : decode c.code g₁.pc = .ok (.invokevirtual index, 3) := by rw [← hg1]; exact hdg'
  have hgW : 2 * g₁.monitorRoom + (g₁.stack.map fun v => v.category).sum ≤ 8 := by rw [← hg1]; exact hWr
  have hgpc : g₁.pc = g.pc := by rw [← hg1]
  have hgst : g₁.stack = rest := by rw [← hg1]
  have hnU : U.methodNamed? y = some mk := X₁.named hnamed
  have h1 : (allAtoms ws).before (Value.ref b :: As).toArray U = true := atoms_intro fun w hw => hws w hw _ _ X₁.warmed
  have h2 := hws _ hcw (Value.ref b :: As).toArray U X₁.warmed
  have h3 : (Cond.initialized y.cls).before (Value.ref b :: As).toArray U = true := word_at X₁.warmed (Or.inl (by first | rfl | simp [Cond.onTables, Cond.keeps, Cond.steady])) hini
  obtain ⟨methY, cY, hmY, hcY, -, hlY, -, -, -, -⟩ := Cond.code_spec hnU h2
  obtain ⟨kY, hkY, -⟩ := className_of_methodNamed hnU
  have hinitY : kY.init = .initialized := Cond.initialized_spec (findClass_of_methodNamed hnU) hkY h3
  have h : At U g₁.method c below := by rw [hgm]; exact X₁.here
  have happ : (headSpec ws rm).appliesLoose y e.platform (U.calling g₁ mk (Value.ref b :: As).toArray) = true :=
    Spec.appliesLoose_calling (g := g₁) h hgd hnU hkY hinitY
      (X₁.room_calling (g := g₁) (R' := rm) hgs hmY hcY hfr (by rw [hlY]; omega) (by rw [hrc]; exact hf.1) (by rw [hrs]; exact hf.2)) h1
  obtain ⟨mid, hmid⟩ := h.above
  have hfr' : (U.setTop g₁).frames = (.java g₁ :: mid) ++ below := by rw [State.frames_setTop' g₁ h.top, hmid]; rfl
  have hPU : Pc (Value.ref b :: As).toArray (U.calling g₁ mk (Value.ref b :: As).toArray) := hblind _ _ _ _ (hPc U hUh X₁.warmed)
  obtain ⟨o, s₂, hsteps, -, hend, hq0, L, hFE0, hL⟩ := Steps.callFree hM p X₁.admits X₁.cas X₁.clock (acts := []) hfr' happ hPU trivial
  have hFE : xFE (U.calling g₁ mk (Value.ref b :: As).toArray) s₂ L := hFE0
  have hq : Qc (Value.ref b :: As).toArray (U.calling g₁ mk (Value.ref b :: As).toArray) o s₂ := hq0
  obtain ⟨hW₂, e2, q2, q3, q4, q5, q6⟩ := hFE
  rw [State.frames_setTop' g₁ h.top] at hend
  have e3 : s₂ = ({ (U.calling g₁ mk (Value.ref b :: As).toArray).setFrames s₂.frames with heap := s₂.heap, slotsUsed := s₂.slotsUsed } : State).setVm s₂.vm := by
    have : s₂ = ({ s₂ with vm := (U.calling g₁ mk (Value.ref b :: As).toArray).vm } : State).setVm s₂.vm := rfl
    rw [e2] at this
    exact this
  have hW' : U.WarmedH s₂.vm := hW₂
  obtain ⟨g₀, hg0⟩ := Option.isSome_iff_exists.mp h.top
  obtain ⟨r, hr⟩ := State.topJava?_eq_some.mp hg0
  have hsame : U.sameButNew ({ U with heap := s₂.heap, slotsUsed := s₂.slotsUsed } : State) L 0 0 := by
    refine ⟨?_, q2, q3, q4, q5, q6⟩
    obtain ⟨t, ht, -⟩ := State.frames_cons hr
    show ({ U with heap := s₂.heap, slotsUsed := s₂.slotsUsed } : State) = { U.setFrames U.frames with heap := s₂.heap, slotsUsed := s₂.slotsUsed }
    rw [State.setFrames_self ht]
  have hX' : Stand p l e R s m args below meth c (({ U with heap := s₂.heap, slotsUsed := s₂.slotsUsed } : State).setVm s₂.vm) (locs ++ L) cells slots := by
    have hs := X₁.same.trans (hsame.setVm s.vm)
    exact ⟨X₁.admits, X₁.cas, X₁.clock, X₁.frames, X₁.room, X₁.hears, X₁.method, X₁.code, (X₁.here.setHeapUsed s₂.heap s₂.slotsUsed).setVm hW'.alike, X₁.tail, State.WarmedH.trans X₁.warmed hW', X₁.limits, X₁.bytes, hs⟩
  have hr' : (({ U with heap := s₂.heap, slotsUsed := s₂.slotsUsed } : State).setVm s₂.vm).frames = .java g₀ :: r := hr
  refine ⟨o, U.calling g₁ mk (Value.ref b :: As).toArray, s₂, ({ U with heap := s₂.heap, slotsUsed := s₂.slotsUsed } : State).setVm s₂.vm, L, hUh, hX', hL, rfl, hq, ?_, ?_⟩
  · rintro v rfl tg htg
    obtain ⟨c₂, i₂, len₂, hc₂, hd₂, hf₂⟩ := hend
    have hcc : c₂ = c := by
      have h1 : s₂.code? g₁.method = U.code? g₁.method := by rw [State.code?_eq, State.code?_eq, hW'.alike.method?]
      exact Option.some.inj (hc₂.symm.trans (h1.trans h.code))
    subst hcc
    have hlen : len₂ = 3 := by rw [hgd] at hd₂; cases hd₂; rfl
    subst hlen
    have hs₂ : s₂ = (({ U with heap := s₂.heap, slotsUsed := s₂.slotsUsed } : State).setVm s₂.vm).setTop { g₁ with pc := g₁.pc + 3, stack := v.toList ++ g₁.stack } := by
      refine e3.trans ?_
      rw [hf₂, State.calling_eq h.top, State.setFrames_setFrames, State.setTop_of_frames _ hr', hr]
      rfl
    refine hstep₁ tg fun acts => ?_
    rw [doInvoke_state]
    refine hsteps.trans ?_
    rw [hs₂]
    have ee : ({ g₁ with pc := g₁.pc + 3, stack := v.toList ++ g₁.stack } : JFrame) = { g with pc := g.pc + 3, stack := v.toList ++ rest } := by rw [← hg1]
    rw [ee]
    exact htg
  · rintro a rfl tg htg
    have hf₂ : s₂.frames = .throwing a :: .java g₁ :: U.frames.tail := hend
    have hs₂ : s₂ = ((({ U with heap := s₂.heap, slotsUsed := s₂.slotsUsed } : State).setVm s₂.vm).setTop g₁).pushFrame (.throwing a) := by
      refine e3.trans ?_
      rw [hf₂, State.calling_eq h.top, State.setFrames_setFrames, State.pushFrame, State.frames_setTop _ hr', State.setTop_of_frames _ hr', State.setFrames_setFrames, hr]
      rfl
    refine hstep₁ tg fun acts => ?_
    rw [doInvoke_state]
    refine hsteps.trans ?_
    rw [hs₂]
    exact htg
end XTA
