set_option maxRecDepth 100000
section XHW
variable {p : Program} {l : Launch} {e : Env} {R : Room} {s : State} {m : MethodId} {args : Array Value} {below : List Frame} {meth : Method} {c : Code} {H : Heap} {locs : List Loc} {cells slots : Nat}
variable {y : MethodName} {rm : Room} {Pc : Array Value → State → Prop} {Qc : Array Value → State → Outcome → State → Prop} {free : Addr → Prop} {bytes cc : ByteArray} {maxL nL n index mc ms : Nat} {ret : Option FieldType} {hh : List (Nat × Nat × Nat × Nat)} {own C : String} {b : Addr} {As rest : List Value} {g : JFrame}
/-- a call through an object, of a method with handlers, that returns -/
theorem x_runVW (S : CallFix p m c cc nL s args lw_all own) (hM : Met l y (wsW_ y bytes maxL ret hh) rm Pc Qc mc ms free) (hlk : Cond.methodLink own index y ∈ lw_all) (hin : Cond.instanceMethod y ∈ lw_all) (hse : Cond.selects C y y ∈ lw_all) (hco : Cond.codeWith y bytes maxL ret hh ∈ lw_all) (hnit : Cond.initialized y.cls ∈ lw_all) (hrc : rm.cells = mc) (hrs : rm.slots = ms)
    (hd : y.cls ≠ "java/lang/invoke/MethodHandle" ∧ y.cls ≠ "java/lang/invoke/VarHandle" ∧ (parseMethodDescriptor y.desc).map (fun d => d.parameters.length) = some n) (hR : rm.frames + 1 ≤ R.frames ∧ 8 + (maxL + 11) + rm.locals ≤ R.locals) (hp : PreV s H C b Pc As)
    (hg : g.method = m) (hn : As.length = n) (hsize : g.locals.size = nL) (hstack : g.stack = As.reverse ++ .ref b :: rest) (hWr : 2 * g.monitorRoom + (rest.map fun v => v.category).sum ≤ 8) (hdg : decode cc g.pc = .ok (.invokevirtual index, 3)) (hf : cells + mc ≤ R.cells ∧ slots + ms ≤ R.slots) :
    va_Run p l e R s m args below meth c H locs cells slots mc ms g rest (Qc (Value.ref b :: As).toArray) free := by
  obtain ⟨hexec, hb, hml, hown, hts⟩ := S
  have hini := hts _ hnit
  have hcode := hts _ hco
  have hinst := hts _ hin
  have hsel := hts _ hse
  have hK : Back l R p e below s args y 3 8 (PreOf R mc ms Pc) (PostOf Qc mc ms free) := va_backW (hh := hh) (bytes := bytes) (maxL := maxL) (ret := ret) hM hp.1 hrc hrs hR.1 hR.2 (pay_in hts (lw_methW hco)) List.mem_cons_self (fun a' U hW => word_at hW (Or.inl (by first | rfl | simp [Cond.onTables, Cond.keeps, Cond.steady])) hini)
  obtain ⟨-, ⟨cellB, hcB, hoB, hclB⟩, hPc⟩ := hp
  intro T hT X
  obtain ⟨mk, methM, hnamed, hmethM, hstM, habM⟩ := Cond.instanceMethod_spec hinst
  obtain ⟨m9, methM', cM, hn9, hmethM', -, -, -, -, -, -, hsigM⟩ := Cond.codeWith_spec hcode
  cases hnamed.symm.trans hn9
  cases hmethM.symm.trans hmethM'
  obtain ⟨c2, r2, m2, q1, q2, q3, q4, kP, hkP, hkPi⟩ := Cond.selects_spec hsel
  cases hclB.symm.trans q1
  cases (State.methodFound?_of_named hnamed ⟨hd.1, hd.2.1⟩).symm.trans q2
  cases hnamed.symm.trans q3
  have hselP : selectMethod e.platform s.vm cellB.cls mk = .method mk := by rw [Launch.admits_selectMethod X.admits]; exact q4
  have hlen : As.length = methM.sig.parameters.length := by
    have h2 := hd.2.2
    rw [hsigM] at h2
    exact hn.trans (Option.some.inj h2).symm
  obtain ⟨vm₁, X₁, hstep₁⟩ := X.invokevirtual hexec hown (hts _ hlk) hnamed hmethM hstM hkP hkPi ⟨hd.1, hd.2.1⟩ (a := b) (cell := cellB) (by rw [hT]; exact hcB)
    (fun z h => by rw [h] at hoB; cases hoB) hselP hmethM habM hkP hkPi (g := g) hg (argsL := As) (rest := rest) hlen hstack (by rw [hb]; exact hdg)
  obtain ⟨v, ⟨U', l2, c2, s2⟩, X', ⟨g', mk', t, L, e1, e2, hq, h1, hL, h2, h3⟩, hsteps⟩ := hK m meth c ⟨T.setVm vm₁, locs, cells, slots⟩ { g with stack := rest } (.invokevirtual index) mk (Value.ref b :: As).toArray X₁ hg (hsize.trans hml.symm) (by rw [hb]; exact hdg) hWr (X₁.named hnamed) ⟨hf.1, hf.2, hPc (T.setVm vm₁) hT X₁.warmed⟩
  dsimp only [Pt.U, Pt.locs, Pt.cells, Pt.slots] at X' e1 e2 h1 h2 h3 hsteps
  subst h1; subst h2; subst h3
  exact ⟨v, (T.setVm vm₁).calling g' mk' (Value.ref b :: As).toArray, t, U', L, hT, X', hL, e1, e2, hq, fun target h => hstep₁ _ fun acts => by rw [doInvoke_state]; exact hsteps.trans h⟩
end XHW
section XHB
variable {l : Launch} {E : xE} {σ : xM} {rm : Room} {cc : ByteArray} {maxL : Nat} {av : List Value}
/-- the walk of a method with handlers begins -/
theorem x_ofW {r : Option FieldType} {C n d : String} {hh : List (Nat × Nat × Nat × Nat)} (hy : plainName C = true) (ha : (lg_sl av).length ≤ maxL) {Qc : Array Value → State → Outcome → State → Prop} {free : Addr → Prop} {mc ms : Nat}
    (body : ∀ (p : Program) (e : Env) (s : State) (m : MethodId) (below : List Frame) (meth : Method) (c : Code) (ls : Array Slot), xFx p m c cc maxL s av.toArray C E → meth.sig.returnType = r → meth.locks = false → c.exceptionTable.toList.map (fun h => (h.startPc, h.endPc, h.handlerPc, h.catchType)) = hh → xW E σ s.heap → va_S (xA E) s.heap s.heap [] → lv_has ls maxL (lv_args 0 av) →
      W p l e rm s m av.toArray below meth c s.heap [] 0 0 (MQ below Qc av.toArray s mc ms free) (F0 m 0 ls [])) : Met l ⟨C, n, d⟩ (wsW_ ⟨C, n, d⟩ cc maxL r hh) rm (xPc E σ av) Qc mc ms free := by
  refine va_MetW (cc := cc) (maxL := maxL) (ret := r) (hh := hh) hy rfl ?_
  intro p e s m args below meth c s₁ B hml hv
  obtain ⟨rfl, hK, hG, hW⟩ := hv
  have hts0 := atoms_spec (ws := wsW_ ⟨C, n, d⟩ cc maxL r hh) B.pre
  have hts : ∀ w ∈ lw_all, w.before _ s = true := fun w h => hts0 w (List.mem_cons_of_mem _ h)
  have htb : c.exceptionTable.toList.map (fun h => (h.startPc, h.endPc, h.handlerPc, h.catchType)) = hh := by
    obtain ⟨m9, meth9, c9, hn9, h1, h2, -, -, h5, -⟩ := Cond.codeWith_spec (hts0 _ List.mem_cons_self)
    cases B.named.symm.trans hn9
    cases B.method.symm.trans h1
    cases (Stand.of_body B).code.symm.trans h2
    exact h5
  have hl := lv_entry av (n := maxL) ha
  rw [lg_entry_eq]
  generalize (lg_sl av ++ List.replicate (maxL - (lg_sl av).length) Slot.unset).toArray = ls at hl ⊢
  exact body p e s m below meth c ls ⟨⟨B.exec, B.bytes, hml, findClass_of_methodNamed B.named, hts⟩, hK, hG⟩ B.returns B.notSynchronized htb hW va_S.rf hl
/-- the walk of a method that may throw begins -/
theorem x_ofT {r : Option FieldType} {C n d : String} (hy : plainName C = true) (ha : (lg_sl av).length ≤ maxL) {Qc : Array Value → State → Outcome → State → Prop} {free : Addr → Prop}
    (body : ∀ (p : Program) (e : Env) (s : State) (m : MethodId) (below : List Frame) (meth : Method) (c : Code) (ls : Array Slot), xFx p m c cc maxL s av.toArray C E → meth.sig.returnType = r → meth.locks = false → (∀ pc, ∀ x ∈ c.exceptionTable.toList, covers x pc = false) → xW E σ s.heap → va_S (xA E) s.heap s.heap [] → lv_has ls maxL (lv_args 0 av) →
      W p l e rm s m av.toArray below meth c s.heap [] 0 0 (xMQ below Qc av.toArray s free) (F0 m 0 ls [])) : xMT l ⟨C, n, d⟩ (ws_ ⟨C, n, d⟩ cc maxL r) rm (xPc E σ av) Qc free := by
  refine MetFree.of_bodyS (code := cc) (maxLocals := maxL) (ret := r) hy ?_ ?_
  · intro args s m h hn
    obtain ⟨meth, c, h1, h2, h3, h4, h5, h6, -, -⟩ := Cond.code_spec hn (atoms_spec (ws := ws_ ⟨C, n, d⟩ cc maxL r) h _ List.mem_cons_self)
    exact ⟨meth, c, h1, h2, h3, h4, h5, h6⟩
  · intro p e s m args below meth c s₁ B hml hv _
    obtain ⟨rfl, hK, hG, hW⟩ := hv
    have hts0 := atoms_spec (ws := ws_ ⟨C, n, d⟩ cc maxL r) B.pre
    have hts : ∀ w ∈ lw_all, w.before _ s = true := fun w h => hts0 w (List.mem_cons_of_mem _ h)
    have hno : ∀ pc, ∀ x ∈ c.exceptionTable.toList, covers x pc = false := by
      have he := B.noHandlers (hts0 _ List.mem_cons_self)
      intro pc x hx
      rw [Array.isEmpty_iff] at he
      rw [he] at hx
      cases hx
    have hl := lv_entry av (n := maxL) ha
    have hh0 : s₁.heap = s.heap := by rw [B.state]; rfl
    have key : W p l e rm s m av.toArray below meth c s.heap [] 0 0 (xMQ below Qc av.toArray s free) (entryFrame m av.toArray maxL) := by
      rw [lg_entry_eq]
      generalize (lg_sl av ++ List.replicate (maxL - (lg_sl av).length) Slot.unset).toArray = ls at hl ⊢
      exact body p e s m below meth c ls ⟨⟨B.exec, B.bytes, hml, findClass_of_methodNamed B.named, hts⟩, hK, hG⟩ B.returns B.notSynchronized hno hW va_S.rf hl
    obtain ⟨t, a1, o, b1, b2, b3⟩ := key s₁ hh0 (Stand.of_body B)
    exact ⟨t, o, a1, b1, b2, b3⟩
end XHB
