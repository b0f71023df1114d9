set_option maxRecDepth 100000
theorem lw_SU {own : String} {idx : Nat} {y : MethodName} {b : ByteArray} {L : Nat} {r : Option FieldType} (h1 : Cond.methodLink own idx y ∈ lw_all) (h2 : Cond.sameMethod y.cls y.cls y.name y.desc ∈ lw_all) (h3 : Cond.superclass own y.cls ∈ lw_all) (h4 : Cond.instanceMethod y ∈ lw_all) (h5 : Cond.initialized y.cls ∈ lw_all) (h6 : Cond.code y b L r ∈ lw_all) : GoodIn lw_all (va_wsSU own idx y (ws_ y b L r)) := by
  refine lw_app ?_ (lw_meth h6)
  intro w hw
  simp only [List.mem_cons, List.not_mem_nil, or_false] at hw
  rcases hw with e | e | e | e | e <;> rw [e] <;> assumption
theorem lw_O {own : String} {idx : Nat} {C owner : String} {x y : MethodName} {b : ByteArray} {L : Nat} {r : Option FieldType} (h1 : Cond.methodLink own idx x ∈ lw_all) (h2 : Cond.sameMethod x.cls owner x.name x.desc ∈ lw_all) (h3 : Cond.instanceMethod ⟨owner, x.name, x.desc⟩ ∈ lw_all) (h4 : Cond.selects C x y ∈ lw_all) (h5 : Cond.instanceMethod y ∈ lw_all) (h6 : Cond.initialized y.cls ∈ lw_all) (h7 : Cond.code y b L r ∈ lw_all) : GoodIn lw_all (va_wsO own idx C owner x y (ws_ y b L r)) := by
  refine lw_app ?_ (lw_meth h7)
  intro w hw
  simp only [List.mem_cons, List.not_mem_nil, or_false] at hw
  rcases hw with e | e | e | e | e | e <;> rw [e] <;> assumption
theorem lw_F {own : String} {idx : Nat} {C : String} {x y : MethodName} {b : ByteArray} {L : Nat} {r : Option FieldType} (h1 : Cond.methodLink own idx x ∈ lw_all) (h2 : Cond.selects C x y ∈ lw_all) (h3 : Cond.instanceMethod y ∈ lw_all) (h4 : Cond.initialized y.cls ∈ lw_all) (h5 : Cond.code y b L r ∈ lw_all) : GoodIn lw_all (va_wsF own idx C x y (ws_ y b L r)) := by
  refine lw_app ?_ (lw_meth h5)
  intro w hw
  simp only [List.mem_cons, List.not_mem_nil, or_false] at hw
  rcases hw with e | e | e | e <;> rw [e] <;> assumption
section XBD
variable {p : Program} {l : Launch} {e : Env} {R : Room} {s : State} {m : MethodId} {args : Array Value} {below : List Frame} {meth : Method} {c : Code} {H : Heap} {locs : List Loc} {cells slots : Nat} {Q : State → Prop}
variable {E : xE} {pc : Nat} {ls : Array Slot} {rest st0 : List Value} {σ' : xM} {a : Array Value}
theorem x_back5i {r : Int32} (hr : va_Run5 p l e R s m args below meth c H locs cells slots 0 0 (F0 m pc ls st0) rest (xQc E (.returned (some (.int r))) σ' a) (xA E)) (hS : va_S (xA E) s.heap H locs)
    (kk : ∀ (H1 : Heap) (locs1 : List Loc), xW E σ' H1 → va_S (xA E) s.heap H1 locs1 → W p l e R s m args below meth c H1 locs1 cells slots Q (F0 m (pc + 5) ls (.int r :: rest))) : W p l e R s m args below meth c H locs cells slots Q (F0 m pc ls st0) := by
  intro T hT X
  obtain ⟨v', st₀, t, T', L, h0, X', hL, e1, e2, ⟨hv, hw, hz1, hk⟩, st⟩ := hr T hT X
  cases hv
  rw [h0] at hz1 hk
  obtain ⟨t2, a1, b1⟩ := kk T'.heap (locs ++ L) (by rw [e1]; exact hw)
    ⟨Nat.le_trans hS.1 (by rw [e1]; exact hz1), fun q h1 h2 => by rw [e1, hk q (Nat.lt_of_lt_of_le h1 hS.1) h2]; exact hS.2.1 q h1 h2, fun q hq => by
      rcases List.mem_append.mp hq with h | h
      · exact hS.2.2 q h
      · exact hL q h⟩ T' rfl X'
  exact ⟨t2, st t2 a1, b1⟩
end XBD
/-! a method of an interface of which nobody says that it is initialised -/
def xMN (l : Launch) (y : MethodName) (ws : List Cond) (rm : Room) (Pc : Array Value → State → Prop) (Qc : Array Value → State → Outcome → State → Prop) (free : Addr → Prop) : Prop :=
  ∀ (p : Program) (e : Env), l.admits e → FairCas e.choices → FairClock e.choices → ∀ (s : State) (m : MethodId) (args : Array Value) (below : List Frame), s.frames = .invoking m args :: below → s.goesOn → s.methodNamed? y = some m → s.hears m below = true → s.hasRoom e.platform rm = true → (allAtoms ws).before args s = true → Pc args s →
    ∃ s₂ o, Steps p.tables e below s s₂ ∧ s₂.status = .running ∧ Ended s₂ below o ∧ Qc args s o s₂ ∧ ∃ L, FrameEnd s o s₂ L 0 0 ∧ ∀ q ∈ L, free q.base
theorem x_ofN {l : Launch} {E : xE} {σ : xM} {ws : List Cond} {rm : Room} {cc : ByteArray} {maxL : Nat} {av : List Value} {r : Option FieldType} {C n d : String} (hy : plainName C = true) (hw : ws = Cond.code ⟨C, n, d⟩ cc maxL r :: lw_all) (ha : (lg_sl av).length ≤ maxL) {Qc : Array Value → State → Outcome → State → Prop} {free : Addr → Prop}
    (body : ∀ (p : Program) (e : Env) (s : State) (m : MethodId) (below : List Frame) (meth : Method) (c : Code) (ls : Array Slot), xFx p m c cc maxL s av.toArray C E → meth.sig.returnType = r → meth.locks = false → xW E σ s.heap → va_S (xA E) s.heap s.heap [] → lv_has ls maxL (lv_args 0 av) →
      W p l e rm s m av.toArray below meth c s.heap [] 0 0 (MQ below Qc av.toArray s 0 0 free) (F0 m 0 ls [])) : xMN l ⟨C, n, d⟩ ws rm (xPc E σ av) Qc free := by
  intro p e had hca hcl s m args below hf hgo hname hhears hroom hpre hv
  obtain ⟨rfl, hK, hG, hW⟩ := hv
  have hts0 := atoms_spec (ws := ws) hpre
  obtain ⟨meth, c, hmeth, hcode, hbytes, hlocals, hret, hlocks, -, -⟩ := Cond.code_spec hname (hts0 _ (by rw [hw]; exact List.mem_cons_self))
  have hts : ∀ w ∈ lw_all, w.before av.toArray s = true := fun w h => hts0 w (by rw [hw]; exact List.mem_cons_of_mem _ h)
  have hcur := State.cur_lt_of_frames hf
  generalize hs1 : s.setFrames (.java (entryFrame m av.toArray maxL) :: below) = s₁
  have hf1 : s₁.frames = .java (entryFrame m av.toArray maxL) :: below := by rw [← hs1]; exact State.frames_setFrames _ hcur
  have ht1 := State.topJava?_of_frames hf1
  have hplain : s₁.plainMethod m := by rw [← hs1]; exact State.plainMethod.of_named (s := s) (plainFor_of_name hy) hname hmeth
  have hAt : At s₁ m c below := by
    refine ⟨by rw [ht1]; rfl, ⟨[], by rw [hf1]; rfl⟩, by rw [← hs1]; exact hgo.1, ?_, ?_, ?_, hplain⟩
    · rw [← hs1]; simpa using hgo.2.1
    · rw [← hs1]; simpa using hgo.2.2
    · rw [← hs1, State.code?_eq]; simp [State.setFrames, hmeth, hcode]
  have hstep : (stepThread p.tables e s).1 = s₁.setTop (entryFrame m av.toArray maxL) := by
    have hfull : e.platform.stackFull (s.setFrames below).me (s.setFrames below).frames c.maxLocals = false := by
      obtain ⟨-, h1, -, h2⟩ := State.hasRoom_stack hroom
      rw [hf, List.length_cons] at h1
      rw [State.localsInUse_invoking hf hmeth hcode] at h2
      have hw2 := stackUse_le_stackWeight below
      rw [State.frames_setFrames _ hcur]
      exact Platform.stackFull_eq_false (by rw [State.stackLimits_setFrames]; omega) (by rw [State.stackLimits_setFrames]; omega)
    rw [stepThread_invoking hf, (doInvoke_java (s := s.setFrames below) (e := e) (meth := meth) (code := c) hmeth hcode hlocks hfull).1, State.setTop_self ht1, ← hs1]
    simp only [State.pushFrame, State.frames_setFrames _ hcur, State.setFrames_setFrames, hlocals, entryFrame]
  have X : Stand p l e rm s m av.toArray below meth c s₁ [] 0 0 := by
    obtain ⟨t, ht, -⟩ := State.frames_cons hf
    refine ⟨had, hca, hcl, hf, hroom, hhears, hmeth, hcode, hAt, by rw [hf1]; rfl, by rw [← hs1]; exact State.WarmedH.refl s, by rw [← hs1, State.stackLimits_setFrames], by rw [← hs1, State.stackBytes_setFrames], ?_⟩
    have h := (State.sameButNew.refl s ht).setFrames (.java (entryFrame m av.toArray maxL) :: below) hcur
    rw [← hs1]
    exact h
  have hl := lv_entry av (n := maxL) ha
  have key : W p l e rm s m av.toArray below meth c s.heap [] 0 0 (MQ below Qc av.toArray s 0 0 free) (entryFrame m av.toArray maxL) := by
    rw [lg_entry_eq]
    generalize (lg_sl av ++ List.replicate (maxL - (lg_sl av).length) Slot.unset).toArray = ls at hl ⊢
    exact body p e s m below meth c ls ⟨⟨by cases p <;> rfl, hbytes, hlocals, findClass_of_methodNamed hname, hts⟩, hK, hG⟩ hret hlocks hW va_S.rf hl
  obtain ⟨t, a1, o, b1, b2, b3⟩ := key s₁ (by rw [← hs1]; rfl) X
  refine ⟨t, o, ?_, b1, b2, b3⟩
  refine Steps.trans (Steps.head (tb := p.tables) (e := e) hgo ⟨[.invoking m av.toArray], hf, by simp, by simp⟩ (hstep ▸ Steps.refl _)) a1
section XBDn
variable {Q : Unit → Pre} {CE : CtlPost} {e : Env} {d : Bool} {acts : List Action} {s : State} {f : JFrame}
theorem x_selD {Q : Selection → Pre} {c : ClassId} {r m : MethodId} {rmeth meth : Method} {mk : Class} (hsel : selectMethod e.platform s.vm c r = .method m) (hrm : s.vm.method? r = some rmeth) (hm : s.vm.method? m = some meth)
    (hmk : s.vm.classes[m.cls]? = some mk) (hitf : mk.isInterface = true) (hn1 : ∀ k d, nearestHeld s.vm c rmeth.name rmeth.desc = some (k, .default d) → d = m) (hn2 : ∀ k b, nearestHeld s.vm c rmeth.name rmeth.desc ≠ some (k, .thrower b)) : wp (invokeinterface.selectVirtual c r) Q CE e d acts s ↔ Q (.method m) d acts s := by
  cases hp : e.platform.privateHidesDefault
  · simp [invokeinterface.selectVirtual, hrm, selectFor_method hsel hm, hmk, hitf, hp]
  · rcases hn : nearestHeld s.vm c rmeth.name rmeth.desc with _ | ⟨k, _ | d2 | b⟩
    · simp [invokeinterface.selectVirtual, hrm, selectFor_method hsel hm, hmk, hitf, hp, hn]
    · simp [invokeinterface.selectVirtual, hrm, selectFor_method hsel hm, hmk, hitf, hp, hn]
    · first
        | exact absurd hn (hn2 _ _)
        | (cases hn1 _ _ hn; simp [invokeinterface.selectVirtual, hrm, selectFor_method hsel hm, hmk, hitf, hp, hn])
    · first
        | exact absurd hn (hn2 _ _)
        | (cases hn1 _ _ hn; simp [invokeinterface.selectVirtual, hrm, selectFor_method hsel hm, hmk, hitf, hp, hn])
theorem x_wpD {index a : Nat} {r m : MethodId} {c' : ClassId} {k k' mk : Class} {rmeth meth : Method} {args rest : List Value} {cell : Cell}
    (hs : s.topJava?.isSome) (hnamed : namesResolved s.vm f.method.cls index c') (hk' : s.vm.classes[c']? = some k') (hclass : k'.isInterface = false) (hr : s.vm.methodReady f.method.cls index r)
    (hk : s.vm.classes[r.cls]? = some k) (hrm : s.vm.method? r = some rmeth) (hpoly : signaturePolymorphic k rmeth = false) (hstatic : rmeth.isStatic = false)
    (hlen : args.length = rmeth.sig.parameters.length) (hstack : f.stack = args.reverse ++ .ref a :: rest) (hcell : s.heap[a]? = some cell) (hobj : ∀ c, cell.vm ≠ .statics c)
    (hsel : selectMethod e.platform s.vm cell.cls r = .method m) (hm : s.vm.method? m = some meth) (habs : meth.isAbstract = false)
    (hmk : s.vm.classes[m.cls]? = some mk) (hitf : mk.isInterface = true) (hn1 : ∀ k d, nearestHeld s.vm cell.cls rmeth.name rmeth.desc = some (k, .default d) → d = m) (hn2 : ∀ k b, nearestHeld s.vm cell.cls rmeth.name rmeth.desc ≠ some (k, .thrower b)) :
    wp (invokevirtual.sem index) Q CE e d acts (s.setTop f) ↔ CE (.invoke m (.ref a :: args).toArray) acts (s.setTop { f with stack := rest }) := by
  obtain ⟨kc, cf, ci, n, h1, h2, h3, h4⟩ := hnamed
  have hpre : ∀ {Q' : ClassId → Pre}, wp (Jvm.refClassAt index) Q' CE e d acts (s.setTop f) ↔ Q' c' d acts (s.setTop f) := by
    intro Q'
    rcases h3 with h3 | h3 <;>
      simp [Jvm.refClassAt, Jvm.constantAt, State.method?_setTop f hs, h1, h2, h3, W.resolveClassAt_ready (State.method?_setTop f hs) h4]
  simp only [invokevirtual.sem, wp_bind', hpre, W.theClass, State.vm_setTop, hk', Option.some.injEq, exists_eq_left', W.ite, hclass, Bool.false_eq_true, if_false, wp_pure', W.resolveMethodAt_ready (State.method?_setTop f hs) hr]
  simp only [W.theMethod, State.vm_setTop, hrm, Option.some.injEq, exists_eq_left', Seam.isPolymorphic, wp_bind', W.theClass, hk, wp_pure', hpoly, W.ite, Bool.false_eq_true, if_false, hstatic, Jvm.popArgs, ← hlen, popN_top hs hstack]
  simp [hs, hcell, hobj, x_selD (s := s.setTop _) (show selectMethod e.platform (s.setTop _).vm cell.cls r = .method m from hsel) hrm hm hmk hitf hn1 hn2, hm, habs]
end XBDn
section XBE
variable {p : Program} {l : Launch} {e : Env} {R : Room} {s : State} {m : MethodId} {args : Array Value} {below : List Frame} {meth : Method} {c : Code} {H : Heap} {locs : List Loc} {cells slots : Nat} {Q : State → Prop}
variable {E : xE} {pc : Nat} {ls : Array Slot} {rest st0 : List Value} {σ' : xM}
/-- a call that lands in the default method 'twice' -/
theorem x_runD {cc : ByteArray} {nL idx : Nat} {C : String} {rm : Room} {Pc : Array Value → State → Prop} {Qc : Array Value → State → Outcome → State → Prop} {free : Addr → Prop} {b : Addr} {As : List Value} (F : xFx p m c cc nL s args C E) (hD : xDf C idx s) (hM : xMN l yX14_twice (ws_ yX14_twice cX14_twice 2 (some .int)) rm Pc Qc free) (hrm : rm.cells = 0 ∧ rm.slots = 0 ∧ rm.frames + 1 ≤ R.frames ∧ 8 + (2 + 11) + rm.locals ≤ R.locals) (hp : PreV s H C b Pc As)
    (hn : As.length = 1) (hsize : ls.size = nL) (hst : st0 = As.reverse ++ .ref b :: rest) (hrs : (rest.map fun v => v.category).sum ≤ 8) (hdg : decode cc pc = .ok (.invokevirtual idx, 3)) (hf : cells + 0 ≤ R.cells ∧ slots + 0 ≤ R.slots) :
    va_Run p l e R s m args below meth c H locs cells slots 0 0 (F0 m pc ls st0) rest (Qc (Value.ref b :: As).toArray) free := by
  obtain ⟨hexec, hb, hml, hown, hts⟩ := id F.1
  obtain ⟨hblind, ⟨cellB, hcell, hobj, hcls⟩, hPc⟩ := hp
  obtain ⟨hD1, hD2, hD3⟩ := hD
  have hlink : (Cond.methodLink C idx ⟨C, "twice", "(I)I"⟩).before args s = true := va_tabs (u := s) rfl rfl hD2
  have hsame : (Cond.sameMethod C "WildBells$Likes" "twice" "(I)I").before args s = true := va_tabs (u := s) rfl rfl hD3
  have hinst := hts _ q642
  have hcode := hts _ q644
  intro T hT X
  obtain ⟨mk, methM, hnamed, hmethM, hstM, habM⟩ := Cond.instanceMethod_spec hinst
  obtain ⟨methM', cM, hmethM', -, -, -, -, -, -, hsigM⟩ := Cond.code_spec hnamed hcode
  cases hmethM.symm.trans hmethM'
  have hlenM : As.length = methM.sig.parameters.length := by
    have h8 : (parseMethodDescriptor "(I)I").map (fun d => d.parameters.length) = some 1 := by decide +kernel
    rw [show parseMethodDescriptor "(I)I" = some methM.sig from hsigM] at h8
    exact hn.trans (Option.some.inj h8).symm
  obtain ⟨cn, ck, r1, hcn, hck, hni, hfm, hn1⟩ := Cond.sameMethod_found hsame
  cases hnamed.symm.trans hn1
  have hcc : cn = cellB.cls := Option.some.inj (hcn.symm.trans hcls)
  subst hcc
  have hland : selectMethod {} s.vm cellB.cls mk = .method mk ∧ (∃ kk, s.vm.classes[mk.cls]? = some kk ∧ kk.isInterface = true) ∧ (∀ k d, nearestHeld s.vm cellB.cls methM.name methM.desc = some (k, .default d) → d = mk) ∧ ∀ k b, nearestHeld s.vm cellB.cls methM.name methM.desc ≠ some (k, .thrower b) := by
    have hD4 := hD1
    simp only [Cond.before, Cond.holds, Cond.value, hcls] at hD4
    rw [show s.methodFound? C "twice" "(I)I" = some mk from hfm, show s.methodNamed? yLt = some mk from hnamed] at hD4
    simp only [hmethM, Option.map_some, beq_iff_eq, Option.some.injEq] at hD4
    split at hD4
    · rename_i m2 hsel
      simp only [Bool.and_eq_true, decide_eq_true_eq, Bool.not_eq_true', Option.any_eq_true] at hD4
      obtain ⟨⟨⟨⟨rfl, kk, hkk, hki⟩, -⟩, -⟩, hnear⟩ := hD4
      refine ⟨hsel, ⟨kk, hkk, hki⟩, fun k d hk => ?_, fun k b hk => ?_⟩
      · rw [hk] at hnear; simpa using hnear
      · rw [hk] at hnear; cases hnear
    · cases hD4
  obtain ⟨hselQ, ⟨kk, hkk, hki⟩, hne1, hne2⟩ := hland
  have hselP : selectMethod e.platform s.vm cellB.cls mk = .method mk := by rw [Launch.admits_selectMethod X.admits]; exact hselQ
  have hdg' : decode c.code pc = .ok (.invokevirtual idx, 3) := by rw [hb]; exact hdg
  generalize hg0 : F0 m pc ls st0 = g
  have hgm0 : g.method = m := by rw [← hg0]
  have hgs0 : g.locals.size = c.maxLocals := by rw [← hg0, hml]; exact hsize
  have hgd0 : decode c.code g.pc = .ok (.invokevirtual idx, 3) := by rw [← hg0]; exact hdg'
  have hgst0 : g.stack = As.reverse ++ .ref b :: rest := by rw [← hg0]; exact hst
  have hgW0 : 2 * g.monitorRoom + (rest.map fun v => v.category).sum ≤ 8 := by
    have : g.monitorRoom = 0 := by rw [← hg0]
    omega
  obtain ⟨vm₁, X₁, hstep₁⟩ : ∃ vm', Stand p l e R s m args below meth c (T.setVm vm') locs cells slots ∧ ∀ target, (∀ acts, Steps p.tables e below (doInvoke e ((T.setVm vm').setTop { g with stack := rest }) acts mk (.ref b :: As).toArray).1 target) → Steps p.tables e below (T.setTop g) target := by
    have hpl : e.platform.magicAccessors = ({} : Platform).magicAccessors := by rw [X.admits.platform]
    obtain ⟨ci, hl, hright⟩ := Cond.methodLink_specUp hown hcn hck hni hfm hlink e.platform hpl (by rw [X.admits.platform])
    have hE : s.MethodEntryUp e T.vm m.cls idx cellB.cls mk ci := State.methodEntryUp X.warmed hl hright
    obtain ⟨kr, hkr, hnr⟩ := className_of_methodNamed hnamed
    obtain ⟨dk, cfile, nt, _, _, _, _, _, hd, hcf, hcp, -⟩ := hl.here
    have alike := hE.warmed.alike
    obtain ⟨dk₂, hdk₂, hres⟩ := hE.classReady
    obtain ⟨dk₃, hdk₃, hed⟩ := alike.2.2 _ _ hd
    cases hdk₂.symm.trans hdk₃
    obtain ⟨kr₂, hkr₂, her⟩ := alike.2.2 _ _ hkr
    obtain ⟨ck₂, hck₂, hec⟩ := alike.2.2 _ _ hck
    obtain ⟨mk₂, hmk₂, hem⟩ := alike.2.2 _ _ hkk
    refine ⟨T.vm.calledUp m.cls ci idx cellB.cls mk, X.noted hE.warmed, fun target hrest => ?_⟩
    subst hgm0
    jvm_step X.here [hexec, hgd0, invokevirtual.wp_coldUp (e := e) (s := T) (s₀ := s) (f := g) X.here.top X.warmed hE hd hcf (Or.inl hcp) hck hni,
      x_wpD (e := e) (s := T.setVm (T.vm.calledUp g.method.cls ci idx cellB.cls mk)) (f := g) (r := mk) (m := mk) (c' := cellB.cls) (k := kr₂) (k' := ck₂) (mk := mk₂) (rmeth := methM) (meth := methM) (a := b) (args := As) (rest := rest) (cell := cellB)
        X.here.top ⟨dk₂, cfile, ci, nt, hdk₂, by rw [hed]; exact hcf, Or.inl hcp, dk₂, hdk₂, hres⟩ hck₂ (by rw [hec]; exact hni) hE.ready hkr₂
        (by show (T.vm.calledUp g.method.cls ci idx cellB.cls mk).method? mk = some methM; rw [alike.method?]; exact hmethM)
        (by rw [her]; show signaturePolymorphic kr methM = false; simp [signaturePolymorphic, hnr]) hstM hlenM hgst0 (by show T.heap[b]? = _; rw [hT]; exact hcell) (fun z h => by rw [h] at hobj; cases hobj)
        (by show selectMethod e.platform (T.vm.calledUp g.method.cls ci idx cellB.cls mk) cellB.cls mk = .method mk; rw [alike.selectMethod]; exact hselP)
        (by show (T.vm.calledUp g.method.cls ci idx cellB.cls mk).method? mk = some methM; rw [alike.method?]; exact hmethM) habM hmk₂ (by rw [hem]; exact hki)
        (by show ∀ k d, nearestHeld (T.vm.calledUp g.method.cls ci idx cellB.cls mk) cellB.cls methM.name methM.desc = some (k, .default d) → d = mk; rw [x_near alike]; exact hne1)
        (by show ∀ k b, nearestHeld (T.vm.calledUp g.method.cls ci idx cellB.cls mk) cellB.cls methM.name methM.desc ≠ some (k, .thrower b); rw [x_near alike]; exact hne2)]
    exact hrest
  generalize hU : T.setVm vm₁ = U at X₁ hstep₁
  have hUh : U.heap = H := by rw [← hU]; exact hT
  generalize hg1 : ({ g with stack := rest } : JFrame) = g₁ at hstep₁
  have hgm : g₁.method = m := by rw [← hg1]; exact hgm0
  have hgs : g₁.locals.size = c.maxLocals := by rw [← hg1]; exact hgs0
  have hgd : decode c.code g₁.pc = .ok (.invokevirtual idx, 3) := by rw [← hg1]; exact hgd0
  have hgW : 2 * g₁.monitorRoom + (g₁.stack.map fun v => v.category).sum ≤ 8 := by rw [← hg1]; exact hgW0
  have hnU : U.methodNamed? yX14_twice = some mk := X₁.named hnamed
  have hws := pay_in hts (lw_meth q644)
  have h1 : (allAtoms (ws_ yX14_twice cX14_twice 2 (some .int))).before (Value.ref b :: As).toArray U = true := atoms_intro fun w hw => hws w hw _ _ X₁.warmed
  have h2 := hws _ (List.mem_cons_self : Cond.code yX14_twice cX14_twice 2 (some .int) ∈ ws_ yX14_twice cX14_twice 2 (some .int)) (Value.ref b :: As).toArray U X₁.warmed
  obtain ⟨methY, cY, hmY, hcY, -, hlY, -, -, -, -⟩ := Cond.code_spec hnU h2
  have h : At U g₁.method c below := by rw [hgm]; exact X₁.here
  have hroom := X₁.room_calling (g := g₁) (R' := rm) (args' := (Value.ref b :: As).toArray) hgs hmY hcY hrm.2.2.1 (by rw [hlY]; omega) (by rw [hrm.1]; exact hf.1) (by rw [hrm.2.1]; exact hf.2)
  obtain ⟨mid, hmid⟩ := h.above
  have hfr' : (U.setTop g₁).frames = (.java g₁ :: mid) ++ below := by rw [State.frames_setTop' g₁ h.top, hmid]; rfl
  have hPU : Pc (Value.ref b :: As).toArray (U.calling g₁ mk (Value.ref b :: As).toArray) := hblind _ _ _ _ (hPc U hUh X₁.warmed)
  have hcodeU : (U.calling g₁ mk (Value.ref b :: As).toArray).code? g₁.method = some c := by
    have h9 := h.code
    rw [State.code?_eq] at h9 ⊢
    simpa [State.calling, State.pushFrame, State.setFrames] using h9
  obtain ⟨g₀, hg0'⟩ := Option.isSome_iff_exists.mp h.top
  obtain ⟨r, hr⟩ := State.topJava?_eq_some.mp hg0'
  obtain ⟨t0, ht0, -⟩ := State.frames_cons hr
  have hfU : (U.calling g₁ mk (Value.ref b :: As).toArray).frames = .invoking mk (Value.ref b :: As).toArray :: (U.setTop g₁).frames := by
    have h9 := State.frames_calling h.top g₁ mk (Value.ref b :: As).toArray
    rw [h9, State.frames_setTop' g₁ h.top]
  have hgo : (U.calling g₁ mk (Value.ref b :: As).toArray).goesOn := ⟨h.running, by simpa [State.calling] using h.runnable, by simpa [State.calling] using h.alone⟩
  have hhear : (U.calling g₁ mk (Value.ref b :: As).toArray).hears mk (U.setTop g₁).frames = true := by
    rw [State.frames_setTop' g₁ h.top]
    simp [State.hears, hcodeU, hgd, Except.toOption]
  have hpreU : (allAtoms (ws_ yX14_twice cX14_twice 2 (some .int))).before (Value.ref b :: As).toArray (U.calling g₁ mk (Value.ref b :: As).toArray) = true := by
    rw [State.calling_eq h.top, Cond.before_setFrames]
    exact h1
  obtain ⟨s₂, o, ⟨n, hn2, hw2⟩, -, hend, hq, L, hFE, hL⟩ := hM p e X₁.admits X₁.cas X₁.clock (U.calling g₁ mk (Value.ref b :: As).toArray) mk (Value.ref b :: As).toArray (U.setTop g₁).frames hfU hgo hnU hhear hroom hpreU hPU
  have hsteps : ∀ acts, Steps p.tables e below (doInvoke e (U.setTop g₁) acts mk (Value.ref b :: As).toArray).1 s₂ := by
    intro acts
    have hstep : (stepThread p.tables e (U.calling g₁ mk (Value.ref b :: As).toArray)).1 = (doInvoke e (U.setTop g₁) acts mk (Value.ref b :: As).toArray).1 := by
      have ht9 : ∃ t, (U.setTop g₁).threads[(U.setTop g₁).cur]? = some t := by
        obtain ⟨t9, h9, -⟩ := State.frames_cons (hfr'.trans (by rfl : (.java g₁ :: mid) ++ below = .java g₁ :: (mid ++ below)))
        exact ⟨t9, h9⟩
      obtain ⟨t9, ht9⟩ := ht9
      rw [stepThread_invoking hfU, doInvoke_state e (U.setTop g₁) acts]
      show (doInvoke e (((U.setTop g₁).pushFrame (.invoking mk (Value.ref b :: As).toArray)).setFrames (U.setTop g₁).frames) [] mk (Value.ref b :: As).toArray).1 = _
      rw [State.pushFrame, State.setFrames_setFrames, State.setFrames_self ht9]
    cases n with
    | zero =>
      rw [← hn2] at hend
      exact absurd ⟨[.invoking mk (Value.ref b :: As).toArray], hfU, by simp, by simp⟩ hend.not_within
    | succ k =>
      rw [stepsAlone_succ _ hgo, hstep] at hn2
      refine ⟨k, hn2, fun j hj => ?_⟩
      have h9 := hw2 (j + 1) (by omega)
      rw [stepsAlone_succ _ hgo, hstep, hfr'] at h9
      exact h9.weaken
  obtain ⟨⟨v, rfl⟩, hW₂, e2, q2, q3, q4, q5, q6⟩ := id hFE
  rw [State.frames_setTop' g₁ h.top] at hend
  have e3 : s₂ = ({ (U.calling g₁ mk (Value.ref b :: As).toArray).setFrames s₂.frames with heap := s₂.heap, slotsUsed := s₂.slotsUsed } : State).setVm s₂.vm := by
    have : s₂ = ({ s₂ with vm := (U.calling g₁ mk (Value.ref b :: As).toArray).vm } : State).setVm s₂.vm := rfl
    rw [e2] at this
    exact this
  have hW' : U.WarmedH s₂.vm := hW₂
  have hsameU : U.sameButNew ({ U with heap := s₂.heap, slotsUsed := s₂.slotsUsed } : State) L 0 0 := by
    refine ⟨?_, q2, q3, q4, q5, q6⟩
    show ({ U with heap := s₂.heap, slotsUsed := s₂.slotsUsed } : State) = { U.setFrames U.frames with heap := s₂.heap, slotsUsed := s₂.slotsUsed }
    rw [State.setFrames_self ht0]
  have hX' : Stand p l e R s m args below meth c (({ U with heap := s₂.heap, slotsUsed := s₂.slotsUsed } : State).setVm s₂.vm) (locs ++ L) cells slots := by
    have hs := X₁.same.trans (hsameU.setVm s.vm)
    exact ⟨X₁.admits, X₁.cas, X₁.clock, X₁.frames, X₁.room, X₁.hears, X₁.method, X₁.code, (X₁.here.setHeapUsed s₂.heap s₂.slotsUsed).setVm hW'.alike, X₁.tail, State.WarmedH.trans X₁.warmed hW', X₁.limits, X₁.bytes, hs⟩
  have hr' : (({ U with heap := s₂.heap, slotsUsed := s₂.slotsUsed } : State).setVm s₂.vm).frames = .java g₀ :: r := hr
  refine ⟨v, U.calling g₁ mk (Value.ref b :: As).toArray, s₂, ({ U with heap := s₂.heap, slotsUsed := s₂.slotsUsed } : State).setVm s₂.vm, L, hUh, hX', hL, rfl, rfl, hq, ?_⟩
  intro tg htg
  obtain ⟨c₂, i₂, len₂, hc₂, hd₂, hf₂⟩ := hend
  have hcc : c₂ = c := by
    have h9 : s₂.code? g₁.method = U.code? g₁.method := by rw [State.code?_eq, State.code?_eq, hW'.alike.method?]
    exact Option.some.inj (hc₂.symm.trans (h9.trans h.code))
  subst hcc
  have hlen : len₂ = 3 := by rw [hgd] at hd₂; cases hd₂; rfl
  subst hlen
  have hs₂ : s₂ = (({ U with heap := s₂.heap, slotsUsed := s₂.slotsUsed } : State).setVm s₂.vm).setTop { g₁ with pc := g₁.pc + 3, stack := v.toList ++ g₁.stack } := by
    refine e3.trans ?_
    rw [hf₂, State.calling_eq h.top, State.setFrames_setFrames, State.setTop_of_frames _ hr', hr]
    rfl
  refine hstep₁ tg fun acts => ?_
  refine (hsteps acts).trans ?_
  rw [hs₂]
  have ee : ({ g₁ with pc := g₁.pc + 3, stack := v.toList ++ g₁.stack } : JFrame) = { g with pc := g.pc + 3, stack := v.toList ++ rest } := by rw [← hg1]
  rw [ee]
  exact htg
end XBE
