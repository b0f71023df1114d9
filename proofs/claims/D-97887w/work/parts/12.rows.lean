set_option maxRecDepth 100000
/-! what the tables say all through the run, beside lw_all -/
def xnk : Cond → Bool
  | .fieldLinkNest .. => true
  | .methodLinkNest .. => true
  | .castable .. => true
  | .declares _ => true
  | _ => false
def xsl : List Nat := [4, 4, 4, 5, 6, 4, 5, 2, 4, 6, 3, 5, 6, 4, 84]
def xsi : List (String × Nat × String) := [("WildBellsModel", 36, "bell"), ("WildBellsModel", 38, "herd"), ("WildBellsModel", 40, "lone"), ("WildBellsModel", 42, "tenor"), ("WildBellsModel", 44, "eldest"), ("WildBellsModel", 46, "tame"), ("WildBellsModel", 48, "young"), ("WildBellsModel", 307, "at"), ("WildBellsModel", 314, "note"), ("WildBellsModel", 316, "weight"), ("WildBellsModel", 322, "net"), ("WildBellsModel", 324, "thick"), ("WildBellsModel", 326, "hunter"), ("WildBellsModel", 328, "fear"), ("WildBells$Reader", 74, "bell  herd  lone  tenor eldesttame  young net   thick hunterfear  at    note  weight")]
def xsb : List (List Int32) := [
  [98, 101, 108, 108], [104, 101, 114, 100], [108, 111, 110, 101], [116, 101, 110, 111, 114], [101, 108, 100, 101, 115, 116], [116, 97, 109, 101], [121, 111, 117, 110, 103],
  [97, 116], [110, 111, 116, 101], [119, 101, 105, 103, 104, 116], [110, 101, 116], [116, 104, 105, 99, 107], [104, 117, 110, 116, 101, 114], [102, 101, 97, 114],
  [98, 101, 108, 108, 32, 32, 104, 101, 114, 100, 32, 32, 108, 111, 110, 101, 32, 32, 116, 101, 110, 111, 114, 32, 101, 108, 100, 101, 115, 116, 116, 97, 109, 101, 32, 32, 121, 111, 117, 110, 103, 32, 110, 101, 116, 32, 32, 32, 116, 104, 105, 99, 107, 32, 104, 117, 110, 116, 101, 114, 102, 101, 97, 114, 32, 32, 97, 116, 32, 32, 32, 32, 110, 111, 116, 101, 32, 32, 119, 101, 105, 103, 104, 116]]
abbrev yLw : MethodName := ⟨"WildBells$Likes", "worth", "(I)I"⟩
abbrev yLt : MethodName := ⟨"WildBells$Likes", "twice", "(I)I"⟩
theorem x_anyK {vm vm' : Vm} (h : vm.Alike vm') (f : Class → Bool) (hf : ∀ k : Class, f k.bare = f k) (c : ClassId) : (vm'.classes[c]?).any f = (vm.classes[c]?).any f := by
  cases hk : vm.classes[c]? with
  | none => rw [h.none hk]
  | some k =>
    obtain ⟨k2, h2, he⟩ := h.2.2 _ _ hk
    rw [h2]
    show f k2 = f k
    rw [← hf k2, Class.bare_of he, hf]
theorem x_near {vm vm' : Vm} (h : vm.Alike vm') (c : ClassId) (n d : String) : nearestHeld vm' c n d = nearestHeld vm c n d := by
  have h1 : superinterfaceMethods vm' = superinterfaceMethods vm := by rw [← superinterfaceMethods_bare vm', h.bare_eq, superinterfaceMethods_bare]
  have h2 : maximallySpecific vm' = maximallySpecific vm := by rw [← maximallySpecific_bare vm', h.bare_eq, maximallySpecific_bare]
  have h3 := x_anyK h (fun k => k.isInterface) (fun _ => rfl)
  have h4 := x_anyK h (fun x => x.methods.any fun m => !m.isAbstract && !m.isStatic) (fun _ => rfl)
  have h5 : ∀ (g : ClassId → Bool) (k : ClassId), (vm'.classes[k]?).any (fun x => x.interfaces.any g) = (vm.classes[k]?).any (fun x => x.interfaces.any g) := fun g => x_anyK h (fun x => x.interfaces.any g) (fun _ => rfl)
  simp only [nearestHeld, held, h.superclasses, h.declaredIn, h.superinterfaces, h.method?, h1, h2, h3, h4, h5]
def xDf (C : String) (idx : Nat) (U : State) : Prop := (Cond.landsInDefault C ⟨C, "twice", "(I)I"⟩ yLt).before #[] U = true ∧ (Cond.methodLink C idx ⟨C, "twice", "(I)I"⟩).before #[] U = true ∧ (Cond.sameMethod C "WildBells$Likes" "twice" "(I)I").before #[] U = true
theorem xDf.warm {C : String} {idx : Nat} {s U : State} (hW : s.WarmedH U.vm) (h : xDf C idx s) : xDf C idx U := by
  obtain ⟨h1, h4, h5⟩ := h
  refine ⟨?_, word_at hW (Or.inl rfl) h4, word_at hW (Or.inl rfl) h5⟩
  have hal := hW.alike
  have e3 := x_anyK hal (fun k => k.isInterface) (fun _ => rfl)
  have e1 : U.methodFound? C "twice" "(I)I" = s.methodFound? C "twice" "(I)I" := (show U.methodFound? C "twice" "(I)I" = (s.setVm U.vm).methodFound? C "twice" "(I)I" from rfl).trans (State.methodFound?_setVm hal _ _ _)
  have e2 : U.methodNamed? yLt = s.methodNamed? yLt := (show U.methodNamed? yLt = (s.setVm U.vm).methodNamed? yLt from rfl).trans (State.methodNamed?_setVm hal yLt)
  simp only [Cond.before, Cond.holds, Cond.value] at h1 ⊢
  simp only [hal.findClass, e1, e2, hal.selectMethod, hal.method?, hal.superclasses, hal.declaredIn, x_near hal, e3]
  exact h1
/-- the tables -/
def xK (E : xE) (U : State) : Prop :=
  va_K (xD E) xCl (xtys E) U ∧ (∀ w ∈ lw_tbl, xnk w = true → w.before #[] U = true) ∧ (∀ C ∈ [RX6, RX7, RX8, RX9, RX10, RX11, RX12], va_Fw C yLw ⟨C, "worth", "(I)I"⟩ U) ∧
  (∀ i, i < 15 → ∀ q, xsi[i]? = some q → vk_R q.1 q.2.1 q.2.2 (xks E i) U) ∧ (va_Nc "[S" "[B" U ∧ va_Nc "[I" "[B" U ∧ va_Nc "[I" "[S" U) ∧ xDf RX10 21 U ∧ xDf RX11 27 U ∧ xDf RX12 33 U
/-- what lies below, and stays -/
def xG (E : xE) (U : State) (H : Heap) : Prop := vk_S 15 xsl xsb (xks E) (xkv E) (xA E) U H ∧ va_Z "java/lang/String" "COMPACT_STRINGS" "Z" (.int 1) (xA E) U H ∧ va_Zq "jdk/internal/util/Preconditions" "SIOOBE_FORMATTER" "Ljava/util/function/BiFunction;" (xA E) U H ∧ xz E ≤ H.size
theorem xnk_warm {w : Cond} (hk : xnk w = true) {s U : State} (hW : s.WarmedH U.vm) (h : w.before #[] s = true) : w.before #[] U = true := by
  cases w <;> first | (cases hk; done) | exact va_Nw.warmF hW h | exact va_Nw.warmM hW h | exact va_Nw.warmC hW h | exact va_Nw.warmD hW h
theorem xK.warm {E : xE} {s U : State} (hW : s.WarmedH U.vm) (h : xK E s) : xK E U := by
  obtain ⟨h1, h2, h3, h4, ⟨h5, h6, h7⟩, h8, h9, h10⟩ := h
  exact ⟨va_K.moved hW.alike h1, fun w hw hk => xnk_warm hk hW (h2 w hw hk), fun C hC => va_Fw.moved ⟨by decide, by decide⟩ hW.alike (h3 C hC), fun i hi q hq => vk_R.warm hW (h4 i hi q hq), ⟨va_Nc.moved hW.alike h5, va_Nc.moved hW.alike h6, va_Nc.moved hW.alike h7⟩, xDf.warm hW h8, xDf.warm hW h9, xDf.warm hW h10⟩
theorem xG.warm {E : xE} {s U : State} {H : Heap} (hW : s.WarmedH U.vm) (h : xG E s H) : xG E U H := by
  obtain ⟨h1, h2, h3, h4⟩ := h
  exact ⟨vk_S.moved hW.alike h1, va_Z.moved hW.alike h2, va_Zq.moved hW.alike h3, h4⟩
theorem xG.kept {E : xE} {s : State} {H H1 : Heap} {locs : List Loc} (h : xG E s H) (hS : va_S (xA E) H H1 locs) : xG E s H1 := by
  obtain ⟨h1, h2, h3, h4⟩ := h
  exact ⟨h1.kept hS.2.1, h2.kept hS.2.1, h3.kept hS.2.1, Nat.le_trans h4 hS.1⟩
theorem xK.calling {E : xE} {U : State} {g : JFrame} {mk : MethodId} {a : Array Value} (h : xK E U) : xK E (U.calling g mk a) := by
  obtain ⟨h1, h2, h3, h4, ⟨h5, h6, h7⟩, h8, h9, h10⟩ := h
  have hal : U.vm.Alike (U.calling g mk a).vm := Vm.Alike.refl U.vm
  refine ⟨va_K.moved hal h1, fun w hw hk => va_tabs ?_ (rfl : U.vm = (U.calling g mk a).vm) (h2 w hw hk), fun C hC => va_Fw.moved ⟨by decide, by decide⟩ hal (h3 C hC), fun i hi q hq => vk_R.same (rfl : (U.calling g mk a).vm = U.vm) (h4 i hi q hq), ⟨va_Nc.moved hal h5, va_Nc.moved hal h6, va_Nc.moved hal h7⟩, h8, h9, h10⟩
  cases w <;> first | (cases hk; done) | rfl
theorem xG.calling {E : xE} {U : State} {g : JFrame} {mk : MethodId} {a : Array Value} {H : Heap} (h : xG E U H) : xG E (U.calling g mk a) H := by
  obtain ⟨h1, h2, h3, h4⟩ := h
  have hal : U.vm.Alike (U.calling g mk a).vm := Vm.Alike.refl U.vm
  exact ⟨vk_S.moved hal h1, va_Z.moved hal h2, va_Zq.moved hal h3, h4⟩
/-! contracts -/
def xPc (E : xE) (σ : xM) (av : List Value) : Array Value → State → Prop := fun v U => v = av.toArray ∧ xK E U ∧ xG E U U.heap ∧ xW E σ U.heap
def xQc (E : xE) (oc : Outcome) (σ : xM) : Array Value → State → Outcome → State → Prop := fun _ st o t => o = oc ∧ xW E σ t.heap ∧ va_F (xA E) st t
theorem xPc.blind {E : xE} {σ : xM} {av : List Value} : FrameBlind (xPc E σ av) := fun _ _ _ _ h => ⟨h.1, h.2.1.calling, h.2.2.1.calling, h.2.2.2⟩
/-- what is fixed in a method's walk -/
abbrev xFx (p : Program) (m : MethodId) (c : Code) (cc : ByteArray) (nL : Nat) (s : State) (args : Array Value) (own : String) (E : xE) : Prop :=
  CallFix p m c cc nL s args lw_all own ∧ xK E s ∧ xG E s s.heap
section XR
variable {p : Program} {l : Launch} {e : Env} {R : Room} {s : State} {m : MethodId} {args : Array Value} {below : List Frame} {meth : Method} {c : Code} {H : Heap} {locs : List Loc} {cells slots : Nat} {Q : State → Prop}
variable {cc : ByteArray} {nL : Nat} {own : String} {E : xE} {σ : xM} {pc : Nat} {ls : Array Slot} {rest : List Value}
theorem xFx.pre (F : xFx p m c cc nL s args own E) (hW : xW E σ H) (hS : va_S (xA E) s.heap H locs) (av : List Value) : ∀ U : State, U.heap = H → s.WarmedH U.vm → xPc E σ av av.toArray U := fun U hU hw => ⟨rfl, F.2.1.warm hw, by rw [hU]; exact (F.2.2.kept hS).warm hw, by rw [hU]; exact hW⟩
/-- a call that comes back -/
theorem x_back {mc ms : Nat} {st0 : List Value} {v : Option Value} {E' : xE} {σ' : xM} {a : Array Value} (hr : va_Run p l e R s m args below meth c H locs cells slots mc ms (F0 m pc ls st0) rest (xQc E' (.returned v) σ' a) (xA E)) (hz : xz E' = xz E) (hS : va_S (xA E) s.heap H locs)
    (kk : ∀ (H1 : Heap) (locs1 : List Loc), xW E' σ' H1 → va_S (xA E) s.heap H1 locs1 → W p l e R s m args below meth c H1 locs1 (cells + mc) (slots + ms) Q (F0 m (pc + 3) ls (v.toList ++ rest))) : W p l e R s m args below meth c H locs cells slots Q (F0 m pc ls st0) := by
  intro T hT X
  obtain ⟨v', st₀, t, T', L, h0, X', hL, e1, e2, ⟨hv, hw, hz1, hk⟩, st⟩ := hr T hT X
  cases hv
  have hAA : xA E' = xA E := by unfold xA; rw [hz]
  rw [h0] at hz1 hk
  rw [hAA] at hk
  obtain ⟨t2, a1, b1⟩ := kk T'.heap (locs ++ L) (by rw [e1]; exact hw)
    ⟨Nat.le_trans hS.1 (by rw [e1]; exact hz1), fun q h1 h2 => by rw [e1, hk q (Nat.lt_of_lt_of_le h1 hS.1) h2]; exact hS.2.1 q h1 h2, fun q hq => by
      rcases List.mem_append.mp hq with h | h
      · exact hS.2.2 q h
      · exact hL q h⟩ T' rfl X'
  exact ⟨t2, st t2 a1, b1⟩
variable {y : MethodName} {bytes : ByteArray} {maxL mc ms n index : Nat} {ret : Option FieldType} {ws : List Cond} {rm : Room} {C : String} {b : Addr} {As st0 : List Value} {E' : xE} {σ' : xM} {v : Option Value}
/-- a call through an object -/
theorem x_V (F : xFx p m c cc nL s args own E) (hM : Met l y ws rm (xPc E σ (.ref b :: As)) (xQc E' (.returned v) σ') mc ms (xA E)) (cw : CallW R s args own C index y bytes maxL ret ws rm mc ms n) (hr : ∃ cellB : Cell, H[b]? = some cellB ∧ cellB.vm.isStatics = false ∧ s.vm.findClass C = some cellB.cls) (hW : xW E σ H) (hS : va_S (xA E) s.heap H locs)
    (hdg : decode cc pc = .ok (.invokevirtual index, 3)) (hz : xz E' = xz E) (hn : As.length = n) (hsize : ls.size = nL) (hst : st0 = As.reverse ++ .ref b :: rest) (hrm : (rest.map fun v => v.category).sum ≤ 8) (hf : cells + mc ≤ R.cells ∧ slots + ms ≤ R.slots)
    (kk : ∀ (H1 : Heap) (locs1 : List Loc), xW E' σ' H1 → va_S (xA E) s.heap H1 locs1 → W p l e R s m args below meth c H1 locs1 (cells + mc) (slots + ms) Q (F0 m (pc + 3) ls (v.toList ++ rest))) : W p l e R s m args below meth c H locs cells slots Q (F0 m pc ls st0) :=
  x_back (va_runV (C := C) (As := As) (rest := rest) (b := b) F.1 hM cw ⟨xPc.blind, hr, F.pre hW hS (.ref b :: As)⟩ rfl hn hsize hst (lv_room hrm) hdg hf) hz hS kk
/-- a static call -/
theorem x_S (F : xFx p m c cc nL s args own E) (hM : Met l y ws rm (xPc E σ As) (xQc E' (.returned v) σ') mc ms (xA E)) (cw : CallB R s args own index y bytes maxL ret ws rm mc ms n ∧ (Cond.static y).before args s = true) (hW : xW E σ H) (hS : va_S (xA E) s.heap H locs)
    (hdg : decode cc pc = .ok (.invokestatic index, 3)) (hz : xz E' = xz E) (hn : As.length = n) (hsize : ls.size = nL) (hst : st0 = As.reverse ++ rest) (hrm : (rest.map fun v => v.category).sum ≤ 8) (hf : cells + mc ≤ R.cells ∧ slots + ms ≤ R.slots)
    (kk : ∀ (H1 : Heap) (locs1 : List Loc), xW E' σ' H1 → va_S (xA E) s.heap H1 locs1 → W p l e R s m args below meth c H1 locs1 (cells + mc) (slots + ms) Q (F0 m (pc + 3) ls (v.toList ++ rest))) : W p l e R s m args below meth c H locs cells slots Q (F0 m pc ls st0) :=
  x_back (va_runS (As := As) (rest := rest) F.1 hM cw ⟨xPc.blind, F.pre hW hS As⟩ rfl hn hsize hst (lv_room hrm) hdg hf) hz hS kk
end XR
