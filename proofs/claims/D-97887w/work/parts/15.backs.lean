set_option maxRecDepth 100000
abbrev xin (i : Int32) (n : Nat) : Prop := ¬ (i < 0 ∨ n ≤ i.toNatClampNeg)
/-- the fuel of every loop -/
abbrev xfu : Nat := 2000
section XB2
variable {p : Program} {l : Launch} {e : Env} {R : Room} {s : State} {m : MethodId} {args : Array Value} {below : List Frame} {meth : Method} {c : Code} {H : Heap} {locs : List Loc} {cells slots : Nat} {Q : State → Prop}
variable {E : xE} {pc : Nat} {ls : Array Slot} {rest st0 : List Value} {σ' : xM} {a : Array Value}
theorem x_backi {r : Int32} (hr : va_Run p l e R s m args below meth c H locs cells slots 0 0 (F0 m pc ls st0) rest (xQc E (.returned (some (.int r))) σ' a) (xA E)) (hS : va_S (xA E) s.heap H locs)
    (kk : ∀ (H1 : Heap) (locs1 : List Loc), xW E σ' H1 → va_S (xA E) s.heap H1 locs1 → W p l e R s m args below meth c H1 locs1 cells slots Q (F0 m (pc + 3) ls (.int r :: rest))) : W p l e R s m args below meth c H locs cells slots Q (F0 m pc ls st0) := x_back hr rfl hS kk
theorem x_backl {r : Int64} (hr : va_Run p l e R s m args below meth c H locs cells slots 0 0 (F0 m pc ls st0) rest (xQc E (.returned (some (.long r))) σ' a) (xA E)) (hS : va_S (xA E) s.heap H locs)
    (kk : ∀ (H1 : Heap) (locs1 : List Loc), xW E σ' H1 → va_S (xA E) s.heap H1 locs1 → W p l e R s m args below meth c H1 locs1 cells slots Q (F0 m (pc + 3) ls (.long r :: rest))) : W p l e R s m args below meth c H locs cells slots Q (F0 m pc ls st0) := x_back hr rfl hS kk
theorem x_backr {r : Nat} (hr : va_Run p l e R s m args below meth c H locs cells slots 0 0 (F0 m pc ls st0) rest (xQc E (.returned (some (.ref r))) σ' a) (xA E)) (hS : va_S (xA E) s.heap H locs)
    (kk : ∀ (H1 : Heap) (locs1 : List Loc), xW E σ' H1 → va_S (xA E) s.heap H1 locs1 → W p l e R s m args below meth c H1 locs1 cells slots Q (F0 m (pc + 3) ls (.ref r :: rest))) : W p l e R s m args below meth c H locs cells slots Q (F0 m pc ls st0) := x_back hr rfl hS kk
theorem x_backv (hr : va_Run p l e R s m args below meth c H locs cells slots 0 0 (F0 m pc ls st0) rest (xQc E (.returned none) σ' a) (xA E)) (hS : va_S (xA E) s.heap H locs)
    (kk : ∀ (H1 : Heap) (locs1 : List Loc), xW E σ' H1 → va_S (xA E) s.heap H1 locs1 → W p l e R s m args below meth c H1 locs1 cells slots Q (F0 m (pc + 3) ls rest)) : W p l e R s m args below meth c H locs cells slots Q (F0 m pc ls st0) := x_back hr rfl hS kk
variable {cc : ByteArray} {nL : Nat} {own : String} {σ : xM}
theorem x_lret (F : xFx p m c cc nL s args own E) (hr : meth.sig.returnType = some .long) (hlocks : meth.locks = false) (hW : xW E σ H) (hS : va_S (xA E) s.heap H locs) {v : Int64} (hdg : decode cc pc = .ok (.lreturn, 1)) : W p l e R s m args below meth c H locs cells slots (MQ below (xQc E (.returned (some (.long v))) σ) args s cells slots (xA E)) (F0 m pc ls [.long v]) :=
  W.lret F.1.1 F.1.2.1 hr (fun t ht _ => ⟨rfl, by rw [ht]; exact hW, x_F hS ht⟩) hS.2.2 hdg hlocks
theorem x_aret (F : xFx p m c cc nL s args own E) {rt : FieldType} (hr : meth.sig.returnType = some rt) (hrt : (∃ n, rt = .object n) ∨ ∃ t, rt = .array t) (hlocks : meth.locks = false) (hW : xW E σ H) (hS : va_S (xA E) s.heap H locs) {v : Nat} (hdg : decode cc pc = .ok (.areturn, 1)) : W p l e R s m args below meth c H locs cells slots (MQ below (xQc E (.returned (some (.ref v))) σ) args s cells slots (xA E)) (F0 m pc ls [.ref v]) :=
  W.aret F.1.1 F.1.2.1 hr hrt (Or.inr ⟨v, rfl⟩) (fun t ht _ => ⟨rfl, by rw [ht]; exact hW, x_F hS ht⟩) hS.2.2 hdg hlocks
theorem x_aald (F : xFx p m c cc nL s args own E) {ty : FieldType} (t0 k n : Nat) {a0 : Nat} {g : Nat → Nat} (hP : va_P (xD E) xCl [(a0, .inl (xak E k, n, .inr (.inr (.inr (.inr (fun j => some (g j)))))))] H) (ht : (xtys E)[t0]? = some (xak E k, ty)) (hty : ty.isReference = true) {i : Int32} (hin : vp_in i n) {j : Nat} (hj : i.toNatClampNeg = j) (hdg : decode cc pc = .ok (.aaload, 1))
    (kk : W p l e R s m args below meth c H locs cells slots Q (F0 m (pc + 1) ls (.ref (g j) :: rest))) : W p l e R s m args below meth c H locs cells slots Q (F0 m pc ls (.int i :: .ref a0 :: rest)) := by
  subst hj
  have hlt : i.toNatClampNeg < n := Nat.not_le.mp fun q => hin (Or.inr q)
  exact W.aald (v := .ref (g i.toNatClampNeg)) (ty := ty) F.1.1 F.1.2.1 (hP 0 _ rfl) ((F.2.1.1.2 t0 _ ht).1 n (fun j => va_rf (some (g j)))) hty (fun q => by cases q) (by show ¬ (i < 0 ∨ (arrV _ _ _).slots.size ≤ _); rw [arrV_size]; exact hin) (by show (arrV _ _ _).slots[_]? = _; rw [arrV_read _ _ hlt]; rfl) rfl rfl hdg kk
end XB2
section XBF
variable {l : Launch} {E : xE} {σ σ' : xM} {ws : List Cond} {rm : Room} {cc : ByteArray} {maxL : Nat} {av : List Value} {mc ms : Nat}
theorem x_ofF {r : Option FieldType} {C n d : String} (hy : plainFor ⟨C, n, d⟩ = true) (hw : ws = Cond.code ⟨C, n, d⟩ cc maxL r :: lw_all) (ha : (lg_sl av).length ≤ maxL) {Qc : Array Value → State → Outcome → State → Prop} {free : Addr → Prop}
    (body : ∀ (p : Program) (e : Env) (s : State) (m : MethodId) (below : List Frame) (meth : Method) (c : Code) (ls : Array Slot), xFx p m c cc maxL s av.toArray C E → meth.sig.returnType = r → meth.locks = false → xW E σ s.heap → va_S (xA E) s.heap s.heap [] → lv_has ls maxL (lv_args 0 av) →
      W p l e rm s m av.toArray below meth c s.heap [] 0 0 (MQ below Qc av.toArray s mc ms free) (F0 m 0 ls [])) : Met l ⟨C, n, d⟩ ws rm (xPc E σ av) Qc mc ms free := by
  refine va_MetF (cc := cc) (maxL := maxL) (ret := r) hy hw ?_
  intro p e s m args below meth c s₁ B hml hv
  obtain ⟨rfl, hK, hG, hW⟩ := hv
  have hts := atoms_spec (ws := ws) B.pre
  have hts : ∀ w ∈ lw_all, w.before _ s = true := fun w h => hts w (by rw [hw]; exact List.mem_cons_of_mem _ h)
  have hl := lv_entry av (n := maxL) ha
  rw [lg_entry_eq]
  generalize (lg_sl av ++ List.replicate (maxL - (lg_sl av).length) Slot.unset).toArray = ls at hl ⊢
  exact body p e s m below meth c ls ⟨⟨B.exec, B.bytes, hml, findClass_of_methodNamed B.named, hts⟩, hK, hG⟩ B.returns B.notSynchronized hW va_S.rf hl
end XBF
