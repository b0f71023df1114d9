set_option maxRecDepth 100000
section XGP
variable {p : Program} {l : Launch} {e : Env} {R : Room} {s : State} {m : MethodId} {args : Array Value} {below : List Frame} {meth : Method} {c : Code} {H : Heap} {locs : List Loc} {cells slots : Nat} {Q : State → Prop}
variable {cc : ByteArray} {nL : Nat} {own : String} {E : xE} {n : Nat} {f : Nat → va_E} {pc : Nat} {ls : Array Slot} {rest : List Value}
/-- a field of a cell that is being made -/
theorem x_kput {ref C : String} {T : u_T} {N ci index : Nat} (F : xFk p m c cc nL s args own E) (hB : xB E n f H) (hS0 : va_S (xA E) s.heap H locs) (hin : ∀ w ∈ u_ws C T N, w ∈ lw_all) (ty0 : Nat → FieldType) (hty : ∀ k, k < N → parseFieldDescriptor (T k).2.2.1 = some (ty0 k)) (hnm : ∀ a, a < N → ∀ b, b < N → a ≠ b → (T a).2.1 ≠ (T b).2.1) (hc : xCl[ci]? = some (C, T, N)) (k j0 : Nat) (hk : k < n) {fs : List Value} (he : f k = .inr (ci, fs)) (hj : j0 < N) (hjl : j0 < fs.length)
    (hlink : (Cond.fieldLink own index ref (T j0).2.1 (T j0).2.2.1).before args s = true) (hsame : ∀ x, s.fieldFound? (T j0).1 (T j0).2.1 (T j0).2.2.1 = some x → s.fieldFound? ref (T j0).2.1 (T j0).2.2.1 = some x) (hfin : (T j0).2.2.2 = false) {ty : FieldType} {x : Value} (hd : parseFieldDescriptor (T j0).2.2.1 = some ty) (hn : narrow ty x = x) (hfit : fits ty x = true) (hdg : decode cc pc = .ok (.putfield index, 3))
    (kk : ∀ (H1 : Heap) (locs1 : List Loc), xB E n (xud f k (.inr (ci, fs.set j0 x))) H1 → va_S (xA E) s.heap H1 locs1 → W p l e R s m args below meth c H1 locs1 cells slots Q (F0 m (pc + 3) ls rest)) : W p l e R s m args below meth c H locs cells slots Q (F0 m pc ls (x :: .ref (xa E k) :: rest)) := by
  have hts := F.1.2.2.2.2
  have hK := F.2.1.1.1
  have hap := va_apart (own := own) hts hin ty0 hty hnm hK hc
  obtain ⟨r, h1, cell, q1, q2, q3, q4⟩ := (hB.P k hk he) 0 _ rfl
  have hr : r = (C, T, N) := Option.some.inj (h1.symm.trans hc)
  subst hr
  obtain ⟨hSl, hfc, kC, hkC, hkind⟩ := hK.1 ci _ hc
  obtain ⟨cf, kf, fi, fd, hi, hsl⟩ := hSl j0 hj
  have hlay := hts _ (hin _ (u_in_lay hj))
  unfold u_lay at hlay
  rw [if_neg (by rw [hfin]; decide)] at hlay
  have hst := (u_facts hfc hkC (u_lays hts hin hj) hi).1
  have h6 := u_store hfc hkC hkind hlay hi hd hn hfit
  refine W.putK F.1.1 F.1.2.1 (f := fd) ⟨F.1.2.2.2.1, hlink, ⟨_, _, _, hsame _ hi⟩, hst⟩ (by rw [q2]; exact h6) q1 q3 (by rw [hsl]; exact k2_hasslot (q4 j0 hj)) rfl rfl hdg fun H' e1 e2 e3 => ?_
  rw [hsl] at e1 ⊢
  exact kk H' _ (hB.set e2 e3 ⟨_, hc, t_OB.to (V := updV (vp_V _) j0 x) ⟨_, e1, q2, q3, t_set q4 hap hj x⟩ (fun j _ => vp_updV_set hjl x j)⟩) (hS0.put e2 e3 (xA_xa E k))
theorem x_kputN {ref C host : String} {T : u_T} {N ci index : Nat} (F : xFk p m c cc nL s args own E) (hB : xB E n f H) (hS0 : va_S (xA E) s.heap H locs) (hin : ∀ w ∈ u_ws C T N, w ∈ lw_all) (ty0 : Nat → FieldType) (hty : ∀ k, k < N → parseFieldDescriptor (T k).2.2.1 = some (ty0 k)) (hnm : ∀ a, a < N → ∀ b, b < N → a ≠ b → (T a).2.1 ≠ (T b).2.1) (hc : xCl[ci]? = some (C, T, N)) (k j0 : Nat) (hk : k < n) {fs : List Value} (he : f k = .inr (ci, fs)) (hj : j0 < N) (hjl : j0 < fs.length)
    (hlink : (Cond.fieldLinkNest own index ref (T j0).2.1 (T j0).2.2.1 host).before args s = true) (hsame : ∀ x, s.fieldFound? (T j0).1 (T j0).2.1 (T j0).2.2.1 = some x → s.fieldFound? ref (T j0).2.1 (T j0).2.2.1 = some x) (hfin : (T j0).2.2.2 = false) {ty : FieldType} {x : Value} (hd : parseFieldDescriptor (T j0).2.2.1 = some ty) (hn : narrow ty x = x) (hfit : fits ty x = true) (hdg : decode cc pc = .ok (.putfield index, 3))
    (kk : ∀ (H1 : Heap) (locs1 : List Loc), xB E n (xud f k (.inr (ci, fs.set j0 x))) H1 → va_S (xA E) s.heap H1 locs1 → W p l e R s m args below meth c H1 locs1 cells slots Q (F0 m (pc + 3) ls rest)) : W p l e R s m args below meth c H locs cells slots Q (F0 m pc ls (x :: .ref (xa E k) :: rest)) := by
  have hts := F.1.2.2.2.2
  have hK := F.2.1.1.1
  have hap := va_apart (own := own) hts hin ty0 hty hnm hK hc
  obtain ⟨r, h1, cell, q1, q2, q3, q4⟩ := (hB.P k hk he) 0 _ rfl
  have hr : r = (C, T, N) := Option.some.inj (h1.symm.trans hc)
  subst hr
  obtain ⟨hSl, hfc, kC, hkC, hkind⟩ := hK.1 ci _ hc
  obtain ⟨cf, kf, fi, fd, hi, hsl⟩ := hSl j0 hj
  have hlay := hts _ (hin _ (u_in_lay hj))
  unfold u_lay at hlay
  rw [if_neg (by rw [hfin]; decide)] at hlay
  have hst := (u_facts hfc hkC (u_lays hts hin hj) hi).1
  have h6 := u_store hfc hkC hkind hlay hi hd hn hfit
  refine va_WputK F.1.1 F.1.2.1 (f := fd) F.1.2.2.2.1 hlink (hsame _ hi) hst (by rw [q2]; exact h6) q1 q3 (by rw [hsl]; exact k2_hasslot (q4 j0 hj)) rfl rfl hdg fun H' e1 e2 e3 => ?_
  rw [hsl] at e1 ⊢
  exact kk H' _ (hB.set e2 e3 ⟨_, hc, t_OB.to (V := updV (vp_V _) j0 x) ⟨_, e1, q2, q3, t_set q4 hap hj x⟩ (fun j _ => vp_updV_set hjl x j)⟩) (hS0.put e2 e3 (xA_xa E k))
/-- a final field, in a constructor of the class that declares it -/
theorem x_kputF {ref C : String} {T : u_T} {N ci index : Nat} (F : xFk p m c cc nL s args own E) (hB : xB E n f H) (hS0 : va_S (xA E) s.heap H locs) (hin : ∀ w ∈ u_ws C T N, w ∈ lw_all) (ty0 : Nat → FieldType) (hty : ∀ k, k < N → parseFieldDescriptor (T k).2.2.1 = some (ty0 k)) (hap : ∀ s : State, ∀ args : Array Value, (∀ w ∈ lw_all, w.before args s = true) → va_K (xD E) xCl (xtys E) s → ∀ a, a < N → ∀ b, b < N → a ≠ b → (xD E).2 ci a ≠ (xD E).2 ci b) (hc : xCl[ci]? = some (C, T, N)) (k j0 : Nat) (hk : k < n) {fs : List Value} (he : f k = .inr (ci, fs)) (hj : j0 < N) (hjl : j0 < fs.length)
    (hlink : (Cond.fieldLink own index ref (T j0).2.1 (T j0).2.2.1).before args s = true) (hsame : ∀ x, s.fieldFound? (T j0).1 (T j0).2.1 (T j0).2.2.1 = some x → s.fieldFound? ref (T j0).2.1 (T j0).2.2.1 = some x) (hfin : (T j0).2.2.2 = true) (hin2 : meth.name = "<init>") (hdecl : (T j0).1 = own) {ty : FieldType} {x : Value} (hd : parseFieldDescriptor (T j0).2.2.1 = some ty) (hn : narrow ty x = x) (hfit : fits ty x = true) (hdg : decode cc pc = .ok (.putfield index, 3))
    (kk : ∀ (H1 : Heap) (locs1 : List Loc), xB E n (xud f k (.inr (ci, fs.set j0 x))) H1 → va_S (xA E) s.heap H1 locs1 → W p l e R s m args below meth c H1 locs1 cells slots Q (F0 m (pc + 3) ls rest)) : W p l e R s m args below meth c H locs cells slots Q (F0 m pc ls (x :: .ref (xa E k) :: rest)) := by
  have hts := F.1.2.2.2.2
  have hK := F.2.1.1.1
  have hap := hap s args hts hK
  obtain ⟨r, h1, cell, q1, q2, q3, q4⟩ := (hB.P k hk he) 0 _ rfl
  have hr : r = (C, T, N) := Option.some.inj (h1.symm.trans hc)
  subst hr
  obtain ⟨hSl, hfc, kC, hkC, hkind⟩ := hK.1 ci _ hc
  obtain ⟨cf, kf, fi, fd, hi, hsl⟩ := hSl j0 hj
  have hlay := hts _ (hin _ (u_in_lay hj))
  unfold u_lay at hlay
  rw [if_pos hfin] at hlay
  have hst := (u_facts hfc hkC (u_lays hts hin hj) hi).1
  have hcf : m.cls = cf := by
    obtain ⟨_, _, c', _, _, _, -, -, hf', -, -, -, hown2, -⟩ := Cond.laysFinal_spec hlay
    have e1 : c' = cf := by have := hi.symm.trans hf'; simp at this; exact this.1.symm
    rw [hdecl] at hown2
    rw [← e1]; exact Option.some.inj (F.1.2.2.2.1.symm.trans hown2)
  have h6 := u_fits hfc hkC hkind (Or.inr hlay) hi hd hn hfit
  refine W.putFinK F.1.1 F.1.2.1 F.1.2.2.2.1 hlink (hsame _ hi) hst hcf hin2 (by rw [q2]; exact h6) q1 q3 (by rw [hsl]; exact k2_hasslot (q4 j0 hj)) rfl rfl hdg fun H' e1 e2 e3 => ?_
  rw [hsl] at e1 ⊢
  exact kk H' _ (hB.set e2 e3 ⟨_, hc, t_OB.to (V := updV (vp_V _) j0 x) ⟨_, e1, q2, q3, t_set q4 (fun a b h1 h2 h3 => hap a h1 b h2 h3) hj x⟩ (fun j _ => vp_updV_set hjl x j)⟩) (hS0.put e2 e3 (xA_xa E k))
/-- an int of an array that is being made -/
theorem x_kiast (F : xFk p m c cc nL s args own E) (hB : xB E n f H) (hS : va_S (xA E) s.heap H locs) (k N : Nat) (hk : k < n) {g : Nat → Int32} (he : f k = .inl (xak E 0, N, .inl g)) {i x : Int32} (hin : vp_in i N) (hdg : decode cc pc = .ok (.iastore, 1))
    (kk : ∀ (H1 : Heap) (locs1 : List Loc), xB E n (xud f k (.inl (xak E 0, N, .inl (fun j => if j = i.toNatClampNeg then x else g j)))) H1 → va_S (xA E) s.heap H1 locs1 → W p l e R s m args below meth c H1 locs1 cells slots Q (F0 m (pc + 1) ls rest)) : W p l e R s m args below meth c H locs cells slots Q (F0 m pc ls (.int x :: .int i :: .ref (xa E k) :: rest)) := by
  have hP := hB.P k hk he
  refine W.iast F.1.1 F.1.2.1 (hP 0 _ rfl) ((F.2.1.1.1.2 0 _ rfl).1 N (fun j => .int (g j))) (fun q => by cases q) (by show ¬ (i < 0 ∨ (arrV _ _ _).slots.size ≤ _); rw [arrV_size]; exact hin) rfl rfl hdg fun H1 e z oq => ?_
  refine kk H1 _ (hB.set z oq ?_) (hS.put z oq (xA_xa E k))
  show H1[xa E k]? = some (vp_cell (xak E 0) (N, .inl (fun j => if j = i.toNatClampNeg then x else g j)))
  rw [e, vp_cell_i, vp_cell_i, arrV_store]
  congr 2
  funext q
  unfold updV
  by_cases hq : q = i.toNatClampNeg
  · simp [hq]
  · simp [hq]
theorem x_kvret (F : xFk p m c cc nL s args own E) (hr : meth.sig.returnType = none) (hlocks : meth.locks = false) (hB : xB E n f H) (hS : va_S (xA E) s.heap H locs) (hdg : decode cc pc = .ok (.return_, 1)) : W p l e R s m args below meth c H locs cells slots (MQ below (xQk E (.returned none) n f) args s cells slots (xA E)) (F0 m pc ls []) :=
  W.vret F.1.1 F.1.2.1 hr (fun t ht _ => ⟨rfl, by rw [ht]; exact hB, x_F hS ht⟩) hS.2.2 hdg hlocks
theorem x_karet (F : xFk p m c cc nL s args own E) {rt : FieldType} (hr : meth.sig.returnType = some rt) (hrt : (∃ n, rt = .object n) ∨ ∃ t, rt = .array t) (hlocks : meth.locks = false) (hB : xB E n f H) (hS : va_S (xA E) s.heap H locs) {v : Nat} (hdg : decode cc pc = .ok (.areturn, 1)) : W p l e R s m args below meth c H locs cells slots (MQ below (xQk E (.returned (some (.ref v))) n f) args s cells slots (xA E)) (F0 m pc ls [.ref v]) :=
  W.aret F.1.1 F.1.2.1 hr hrt (Or.inr ⟨v, rfl⟩) (fun t ht _ => ⟨rfl, by rw [ht]; exact hB, x_F hS ht⟩) hS.2.2 hdg hlocks
/-- back from a constructor -/
theorem x_kback {mc ms n' : Nat} {f' : Nat → va_E} {v : Option Value} {st0 : List Value} {a : Array Value} (hr : va_Run p l e R s m args below meth c H locs cells slots mc ms (F0 m pc ls st0) rest (xQk E (.returned v) n' f' a) (xA E)) (hS : va_S (xA E) s.heap H locs)
    (kk : ∀ (H1 : Heap) (locs1 : List Loc), xB E n' f' H1 → va_S (xA E) s.heap H1 locs1 → W p l e R s m args below meth c H1 locs1 (cells + mc) (slots + ms) Q (F0 m (pc + 3) ls (v.toList ++ rest))) : W p l e R s m args below meth c H locs cells slots Q (F0 m pc ls st0) := by
  intro T hT X
  obtain ⟨v', st₀, t, T', L, h0, X', hL, e1, e2, ⟨hv, hw, hz1, hk⟩, st⟩ := hr T hT X
  cases hv
  rw [h0] at hz1 hk
  obtain ⟨t2, a1, b1⟩ := kk T'.heap (locs ++ L) (by rw [e1]; exact hw)
    ⟨Nat.le_trans hS.1 (by rw [e1]; exact hz1), fun q h1 h2 => by rw [e1, hk q (Nat.lt_of_lt_of_le h1 hS.1) h2]; exact hS.2.1 q h1 h2, fun q hq => by
      rcases List.mem_append.mp hq with h | h
      · exact hS.2.2 q h
      · exact hL q h⟩ T' rfl X'
  exact ⟨t2, st t2 a1, b1⟩
end XGP
section XGH
variable {l : Launch} {E : xE} {n : Nat} {f : Nat → va_E} {ws : List Cond} {rm : Room} {cc : ByteArray} {maxL : Nat} {av : List Value} {mc ms : Nat}
/-- a constructor's walk begins -/
theorem x_ofK {r : Option FieldType} {C nm d : String} (hy : plainName C = true) (hw : ws = Cond.code ⟨C, nm, d⟩ cc maxL r :: lw_all) (ha : (lg_sl av).length ≤ maxL) {Qc : Array Value → State → Outcome → State → Prop} {free : Addr → Prop}
    (body : ∀ (p : Program) (e : Env) (s : State) (m : MethodId) (below : List Frame) (meth : Method) (c : Code) (ls : Array Slot), xFk p m c cc maxL s av.toArray C E → meth.sig.returnType = r → meth.locks = false → meth.name = nm → xB E n f s.heap → va_S (xA E) s.heap s.heap [] → lv_has ls maxL (lv_args 0 av) →
      W p l e rm s m av.toArray below meth c s.heap [] 0 0 (MQ below Qc av.toArray s mc ms free) (F0 m 0 ls [])) : Met l ⟨C, nm, d⟩ ws rm (xPk E n f av) Qc mc ms free := by
  refine Met.ofW (cc := cc) (maxL := maxL) (ret := r) hy hw ?_
  intro p e s m args below meth c s₁ B hml hv
  obtain ⟨rfl, hK, hG, hW⟩ := hv
  have hts := atoms_spec (ws := ws) B.pre
  have hts : ∀ w ∈ lw_all, w.before _ s = true := fun w h => hts w (by rw [hw]; exact List.mem_cons_of_mem _ h)
  have hl := lv_entry av (n := maxL) ha
  rw [lg_entry_eq]
  generalize (lg_sl av ++ List.replicate (maxL - (lg_sl av).length) Slot.unset).toArray = ls at hl ⊢
  exact body p e s m below meth c ls ⟨⟨B.exec, B.bytes, hml, findClass_of_methodNamed B.named, hts⟩, hK, hG⟩ B.returns B.notSynchronized (name_of_methodNamed B.named B.method).1 hW va_S.rf hl
end XGH
