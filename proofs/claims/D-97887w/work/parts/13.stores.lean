set_option maxRecDepth 100000
/-- a slot of the world's array k, after a store -/
theorem xW.arrSet {E : xE} {σ : xM} {H H1 : Heap} (hW : xW E σ H) (k a n v : Nat) (g : Nat → Nat) (hk : k < 201) (hs : xsh k = (1, a, n)) (hl : ∀ j, j < n → xlc k j = (0, v, g j)) (hv : v < 13 ∨ 16 ≤ v) {j0 : Nat} (hj : j0 < n) {x : Int32}
    (h1 : H1[xa E k]? = some (arrV (xak E a) n (updV (fun j => .int (σ v (g j))) j0 (.int x)))) (hz : H1.size = H.size) (oq : ∀ q, q ≠ xa E k → H1[q]? = H[q]?) : xW E (xup σ v (g j0) x) H1 := by
  have hlen : ∀ j, j < n → j < (xsh k).2.2 := fun j h => by rw [hs]; exact h
  have ho : ∀ j, j < n → xown v (g j) = k ∧ xslt v (g j) = j := fun j h => by
    have h2 := xown_ok k hk j (hlen j h) (by rw [hl j h]; exact Or.inl rfl)
    rw [hl j h] at h2
    exact h2
  have hk0 := (ho j0 hj).1
  refine hW.upd hv hz (by rw [hk0]; exact oq) ?_ (by rw [hk0]; exact hk)
  rw [hk0]
  unfold xent
  rw [hs]
  show H1[xa E k]? = some (arrV (xak E a) n (fun j => .int (xup σ v (g j0) x (xlc k j).2.1 (xlc k j).2.2)))
  rw [h1]
  congr 1
  unfold arrV
  congr 2
  funext j
  simp only [hl j.val j.isLt]
  unfold updV xup
  by_cases e : j.val = j0
  · simp [e]
  · have e2 : ¬ g j.val = g j0 := fun q => e (by rw [← (ho j.val j.isLt).2, ← (ho j0 hj).2, q])
    simp [e, e2]
section XS
variable {p : Program} {l : Launch} {e : Env} {R : Room} {s : State} {m : MethodId} {args : Array Value} {below : List Frame} {meth : Method} {c : Code} {H : Heap} {locs : List Loc} {cells slots : Nat} {Q : State → Prop}
variable {cc : ByteArray} {nL : Nat} {own : String} {E : xE} {σ : xM} {pc : Nat} {ls : Array Slot} {rest : List Value}
theorem xA_xa (E : xE) (k : Nat) : xA E (xa E k) := Nat.le_add_right _ _
theorem x_iast (F : xFx p m c cc nL s args own E) (hW : xW E σ H) (hS : va_S (xA E) s.heap H locs) (k n v : Nat) (g : Nat → Nat) (hk : k < 201) (hs : xsh k = (1, 0, n)) (hl : ∀ j, j < n → xlc k j = (0, v, g j)) (hv : v < 13 ∨ 16 ≤ v) {i x : Int32} (hin : vp_in i n) (hdg : decode cc pc = .ok (.iastore, 1))
    (kk : ∀ (H1 : Heap) (locs1 : List Loc), xW E (xup σ v (g i.toNatClampNeg) x) H1 → va_S (xA E) s.heap H1 locs1 → W p l e R s m args below meth c H1 locs1 cells slots Q (F0 m (pc + 1) ls rest)) : W p l e R s m args below meth c H locs cells slots Q (F0 m pc ls (.int x :: .int i :: .ref (xa E k) :: rest)) := by
  have hlt : i.toNatClampNeg < n := Nat.not_le.mp fun q => hin (Or.inr q)
  have hP := hW.arr k 0 n v g hk hs hl
  refine W.iast F.1.1 F.1.2.1 (hP 0 _ rfl) ((F.2.1.1.2 0 _ rfl).1 n (fun j => .int (σ v (g j)))) (fun q => by cases q) (by show ¬ (i < 0 ∨ (arrV _ _ _).slots.size ≤ _); rw [arrV_size]; exact hin) rfl rfl hdg fun H1 e z oq => ?_
  refine kk H1 _ (hW.arrSet k 0 n v g hk hs hl hv hlt ?_ z oq) (hS.put z oq (xA_xa E k))
  rw [e, vp_cell_i, arrV_store]
theorem x_bast (F : xFx p m c cc nL s args own E) (hW : xW E σ H) (hS : va_S (xA E) s.heap H locs) (k n v : Nat) (g : Nat → Nat) (hk : k < 201) (hs : xsh k = (1, 1, n)) (hl : ∀ j, j < n → xlc k j = (0, v, g j)) (hv : v < 13 ∨ 16 ≤ v) {i x : Int32} (hin : vp_in i n) (hdg : decode cc pc = .ok (.bastore, 1))
    (kk : ∀ (H1 : Heap) (locs1 : List Loc), xW E (xup σ v (g i.toNatClampNeg) x.toInt8.toInt32) H1 → va_S (xA E) s.heap H1 locs1 → W p l e R s m args below meth c H1 locs1 cells slots Q (F0 m (pc + 1) ls rest)) : W p l e R s m args below meth c H locs cells slots Q (F0 m pc ls (.int x :: .int i :: .ref (xa E k) :: rest)) := by
  have hlt : i.toNatClampNeg < n := Nat.not_le.mp fun q => hin (Or.inr q)
  have hP := hW.arr k 1 n v g hk hs hl
  refine W.bast F.1.1 F.1.2.1 (hP 0 _ rfl) ((F.2.1.1.2 1 _ rfl).1 n (fun j => .int (σ v (g j)))) (fun q => by cases q) (by show ¬ (i < 0 ∨ (arrV _ _ _).slots.size ≤ _); rw [arrV_size]; exact hin) rfl rfl hdg fun H1 e z oq => ?_
  refine kk H1 _ (hW.arrSet k 1 n v g hk hs hl hv hlt ?_ z oq) (hS.put z oq (xA_xa E k))
  rw [e, vp_cell_i, narrow_byte, arrV_store]
theorem x_zast (F : xFx p m c cc nL s args own E) (hW : xW E σ H) (hS : va_S (xA E) s.heap H locs) (k n v : Nat) (g : Nat → Nat) (hk : k < 201) (hs : xsh k = (1, 3, n)) (hl : ∀ j, j < n → xlc k j = (0, v, g j)) (hv : v < 13 ∨ 16 ≤ v) {i x : Int32} (hin : vp_in i n) (hdg : decode cc pc = .ok (.bastore, 1))
    (kk : ∀ (H1 : Heap) (locs1 : List Loc), xW E (xup σ v (g i.toNatClampNeg) (vp_nar .boolean x)) H1 → va_S (xA E) s.heap H1 locs1 → W p l e R s m args below meth c H1 locs1 cells slots Q (F0 m (pc + 1) ls rest)) : W p l e R s m args below meth c H locs cells slots Q (F0 m pc ls (.int x :: .int i :: .ref (xa E k) :: rest)) := by
  have hlt : i.toNatClampNeg < n := Nat.not_le.mp fun q => hin (Or.inr q)
  have hP := hW.arr k 3 n v g hk hs hl
  refine W.zast F.1.1 F.1.2.1 (hP 0 _ rfl) ((F.2.1.1.2 3 _ rfl).1 n (fun j => .int (σ v (g j)))) (fun q => by cases q) (by show ¬ (i < 0 ∨ (arrV _ _ _).slots.size ≤ _); rw [arrV_size]; exact hin) rfl rfl hdg fun H1 e z oq => ?_
  refine kk H1 _ (hW.arrSet k 3 n v g hk hs hl hv hlt ?_ z oq) (hS.put z oq (xA_xa E k))
  rw [e, vp_cell_i, arrV_store]
  rfl
/-- a field of the world's object k, after a store -/
theorem xW.fldSet {H1 : Heap} (hW : xW E σ H) (k ci N j0 v i : Nat) (hk : k < 201) (hs : xsh k = (0, ci, N)) (hj : j0 < N) (hl : xlc k j0 = (0, v, i)) (hv : v < 13 ∨ 16 ≤ v) {x : Int32}
    (h1 : va_at (xD E) xCl (xa E k, .inr (ci, ((List.range N).map (fun j => xcv E σ (xlc k j))).set j0 (.int x))) H1) (hz : H1.size = H.size) (oq : ∀ q, q ≠ xa E k → H1[q]? = H[q]?) : xW E (xup σ v i x) H1 := by
  have h2 := xown_ok k hk j0 (by rw [hs]; exact hj) (by rw [hl]; exact Or.inl rfl)
  rw [hl] at h2
  have hk0 : xown v i = k := h2.1
  have hs0 : xslt v i = j0 := h2.2
  refine hW.upd hv hz (by rw [hk0]; exact oq) ?_ (by rw [hk0]; exact hk)
  rw [hk0]
  unfold xent
  rw [hs]
  have e : (List.range N).map (fun j => xcv E (xup σ v i x) (xlc k j)) = ((List.range N).map (fun j => xcv E σ (xlc k j))).set j0 (.int x) := by
    apply List.ext_getElem
    · simp
    · intro j q1 q2
      have hjN : j < N := by simpa using q1
      rw [List.getElem_map, List.getElem_range, List.getElem_set]
      by_cases ej : j0 = j
      · subst ej
        rw [if_pos rfl, hl]
        simp [xcv, xup]
      · rw [if_neg ej, List.getElem_map, List.getElem_range]
        refine xcv_up (by omega) (fun hc ⟨e1, e2⟩ => ej ?_)
        have h3 := xown_ok k hk j (by rw [hs]; exact hjN) hc
        rw [e1, e2] at h3
        exact hs0.symm.trans h3.2
  show va_at (xD E) xCl (xa E k, .inr (ci, (List.range N).map (fun j => xcv E (xup σ v i x) (xlc k j)))) H1
  rw [e]
  exact h1
theorem x_put {ref C : String} {T : u_T} {N ci index : Nat} (F : xFx p m c cc nL s args own E) (hW : xW E σ H) (hS0 : va_S (xA E) s.heap H locs) (hin : ∀ w ∈ u_ws C T N, w ∈ lw_all) (ty0 : Nat → FieldType) (hty : ∀ k, k < N → parseFieldDescriptor (T k).2.2.1 = some (ty0 k)) (hnm : ∀ a, a < N → ∀ b, b < N → a ≠ b → (T a).2.1 ≠ (T b).2.1) (hc : xCl[ci]? = some (C, T, N)) (k j0 v i : Nat) (hk : k < 201) (hs : xsh k = (0, ci, N)) (hj : j0 < N) (hl : xlc k j0 = (0, v, i)) (hv : v < 13 ∨ 16 ≤ v)
    (hlink : (Cond.fieldLink own index ref (T j0).2.1 (T j0).2.2.1).before args s = true) (hsame : ∀ x, s.fieldFound? (T j0).1 (T j0).2.1 (T j0).2.2.1 = some x → s.fieldFound? ref (T j0).2.1 (T j0).2.2.1 = some x) (hfin : (T j0).2.2.2 = false) {ty : FieldType} {x : Int32} (hd : parseFieldDescriptor (T j0).2.2.1 = some ty) (hn : narrow ty (.int x) = .int x) (hfit : fits ty (.int x) = true) (hdg : decode cc pc = .ok (.putfield index, 3))
    (kk : ∀ (H1 : Heap) (locs1 : List Loc), xW E (xup σ v i x) H1 → va_S (xA E) s.heap H1 locs1 → W p l e R s m args below meth c H1 locs1 cells slots Q (F0 m (pc + 3) ls rest)) : W p l e R s m args below meth c H locs cells slots Q (F0 m pc ls (.int x :: .ref (xa E k) :: rest)) := by
  have hts := F.1.2.2.2.2
  have hK := F.2.1.1
  have hap := va_apart (own := own) hts hin ty0 hty hnm hK hc
  obtain ⟨r, h1, cell, q1, q2, q3, q4⟩ := (hW.obj k ci N hk hs rfl) 0 _ rfl
  have hr : r = (C, T, N) := Option.some.inj (h1.symm.trans hc)
  subst hr
  obtain ⟨hSl, hfc, kC, hkC, hkind⟩ := hK.1 ci _ hc
  obtain ⟨cf, kf, fi, f, hi, hsl⟩ := hSl j0 hj
  have hlay := hts _ (hin _ (u_in_lay hj))
  unfold u_lay at hlay
  rw [if_neg (by rw [hfin]; decide)] at hlay
  have hst := (u_facts hfc hkC (u_lays hts hin hj) hi).1
  have h6 := u_store hfc hkC hkind hlay hi hd hn hfit
  refine W.putK F.1.1 F.1.2.1 (f := f) ⟨F.1.2.2.2.1, hlink, ⟨_, _, _, hsame _ hi⟩, hst⟩ (by rw [q2]; exact h6) q1 q3 (by rw [hsl]; exact k2_hasslot (q4 j0 hj)) rfl rfl hdg fun H' e1 e2 e3 => ?_
  rw [hsl] at e1 ⊢
  exact kk H' _ (hW.fldSet k ci N j0 v i hk hs hj hl hv ⟨_, hc, t_OB.to (V := updV (vp_V _) j0 (.int x)) ⟨_, e1, q2, q3, t_set q4 hap hj (.int x)⟩ (fun j _ => vp_updV_set (by simpa using hj) (.int x) j)⟩ e2 e3) (hS0.put e2 e3 (xA_xa E k))
theorem x_putN {ref C host : String} {T : u_T} {N ci index : Nat} (F : xFx p m c cc nL s args own E) (hW : xW E σ H) (hS0 : va_S (xA E) s.heap H locs) (hin : ∀ w ∈ u_ws C T N, w ∈ lw_all) (ty0 : Nat → FieldType) (hty : ∀ k, k < N → parseFieldDescriptor (T k).2.2.1 = some (ty0 k)) (hnm : ∀ a, a < N → ∀ b, b < N → a ≠ b → (T a).2.1 ≠ (T b).2.1) (hc : xCl[ci]? = some (C, T, N)) (k j0 v i : Nat) (hk : k < 201) (hs : xsh k = (0, ci, N)) (hj : j0 < N) (hl : xlc k j0 = (0, v, i)) (hv : v < 13 ∨ 16 ≤ v)
    (hlink : (Cond.fieldLinkNest own index ref (T j0).2.1 (T j0).2.2.1 host).before args s = true) (hsame : ∀ x, s.fieldFound? (T j0).1 (T j0).2.1 (T j0).2.2.1 = some x → s.fieldFound? ref (T j0).2.1 (T j0).2.2.1 = some x) (hfin : (T j0).2.2.2 = false) {ty : FieldType} {x : Int32} (hd : parseFieldDescriptor (T j0).2.2.1 = some ty) (hn : narrow ty (.int x) = .int x) (hfit : fits ty (.int x) = true) (hdg : decode cc pc = .ok (.putfield index, 3))
    (kk : ∀ (H1 : Heap) (locs1 : List Loc), xW E (xup σ v i x) H1 → va_S (xA E) s.heap H1 locs1 → W p l e R s m args below meth c H1 locs1 cells slots Q (F0 m (pc + 3) ls rest)) : W p l e R s m args below meth c H locs cells slots Q (F0 m pc ls (.int x :: .ref (xa E k) :: rest)) := by
  have hts := F.1.2.2.2.2
  have hK := F.2.1.1
  have hap := va_apart (own := own) hts hin ty0 hty hnm hK hc
  obtain ⟨r, h1, cell, q1, q2, q3, q4⟩ := (hW.obj k ci N hk hs rfl) 0 _ rfl
  have hr : r = (C, T, N) := Option.some.inj (h1.symm.trans hc)
  subst hr
  obtain ⟨hSl, hfc, kC, hkC, hkind⟩ := hK.1 ci _ hc
  obtain ⟨cf, kf, fi, f, hi, hsl⟩ := hSl j0 hj
  have hlay := hts _ (hin _ (u_in_lay hj))
  unfold u_lay at hlay
  rw [if_neg (by rw [hfin]; decide)] at hlay
  have hst := (u_facts hfc hkC (u_lays hts hin hj) hi).1
  have h6 := u_store hfc hkC hkind hlay hi hd hn hfit
  refine va_WputK F.1.1 F.1.2.1 (f := f) F.1.2.2.2.1 hlink (hsame _ hi) hst (by rw [q2]; exact h6) q1 q3 (by rw [hsl]; exact k2_hasslot (q4 j0 hj)) rfl rfl hdg fun H' e1 e2 e3 => ?_
  rw [hsl] at e1 ⊢
  exact kk H' _ (hW.fldSet k ci N j0 v i hk hs hj hl hv ⟨_, hc, t_OB.to (V := updV (vp_V _) j0 (.int x)) ⟨_, e1, q2, q3, t_set q4 hap hj (.int x)⟩ (fun j _ => vp_updV_set (by simpa using hj) (.int x) j)⟩ e2 e3) (hS0.put e2 e3 (xA_xa E k))
/-- the ways out -/
theorem x_F {H0 : State} {H1 : Heap} {locs1 : List Loc} (hS : va_S (xA E) H0.heap H1 locs1) {t : State} (ht : t.heap = H1) : va_F (xA E) H0 t := ⟨by rw [ht]; exact hS.1, fun q h1 h2 => by rw [ht]; exact hS.2.1 q h1 h2⟩
theorem x_iret (F : xFx p m c cc nL s args own E) (hr : meth.sig.returnType = some .int) (hlocks : meth.locks = false) (hW : xW E σ H) (hS : va_S (xA E) s.heap H locs) {v : Int32} (hdg : decode cc pc = .ok (.ireturn, 1)) : W p l e R s m args below meth c H locs cells slots (MQ below (xQc E (.returned (some (.int v))) σ) args s cells slots (xA E)) (F0 m pc ls [.int v]) :=
  W.iret F.1.1 F.1.2.1 hr (fun t ht _ => ⟨rfl, by rw [ht]; exact hW, x_F hS ht⟩) hS.2.2 hdg hlocks
theorem x_zret (F : xFx p m c cc nL s args own E) {ty : FieldType} (hr : meth.sig.returnType = some ty) (hlocks : meth.locks = false) (hW : xW E σ H) (hS : va_S (xA E) s.heap H locs) {v : Int32} (hn : narrow ty (.int v) = .int v) (hdg : decode cc pc = .ok (.ireturn, 1)) : W p l e R s m args below meth c H locs cells slots (MQ below (xQc E (.returned (some (.int v))) σ) args s cells slots (xA E)) (F0 m pc ls [.int v]) :=
  W.zret F.1.1 F.1.2.1 hr hn (fun t ht _ => ⟨rfl, by rw [ht]; exact hW, x_F hS ht⟩) hS.2.2 hdg hlocks
theorem x_vret (F : xFx p m c cc nL s args own E) (hr : meth.sig.returnType = none) (hlocks : meth.locks = false) (hW : xW E σ H) (hS : va_S (xA E) s.heap H locs) (hdg : decode cc pc = .ok (.return_, 1)) : W p l e R s m args below meth c H locs cells slots (MQ below (xQc E (.returned none) σ) args s cells slots (xA E)) (F0 m pc ls []) :=
  W.vret F.1.1 F.1.2.1 hr (fun t ht _ => ⟨rfl, by rw [ht]; exact hW, x_F hS ht⟩) hS.2.2 hdg hlocks
end XS
section XB
variable {l : Launch} {E : xE} {σ σ' : xM} {y : MethodName} {ws ws' : List Cond} {rm : Room} {cc : ByteArray} {maxL : Nat} {ret : Option FieldType} {av : List Value} {oc : Outcome} {mc ms : Nat}
/-- a method's walk begins: what is fixed, the world, the locals -/
theorem x_of {r : Option FieldType} {C n d : String} (hy : plainName C = true) (hw : ws = Cond.code ⟨C, n, d⟩ cc maxL r :: lw_all) (ha : (lg_sl av).length ≤ maxL) {Qc : Array Value → State → Outcome → State → Prop} {free : Addr → Prop}
    (body : ∀ (p : Program) (e : Env) (s : State) (m : MethodId) (below : List Frame) (meth : Method) (c : Code) (ls : Array Slot), xFx p m c cc maxL s av.toArray C E → meth.sig.returnType = r → meth.locks = false → xW E σ s.heap → va_S (xA E) s.heap s.heap [] → lv_has ls maxL (lv_args 0 av) →
      W p l e rm s m av.toArray below meth c s.heap [] 0 0 (MQ below Qc av.toArray s mc ms free) (F0 m 0 ls [])) : Met l ⟨C, n, d⟩ ws rm (xPc E σ av) Qc mc ms free := by
  refine Met.ofW (cc := cc) (maxL := maxL) (ret := r) hy hw ?_
  intro p e s m args below meth c s₁ B hml hv
  obtain ⟨rfl, hK, hG, hW⟩ := hv
  have hts := atoms_spec (ws := ws) B.pre
  have hts : ∀ w ∈ lw_all, w.before _ s = true := fun w h => hts w (by rw [hw]; exact List.mem_cons_of_mem _ h)
  have hl := lv_entry av (n := maxL) ha
  rw [lg_entry_eq]
  generalize (lg_sl av ++ List.replicate (maxL - (lg_sl av).length) Slot.unset).toArray = ls at hl ⊢
  exact body p e s m below meth c ls ⟨⟨B.exec, B.bytes, hml, findClass_of_methodNamed B.named, hts⟩, hK, hG⟩ B.returns B.notSynchronized hW va_S.rf hl
end XB
