set_option maxRecDepth 100000
section XLD
variable {p : Program} {l : Launch} {e : Env} {R : Room} {s : State} {m : MethodId} {args : Array Value} {below : List Frame} {meth : Method} {c : Code} {H : Heap} {locs : List Loc} {cells slots : Nat} {Q : State → Prop}
variable {cc : ByteArray} {pc : Nat} {ls : Array Slot} {rest : List Value}
theorem va_ldcSw (hexec : p.tables.exec = Jvm.exec) (hb : c.code = cc) {own tx : String} {index q : Nat} (hown : s.vm.findClass own = some m.cls) (hZ : vk_R own index tx q s) (hdg : decode cc pc = .ok (.ldc_w index, 3))
    (k : W p l e R s m args below meth c H locs cells slots Q (F0 m (pc + 3) ls (.ref q :: rest))) : W p l e R s m args below meth c H locs cells slots Q (F0 m pc ls rest) := by
  intro T hT X
  obtain ⟨t, a1, b1⟩ := k T hT X
  refine ⟨t, ?_, b1⟩
  obtain ⟨k, cf, i, a', hk, hcf, hcp, -, hr, hev'⟩ := Cond.stringRef_spec hown hZ.1
  cases hZ.2.symm.trans hev'
  obtain ⟨k', hk', he⟩ := X.warmed.alike.2.2 _ _ hk
  have hr' : k'.resolved[index]? = some (some (.string q)) := by
    rcases X.warmed.entry hk hk' index with h | ⟨h, -⟩
    · rw [h]; exact hr
    · rw [hr] at h; cases h
  subst hb
  jvm_step X.here [hexec, hdg, ldc_w.wp_string (e := e) (s := T) (f := F0 m pc ls rest) X.here.top hk' (by rw [he]; exact hcf) hcp hr']
  exact a1
end XLD
theorem xs_195 : xsh 195 = (2, 6, 7) ∧ ∀ j, j < 7 → xlc 195 j = (6, j, 0) := by decide +kernel
theorem xR_195 {E : xE} {σ : xM} {H : Heap} (hW : xW E σ H) : va_P (xD E) xCl [(xa E 195, .inl (xak E 6, 7, .inr (.inr (.inr (.inr (fun j => some (xks E j)))))))] H := by
  intro j q hq
  have h0 : j < 1 := (List.getElem?_eq_some_iff.mp hq).1
  rw [show j = 0 by omega] at hq
  cases hq
  have h := hW.1 195 (by decide)
  unfold xent at h
  rw [xs_195.1] at h
  have hH' : H[xa E 195]? = some (arrV (xak E 6) 7 (fun j => va_rf (xR E (xlc 195 j)))) := h
  show H[xa E 195]? = some (arrV (xak E 6) 7 (fun j => va_rf (some (xks E j))))
  rw [hH']
  rfl
theorem xk_0 {E : xE} {s : State} (h : xK E s) : vk_R RX13 36 "bell" (xks E 0) s := h.2.2.2.1 0 (by decide) ("WildBellsModel", 36, "bell") rfl
theorem xk_1 {E : xE} {s : State} (h : xK E s) : vk_R RX13 38 "herd" (xks E 1) s := h.2.2.2.1 1 (by decide) ("WildBellsModel", 38, "herd") rfl
theorem xk_2 {E : xE} {s : State} (h : xK E s) : vk_R RX13 40 "lone" (xks E 2) s := h.2.2.2.1 2 (by decide) ("WildBellsModel", 40, "lone") rfl
theorem xk_3 {E : xE} {s : State} (h : xK E s) : vk_R RX13 42 "tenor" (xks E 3) s := h.2.2.2.1 3 (by decide) ("WildBellsModel", 42, "tenor") rfl
theorem xk_4 {E : xE} {s : State} (h : xK E s) : vk_R RX13 44 "eldest" (xks E 4) s := h.2.2.2.1 4 (by decide) ("WildBellsModel", 44, "eldest") rfl
theorem xk_5 {E : xE} {s : State} (h : xK E s) : vk_R RX13 46 "tame" (xks E 5) s := h.2.2.2.1 5 (by decide) ("WildBellsModel", 46, "tame") rfl
theorem xk_6 {E : xE} {s : State} (h : xK E s) : vk_R RX13 48 "young" (xks E 6) s := h.2.2.2.1 6 (by decide) ("WildBellsModel", 48, "young") rfl
theorem xk_7 {E : xE} {s : State} (h : xK E s) : vk_R RX13 307 "at" (xks E 7) s := h.2.2.2.1 7 (by decide) ("WildBellsModel", 307, "at") rfl
theorem xk_8 {E : xE} {s : State} (h : xK E s) : vk_R RX13 314 "note" (xks E 8) s := h.2.2.2.1 8 (by decide) ("WildBellsModel", 314, "note") rfl
theorem xk_9 {E : xE} {s : State} (h : xK E s) : vk_R RX13 316 "weight" (xks E 9) s := h.2.2.2.1 9 (by decide) ("WildBellsModel", 316, "weight") rfl
theorem xk_10 {E : xE} {s : State} (h : xK E s) : vk_R RX13 322 "net" (xks E 10) s := h.2.2.2.1 10 (by decide) ("WildBellsModel", 322, "net") rfl
theorem xk_11 {E : xE} {s : State} (h : xK E s) : vk_R RX13 324 "thick" (xks E 11) s := h.2.2.2.1 11 (by decide) ("WildBellsModel", 324, "thick") rfl
theorem xk_12 {E : xE} {s : State} (h : xK E s) : vk_R RX13 326 "hunter" (xks E 12) s := h.2.2.2.1 12 (by decide) ("WildBellsModel", 326, "hunter") rfl
theorem xk_13 {E : xE} {s : State} (h : xK E s) : vk_R RX13 328 "fear" (xks E 13) s := h.2.2.2.1 13 (by decide) ("WildBellsModel", 328, "fear") rfl
theorem xk_14 {E : xE} {s : State} (h : xK E s) : vk_R RX2 74 "bell  herd  lone  tenor eldesttame  young net   thick hunterfear  at    note  weight" (xks E 14) s := h.2.2.2.1 14 (by decide) ("WildBells$Reader", 74, "bell  herd  lone  tenor eldesttame  young net   thick hunterfear  at    note  weight") rfl
