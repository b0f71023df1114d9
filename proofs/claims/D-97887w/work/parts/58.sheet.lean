set_option maxRecDepth 100000
/-! a sheet is made anew: the sheets' addresses change -/
def xse (E : xE) (q : Nat → Nat) : xE := (E.1, E.2.1, E.2.2.1, E.2.2.2.1, q)
theorem xlc_5 : ∀ k, k < 201 → ∀ j, j < (xsh k).2.2 → (xlc k j).1 = 5 → 182 ≤ k ∧ (xlc k j).2.2 = k - 182 := by decide +kernel
theorem xent_q {E : xE} {σ σ' : xM} {q : Nat → Nat} {k : Nat} (hk : k < 201) (heq : ∀ a b, xown a b < 201 → σ' a b = σ a b) (h5 : ∀ j, j < (xsh k).2.2 → (xlc k j).1 = 5 → σ' 13 (xlc k j).2.2 = σ 13 (xlc k j).2.2 ∧ q (xlc k j).2.2 = xq E (xlc k j).2.2) {H : Heap} (hH : va_at (xD E) xCl (xa E k, xent E σ k) H) : va_at (xD E) xCl (xa E k, xent (xse E q) σ' k) H := by
  have key : ∀ j, j < (xsh k).2.2 → ((xlc k j).1 = 0 ∨ (xlc k j).1 = 4) → σ' (xlc k j).2.1 (xlc k j).2.2 = σ (xlc k j).2.1 (xlc k j).2.2 := by
    intro j hj hc
    exact heq _ _ (by rw [(xown_ok k hk j hj hc).1]; exact hk)
  unfold xent at hH ⊢
  by_cases h0 : (xsh k).1 = 0
  · rw [if_pos h0] at hH ⊢
    have e : (List.range (xsh k).2.2).map (fun j => xcv (xse E q) σ' (xlc k j)) = (List.range (xsh k).2.2).map (fun j => xcv E σ (xlc k j)) := by
      apply List.map_congr_left
      intro j hj
      have hj := List.mem_range.mp hj
      have kj := key j hj
      have k5 := h5 j hj
      unfold xcv
      by_cases c0 : (xlc k j).1 = 0
      · rw [if_pos c0, if_pos c0, kj (Or.inl c0)]
      · by_cases c4 : (xlc k j).1 = 4
        · simp only [c4, kj (Or.inr c4)]
          rfl
        · by_cases c5 : (xlc k j).1 = 5
          · have k6 := k5 c5
            simp only [c5, k6.1]
            show va_rf (if σ 13 (xlc k j).2.2 = 0 then none else some (q (xlc k j).2.2)) = va_rf (if σ 13 (xlc k j).2.2 = 0 then none else some (xq E (xlc k j).2.2))
            rw [k6.2]
          · simp only [c0, c4, c5, if_false]
            rfl
    rw [e]
    exact hH
  · rw [if_neg h0] at hH ⊢
    by_cases h1 : (xsh k).1 = 1
    · rw [if_pos h1] at hH ⊢
      have hH' : H[xa E k]? = some (arrV (xak E (xsh k).2.1) (xsh k).2.2 (fun j => .int (σ (xlc k j).2.1 (xlc k j).2.2))) := hH
      show H[xa E k]? = some (arrV (xak E (xsh k).2.1) (xsh k).2.2 (fun j => .int (σ' (xlc k j).2.1 (xlc k j).2.2)))
      rw [hH']
      congr 1
      unfold arrV
      congr 2
      funext j
      have hj0 := ((xkind_ok k hk).1 h1 j.val j.isLt)
      simp only [key j.val j.isLt (Or.inl hj0)]
    · rw [if_neg h1] at hH ⊢
      exact hH
/-- the memory with a new sheet -/
def xns (σ : xM) (j : Nat) (w n : Int32) : xM := fun v i => if v = 13 ∧ i = j then w else if v = 14 ∧ i = j then n else if v = 15 ∧ 40 * j ≤ i ∧ i < 40 * j + 40 then 0 else σ v i
def xqe (E : xE) (j a : Nat) : Nat → Nat := fun t => if t = j then a else xq E t
def xQe (E : xE) (oc : Outcome) (σ : xM) : Array Value → State → Outcome → State → Prop := fun av st o t => ∃ q, xQc (xse E q) oc σ av st o t
section XNS
variable {p : Program} {l : Launch} {e : Env} {R : Room} {s : State} {m : MethodId} {args : Array Value} {below : List Frame} {meth : Method} {c : Code} {H : Heap} {locs : List Loc} {cells slots : Nat} {Q : State → Prop}
variable {cc : ByteArray} {nL : Nat} {E : xE} {σ : xM} {pc : Nat} {ls : Array Slot} {rest : List Value} {own : String}
theorem x_Fq (F : xFx p m c cc nL s args own E) (q : Nat → Nat) : xFx p m c cc nL s args own (xse E q) := ⟨F.1, F.2.1, F.2.2⟩
theorem xQe.of {q : Nat → Nat} {oc : Outcome} {a : Array Value} (t : State) (h : MQ below (xQc (xse E q) oc σ) a s 1 40 (xA E) t) : MQ below (xQe E oc σ) a s 1 40 (xA E) t := by
  obtain ⟨o, h1, h2, h3, h4⟩ := h
  exact ⟨o, h1, h2, ⟨q, h3⟩, h4⟩
theorem xW.shNew {H1 : Heap} (hW : xW E σ H) (j : Nat) (hj : j < 4) (hs : xs40 σ) {w n : Int32} {a : Nat} (hn : n.toNatClampNeg ≤ 40) {v : Value} (hv : v = va_rf (if w = 0 then none else some a))
    (h0 : va_at (xD E) xCl (xa E (182 + j), .inr (5, [v])) H1) (oq : ∀ q, q ≠ xa E (182 + j) → H1[q]? = H[q]?)
    (hnew : ¬ w = 0 → H[a]? = some (arrV (xak E (xsk w)) n.toNatClampNeg (fun _ => .int 0)) ∧ xz E + 201 ≤ a ∧ ∀ t, t < 4 → ¬ σ 13 t = 0 → xq E t ≠ a) : xW (xse E (xqe E j a)) (xns σ j w n) H1 := by
  have hoff : ∀ x y, xown x y < 201 → xns σ j w n x y = σ x y := by
    intro x y hxy
    unfold xns
    have h13 : ¬ x = 13 := fun q => by subst q; have : xown 13 y = 999 := rfl; omega
    have h14 : ¬ x = 14 := fun q => by subst q; have : xown 14 y = 999 := rfl; omega
    have h15 : ¬ x = 15 := fun q => by subst q; have : xown 15 y = 999 := rfl; omega
    rw [if_neg (fun q => h13 q.1), if_neg (fun q => h14 q.1), if_neg (fun q => h15 q.1)]
  have a13 : xns σ j w n 13 j = w := by unfold xns; rw [if_pos ⟨rfl, rfl⟩]
  have a14 : xns σ j w n 14 j = n := by unfold xns; rw [if_neg (fun q => by omega), if_pos ⟨rfl, rfl⟩]
  have b13 : ∀ t, t ≠ j → xns σ j w n 13 t = σ 13 t := fun t ht => by unfold xns; rw [if_neg (fun q => ht q.2), if_neg (fun q => by omega), if_neg (fun q => by omega)]
  have b14 : ∀ t, t ≠ j → xns σ j w n 14 t = σ 14 t := fun t ht => by unfold xns; rw [if_neg (fun q => by omega), if_neg (fun q => ht q.2), if_neg (fun q => by omega)]
  have cq : ∀ t, t ≠ j → xqe E j a t = xq E t := fun t ht => by unfold xqe; rw [if_neg ht]
  have cj : xqe E j a j = a := by unfold xqe; rw [if_pos rfl]
  refine ⟨fun k hk => ?_, fun t ht h => ?_, fun x y hx hy h1 h2 hxy => ?_⟩
  · show va_at (xD E) xCl (xa E k, xent (xse E (xqe E j a)) (xns σ j w n) k) H1
    by_cases hkj : k = 182 + j
    · subst hkj
      unfold xent
      rw [(xs_ss j hj).1]
      show va_at (xD E) xCl (xa E (182 + j), .inr (5, [xcv (xse E (xqe E j a)) (xns σ j w n) (xlc (182 + j) 0)])) H1
      rw [(xs_ss j hj).2]
      have e : xcv (xse E (xqe E j a)) (xns σ j w n) (5, 13, j) = v := by
        show va_rf (if xns σ j w n 13 j = 0 then none else some (xqe E j a j)) = v
        rw [a13, cj, hv]
      rw [e]
      exact h0
    · have h2 := xent_q (σ' := xns σ j w n) (q := xqe E j a) hk hoff (fun i hi hc => by
        have h9 := xlc_5 k hk i hi hc
        have h8 : (xlc k i).2.2 ≠ j := by omega
        exact ⟨b13 _ h8, cq _ h8⟩) (hW.1 k hk)
      exact h2.kept (oq (xa E k) (fun q => hkj (by unfold xa at q; omega)))
  · by_cases htj : t = j
    · subst htj
      rw [a13] at h
      obtain ⟨h1, h2, h3⟩ := hnew h
      refine ⟨?_, by show xz E + 201 ≤ xqe E t a t; rw [cj]; exact h2⟩
      show H1[xqe E t a t]? = some (vp_cell (xak E (xsk (xns σ t w n 13 t))) ((xns σ t w n 14 t).toNatClampNeg, .inl (fun i => xns σ t w n 15 (40 * t + i))))
      rw [cj, a13, a14, oq a (fun q => by unfold xa at q; omega), h1, vp_cell_i]
      congr 1
      unfold arrV
      congr 2
      funext i
      have hil := i.isLt
      unfold xns
      dsimp only
      rw [if_neg (fun q => by omega), if_neg (fun q => by omega), if_pos ⟨rfl, by omega, by omega⟩]
    · rw [b13 t htj] at h
      have h2 := hW.2.1 t ht h
      unfold xSh at h2
      refine ⟨?_, by show xz E + 201 ≤ xqe E j a t; rw [cq t htj]; exact h2.2⟩
      show H1[xqe E j a t]? = some (vp_cell (xak E (xsk (xns σ j w n 13 t))) ((xns σ j w n 14 t).toNatClampNeg, .inl (fun i => xns σ j w n 15 (40 * t + i))))
      rw [cq t htj, b13 t htj, b14 t htj, oq (xq E t) (fun q => by unfold xa at q; omega), h2.1, vp_cell_i, vp_cell_i]
      congr 1
      unfold arrV
      congr 2
      funext i
      have hb := hs t ht
      have hil := i.isLt
      unfold xns
      dsimp only
      rw [if_neg (fun q => by omega), if_neg (fun q => by omega), if_neg (fun q => by omega)]
  · have hxy : xqe E j a x = xqe E j a y := hxy
    by_cases hxj : x = j
    · by_cases hyj : y = j
      · omega
      · subst hxj
        rw [a13] at h1
        rw [b13 y hyj] at h2
        rw [cj, cq y hyj] at hxy
        exact absurd hxy.symm ((hnew h1).2.2 y hy h2)
    · by_cases hyj : y = j
      · subst hyj
        rw [a13] at h2
        rw [b13 x hxj] at h1
        rw [cj, cq x hxj] at hxy
        exact absurd hxy ((hnew h2).2.2 x hx h1)
      · rw [b13 x hxj] at h1
        rw [b13 y hyj] at h2
        rw [cq x hxj, cq y hyj] at hxy
        exact hW.2.2 x y hx hy h1 h2 hxy
theorem x_newS (F : xFx p m c cc nL s args RX0 E) (hW : xW E σ H) (hS : va_S (xA E) s.heap H locs) {atype : ArrayType} (k : Nat) (ty : FieldType) (harr : (Cond.arrayClass ty).before args s = true) (hty : newarray.typeOf atype = ty) (hk : (xtys E)[k]? = some (xak E k, ty)) (hfc : s.vm.findClass ("[" ++ ty.toString) = some (xak E k)) (hdv : defaultValue ty = .int 0) (hcb : componentBytes ty ≤ 8)
    {n : Int32} (hn : ¬ n < 0) (hN : n.toNatClampNeg ≤ 40) (hcl : 1 ≤ R.cells) (hsl : 40 ≤ R.slots) (hdg : decode cc pc = .ok (.newarray atype, 2))
    (kk : ∀ (H1 : Heap) (a : Nat), H1[a]? = some (arrV (xak E k) n.toNatClampNeg (fun _ => .int 0)) → xW E σ H1 → xz E + 201 ≤ a → (∀ t, t < 4 → ¬ σ 13 t = 0 → xq E t ≠ a) → va_S (xA E) s.heap H1 locs → W p l e R s m args below meth c H1 locs 1 n.toNatClampNeg Q (F0 m (pc + 2) ls (.ref a :: rest))) : W p l e R s m args below meth c H locs 0 0 Q (F0 m pc ls (.int n :: rest)) := by
  subst hty
  have hK := F.2.1.1
  refine va_newaK F.1.1 F.1.2.1 harr rfl hdg rfl hn rfl (Nat.le_trans (Nat.mul_le_mul hN hcb) (by decide)) (by omega) (by omega) rfl fun H1 cA e1 z1 o1 hAr hNm => ?_
  have hcA : cA = xak E k := Option.some.inj (hNm.symm.trans hfc)
  subst hcA
  have h200 : xa E 200 < H.size := (hW.1 200 (by decide)).lt
  have hlt : ∀ t, t < 4 → ¬ σ 13 t = 0 → xq E t < H.size := fun t ht hnz => (Array.getElem?_eq_some_iff.mp (hW.2.1 t ht hnz).1).1
  have hW1 : xW E σ H1 := by
    refine ⟨fun k hk => (hW.1 k hk).kept (o1 _ (hW.1 k hk).lt), fun t ht h => ?_, hW.2.2⟩
    have h2 := hW.2.1 t ht h
    exact ⟨by rw [o1 _ (hlt t ht h)]; exact h2.1, h2.2⟩
  rw [hdv] at e1
  have h9 := kk H1 H.size e1 hW1 (by unfold xa at h200; omega) (fun t ht hnz => Nat.ne_of_lt (hlt t ht hnz)) ⟨Nat.le_trans hS.1 (by omega), fun x h1 h2 => (o1 x (Nat.lt_of_lt_of_le h1 hS.1)).trans (hS.2.1 x h1 h2), hS.2.2⟩
  rw [Nat.zero_add, Nat.zero_add]
  exact h9
theorem x_putSh {index : Nat} (F : xFx p m c cc nL s args RX0 E) (hW : xW E σ H) (hS : va_S (xA E) s.heap H locs) (j : Nat) (hj : j < 4) (hs : xs40 σ) (hlink : (Cond.fieldLinkNest RX0 index RX5 "thing" "Ljava/lang/Object;" "WildBells").before args s = true) (w n : Int32) (hn : n.toNatClampNeg ≤ 40) (a : Nat) (v : Value) (hv : v = va_rf (if w = 0 then none else some a))
    (hnew : ¬ w = 0 → H[a]? = some (arrV (xak E (xsk w)) n.toNatClampNeg (fun _ => .int 0)) ∧ xz E + 201 ≤ a ∧ ∀ t, t < 4 → ¬ σ 13 t = 0 → xq E t ≠ a) (hdg : decode cc pc = .ok (.putfield index, 3))
    (kk : ∀ (H1 : Heap) (locs1 : List Loc), xW (xse E (xqe E j a)) (xns σ j w n) H1 → va_S (xA E) s.heap H1 locs1 → W p l e R s m args below meth c H1 locs1 cells slots Q (F0 m (pc + 3) ls rest)) : W p l e R s m args below meth c H locs cells slots Q (F0 m pc ls (v :: .ref (xa E (182 + j)) :: rest)) := by
  have hcat : v.category = 1 := by
    rw [hv]
    split <;> rfl
  have hn2 : narrow (.object "java/lang/Object") v = v := by
    rw [hv]
    split <;> rfl
  have hfit : fits (.object "java/lang/Object") v = true := by
    rw [hv]
    split <;> rfl
  refine x_putVN (C := RX5) (T := TX5) (N := 1) (ci := 5) (ty := .object "java/lang/Object") F hW hS in_X5 tyX5 tyX5_ok nmX5 rfl (182 + j) 0 (by omega) (xs_ss j hj).1 (by decide) hlink (fun _ h9 => h9) rfl (by decide +kernel) hn2 hfit hdg (fun H1 locs1 h1 hz oq hS1 => ?_) hcat
  exact kk H1 locs1 (hW.shNew j hj hs hn hv h1 oq hnew) hS1
end XNS
