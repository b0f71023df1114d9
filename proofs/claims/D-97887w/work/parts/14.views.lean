set_option maxRecDepth 100000
/-! the world's objects and arrays, one by one -/
section XV
variable {E : xE} {σ : xM} {H : Heap}
theorem xO_X (hW : xW E σ H) : va_P (xD E) xCl [(xa E 0, .inr (0, [.ref (xa E 1), .ref (xa E 2), .int (σ 6 0), .ref (xa E (xwc 0 0)), .ref (xa E (xwc 1 0)), .ref (xa E (xwc 2 0)), .int (σ 6 1), .ref (xa E 53), .ref (xa E 54), .ref (xa E 55), .ref (xa E 56), .ref (xa E 57), .ref (xa E 58), .int (σ 6 2), .ref (xa E 59)]))] H := hW.obj 0 0 15 (by decide) rfl rfl
theorem xO_F (hW : xW E σ H) : va_P (xD E) xCl [(xa E 1, .inr (1, [.null, .null, .null, .null, .null, .int 0, .int (σ 11 0)]))] H := hW.obj 1 1 7 (by decide) rfl rfl
theorem xO_R (hW : xW E σ H) : va_P (xD E) xCl [(xa E 2, .inr (2, [.ref (xa E 3), .ref (xa E 4), .ref (xa E (xwc 3 0)), .int (σ 4 0), .int (σ 4 1), .int (σ 4 2), .int (σ 4 3), .int (σ 4 4)]))] H := hW.obj 2 2 8 (by decide) rfl rfl
theorem xO_Wr (hW : xW E σ H) : va_P (xD E) xCl [(xa E 3, .inr (3, [.null, .null, .null, .null, .null, .int 0]))] H := hW.obj 3 3 6 (by decide) rfl rfl
theorem xO_M (hW : xW E σ H) : va_P (xD E) xCl [(xa E 186, .inr (13, [.ref (xa E 187), .ref (xa E 188), .ref (xa E 189), .int (σ 24 0), .ref (xa E 190), .ref (xa E 191), .ref (xa E 192), .int (σ 24 1), .ref (xa E 193), .ref (xa E 194), .int (σ 24 2), .int (σ 24 3), .int (σ 24 4), .int (σ 24 5), .int (σ 24 6), .int (σ 24 7), .ref (xa E 195), .ref (xa E 196), .int (σ 24 8), .int (σ 24 9), .ref (xa E 197), .ref (xa E 198), .ref (xa E 199), .ref (xa E 200)]))] H := hW.obj 186 13 24 (by decide) rfl rfl
theorem xw_lt : ∀ w, w < 4 → ∀ r, r < 12 → xwc w r < 201 := by decide +kernel
theorem xw_0 : ∀ w, w < 4 → xsh (xwc w 0) = (0, 4, 8) ∧ xlc (xwc w 0) 0 = (1, xwc w 1, 0) ∧ xlc (xwc w 0) 1 = (1, xwc w 4, 0) ∧ xlc (xwc w 0) 2 = (0, w, 1) ∧ xlc (xwc w 0) 3 = (0, w, 2) ∧ xlc (xwc w 0) 4 = (1, xwc w 5, 0) ∧ xlc (xwc w 0) 5 = (0, w, 0) ∧ xlc (xwc w 0) 6 = (0, w, 3) ∧ xlc (xwc w 0) 7 = (1, xwc w 11, 0) := by decide +kernel
theorem xO_W (hW : xW E σ H) (w : Nat) (hw : w < 4) : va_P (xD E) xCl [(xa E (xwc w 0), .inr (4, [.ref (xa E (xwc w 1)), .ref (xa E (xwc w 4)), .int (σ w 1), .int (σ w 2), .ref (xa E (xwc w 5)), .int (σ w 0), .int (σ w 3), .ref (xa E (xwc w 11))]))] H := by
  obtain ⟨h, h0, h1, h2, h3, h4, h5, h6, h7⟩ := xw_0 w hw
  refine hW.obj (xwc w 0) 4 8 (xw_lt w hw 0 (by decide)) h ?_
  show [xcv E σ (xlc (xwc w 0) 0), xcv E σ (xlc (xwc w 0) 1), xcv E σ (xlc (xwc w 0) 2), xcv E σ (xlc (xwc w 0) 3), xcv E σ (xlc (xwc w 0) 4), xcv E σ (xlc (xwc w 0) 5), xcv E σ (xlc (xwc w 0) 6), xcv E σ (xlc (xwc w 0) 7)] = _
  rw [h0, h1, h2, h3, h4, h5, h6, h7]
  rfl
theorem xw_1 : ∀ w, w < 4 → xsh (xwc w 1) = (2, 4, 2) ∧ ∀ j, j < 2 → xlc (xwc w 1) j = (1, xwc w (2 + j), 0) := by decide +kernel
theorem xw_5 : ∀ w, w < 4 → xsh (xwc w 5) = (2, 4, 5) ∧ ∀ j, j < 5 → xlc (xwc w 5) j = (1, xwc w (6 + j), 0) := by decide +kernel
theorem xw_2 : ∀ w, w < 4 → ∀ f, f < 2 → xsh (xwc w (2 + f)) = (1, 0, 64) ∧ ∀ j, j < 64 → xlc (xwc w (2 + f)) j = (0, w, 18 + 64 * f + j) := by decide +kernel
theorem xw_4 : ∀ w, w < 4 → xsh (xwc w 4) = (1, 0, 4) ∧ ∀ j, j < 4 → xlc (xwc w 4) j = (0, w, 14 + j) := by decide +kernel
theorem xw_6 : ∀ w, w < 4 → ∀ f, f < 5 → xsh (xwc w (6 + f)) = (1, 0, 8) ∧ ∀ j, j < 8 → xlc (xwc w (6 + f)) j = (0, w, 146 + 5 * j + f) := by decide +kernel
theorem xw_11 : ∀ w, w < 4 → xsh (xwc w 11) = (1, 0, 10) ∧ ∀ j, j < 10 → xlc (xwc w 11) j = (0, w, 4 + j) := by decide +kernel
theorem xR_1 (hW : xW E σ H) (w : Nat) (hw : w < 4) : va_P (xD E) xCl [(xa E (xwc w 1), .inl (xak E 4, 2, .inr (.inr (.inr (.inr (fun j => some (xa E (xwc w (2 + j)))))))))] H := hW.rar (xwc w 1) 4 2 (fun j => xwc w (2 + j)) (xw_lt w hw 1 (by decide)) (xw_1 w hw).1 (xw_1 w hw).2
theorem xR_5 (hW : xW E σ H) (w : Nat) (hw : w < 4) : va_P (xD E) xCl [(xa E (xwc w 5), .inl (xak E 4, 5, .inr (.inr (.inr (.inr (fun j => some (xa E (xwc w (6 + j)))))))))] H := hW.rar (xwc w 5) 4 5 (fun j => xwc w (6 + j)) (xw_lt w hw 5 (by decide)) (xw_5 w hw).1 (xw_5 w hw).2
theorem xV_2 (hW : xW E σ H) (w f : Nat) (hw : w < 4) (hf : f < 2) : va_P (xD E) xCl [(xa E (xwc w (2 + f)), .inl (xak E 0, 64, .inl (fun j => σ w (18 + 64 * f + j))))] H := hW.arr (xwc w (2 + f)) 0 64 w (fun j => 18 + 64 * f + j) (xw_lt w hw _ (by omega)) (xw_2 w hw f hf).1 (xw_2 w hw f hf).2
theorem xV_4 (hW : xW E σ H) (w : Nat) (hw : w < 4) : va_P (xD E) xCl [(xa E (xwc w 4), .inl (xak E 0, 4, .inl (fun j => σ w (14 + j))))] H := hW.arr (xwc w 4) 0 4 w (fun j => 14 + j) (xw_lt w hw _ (by omega)) (xw_4 w hw).1 (xw_4 w hw).2
theorem xV_6 (hW : xW E σ H) (w f : Nat) (hw : w < 4) (hf : f < 5) : va_P (xD E) xCl [(xa E (xwc w (6 + f)), .inl (xak E 0, 8, .inl (fun j => σ w (146 + 5 * j + f))))] H := hW.arr (xwc w (6 + f)) 0 8 w (fun j => 146 + 5 * j + f) (xw_lt w hw _ (by omega)) (xw_6 w hw f hf).1 (xw_6 w hw f hf).2
theorem xV_11 (hW : xW E σ H) (w : Nat) (hw : w < 4) : va_P (xD E) xCl [(xa E (xwc w 11), .inl (xak E 0, 10, .inl (fun j => σ w (4 + j))))] H := hW.arr (xwc w 11) 0 10 w (fun j => 4 + j) (xw_lt w hw _ (by omega)) (xw_11 w hw).1 (xw_11 w hw).2
/-- the plain arrays -/
def xPl (k a n v : Nat) : Prop := k < 201 ∧ xsh k = (1, a, n) ∧ (∀ j, j < n → xlc k j = (0, v, j)) ∧ (v < 13 ∨ 16 ≤ v)
theorem xp_ok : ∀ q ∈ [(4, 1, 120, 5), (56, 0, 7, 7), (57, 0, 8, 8), (58, 3, 64, 9), (59, 0, 100, 10), (187, 0, 186, 20), (188, 0, 186, 21), (189, 0, 186, 22), (190, 0, 8, 23), (191, 0, 4, 32), (192, 0, 4, 33), (193, 0, 100, 25), (194, 0, 120, 26), (196, 0, 480, 27), (197, 0, 4, 28), (198, 0, 4, 29), (199, 0, 160, 30), (200, 0, 40, 31)], q.1 < 201 ∧ xsh q.1 = (1, q.2.1, q.2.2.1) ∧ (∀ j, j < q.2.2.1 → xlc q.1 j = (0, q.2.2.2, j)) ∧ (q.2.2.2 < 13 ∨ 16 ≤ q.2.2.2) := by decide +kernel
theorem xp_at (k a n v : Nat) (h : (k, a, n, v) ∈ [(4, 1, 120, 5), (56, 0, 7, 7), (57, 0, 8, 8), (58, 3, 64, 9), (59, 0, 100, 10), (187, 0, 186, 20), (188, 0, 186, 21), (189, 0, 186, 22), (190, 0, 8, 23), (191, 0, 4, 32), (192, 0, 4, 33), (193, 0, 100, 25), (194, 0, 120, 26), (196, 0, 480, 27), (197, 0, 4, 28), (198, 0, 4, 29), (199, 0, 160, 30), (200, 0, 40, 31)]) : k < 201 ∧ xsh k = (1, a, n) ∧ (∀ j, j < n → xlc k j = (0, v, j)) ∧ (v < 13 ∨ 16 ≤ v) := xp_ok (k, a, n, v) h
theorem xp_4 : xPl 4 1 120 5 := xp_at 4 1 120 5 (by decide)
theorem xp_56 : xPl 56 0 7 7 := xp_at 56 0 7 7 (by decide)
theorem xp_57 : xPl 57 0 8 8 := xp_at 57 0 8 8 (by decide)
theorem xp_58 : xPl 58 3 64 9 := xp_at 58 3 64 9 (by decide)
theorem xp_59 : xPl 59 0 100 10 := xp_at 59 0 100 10 (by decide)
theorem xp_187 : xPl 187 0 186 20 := xp_at 187 0 186 20 (by decide)
theorem xp_188 : xPl 188 0 186 21 := xp_at 188 0 186 21 (by decide)
theorem xp_189 : xPl 189 0 186 22 := xp_at 189 0 186 22 (by decide)
theorem xp_190 : xPl 190 0 8 23 := xp_at 190 0 8 23 (by decide)
theorem xp_191 : xPl 191 0 4 32 := xp_at 191 0 4 32 (by decide)
theorem xp_192 : xPl 192 0 4 33 := xp_at 192 0 4 33 (by decide)
theorem xp_193 : xPl 193 0 100 25 := xp_at 193 0 100 25 (by decide)
theorem xp_194 : xPl 194 0 120 26 := xp_at 194 0 120 26 (by decide)
theorem xp_196 : xPl 196 0 480 27 := xp_at 196 0 480 27 (by decide)
theorem xp_197 : xPl 197 0 4 28 := xp_at 197 0 4 28 (by decide)
theorem xp_198 : xPl 198 0 4 29 := xp_at 198 0 4 29 (by decide)
theorem xp_199 : xPl 199 0 160 30 := xp_at 199 0 160 30 (by decide)
theorem xp_200 : xPl 200 0 40 31 := xp_at 200 0 40 31 (by decide)
theorem xV_p (hW : xW E σ H) {k a n v : Nat} (h : xPl k a n v) : va_P (xD E) xCl [(xa E k, .inl (xak E a, n, .inl (fun j => σ v j)))] H := hW.arr k a n v (fun j => j) h.1 h.2.1 h.2.2.1
/-- the slots and the bells -/
theorem xs_53 : xsh 53 = (2, 5, 56) ∧ ∀ j, j < 56 → xlc 53 j = (1, 60 + 2 * j, 0) := by decide +kernel
theorem xs_54 : xsh 54 = (2, 5, 10) ∧ ∀ j, j < 10 → xlc 54 j = (1, 172 + j, 0) := by decide +kernel
theorem xs_55 : xsh 55 = (2, 5, 4) ∧ ∀ j, j < 4 → xlc 55 j = (1, 182 + j, 0) := by decide +kernel
theorem xs_sb : ∀ j, j < 56 → xsh (60 + 2 * j) = (0, 5, 1) ∧ xlc (60 + 2 * j) 0 = (1, 61 + 2 * j, 0) := by decide +kernel
theorem xs_sp : ∀ j, j < 10 → xsh (172 + j) = (0, 5, 1) ∧ xlc (172 + j) 0 = (4, 12, j) := by decide +kernel
theorem xs_ss : ∀ j, j < 4 → xsh (182 + j) = (0, 5, 1) ∧ xlc (182 + j) 0 = (5, 13, j) := by decide +kernel
def xbN (k : Nat) : Nat := [2, 3, 3, 4, 5, 3, 4].getD k 0
theorem xs_b1 : ∀ κ, κ < 7 → ∀ n, n < 8 → xsh (61 + 2 * (8 * κ + n)) = (0, 6 + κ, xbN κ) ∧ xlc (61 + 2 * (8 * κ + n)) 0 = (2, n, 0) := by decide +kernel
theorem xs_b2 : ∀ κ, κ < 7 → ∀ n, n < 8 → ∀ j, j < 5 → (j = 0 ∨ xlc (61 + 2 * (8 * κ + n)) j = (1, 0, 0)) := by decide +kernel
theorem xs_b (κ : Nat) (h : κ < 7) (n : Nat) (hn : n < 8) : xsh (61 + 2 * (8 * κ + n)) = (0, 6 + κ, xbN κ) ∧ xlc (61 + 2 * (8 * κ + n)) 0 = (2, n, 0) ∧ ∀ j, j < xbN κ → (j = 0 ∨ xlc (61 + 2 * (8 * κ + n)) j = (1, 0, 0)) := by
  have hb : ∀ κ, κ < 7 → xbN κ ≤ 5 := by decide +kernel
  exact ⟨(xs_b1 κ h n hn).1, (xs_b1 κ h n hn).2, fun j hj => xs_b2 κ h n hn j (Nat.lt_of_lt_of_le hj (hb κ h))⟩
theorem xR_53 (hW : xW E σ H) : va_P (xD E) xCl [(xa E 53, .inl (xak E 5, 56, .inr (.inr (.inr (.inr (fun j => some (xa E (60 + 2 * j))))))))] H := hW.rar 53 5 56 (fun j => 60 + 2 * j) (by decide) xs_53.1 xs_53.2
theorem xR_54 (hW : xW E σ H) : va_P (xD E) xCl [(xa E 54, .inl (xak E 5, 10, .inr (.inr (.inr (.inr (fun j => some (xa E (172 + j))))))))] H := hW.rar 54 5 10 (fun j => 172 + j) (by decide) xs_54.1 xs_54.2
theorem xR_55 (hW : xW E σ H) : va_P (xD E) xCl [(xa E 55, .inl (xak E 5, 4, .inr (.inr (.inr (.inr (fun j => some (xa E (182 + j))))))))] H := hW.rar 55 5 4 (fun j => 182 + j) (by decide) xs_55.1 xs_55.2
theorem xO_sb (hW : xW E σ H) (j : Nat) (hj : j < 56) : va_P (xD E) xCl [(xa E (60 + 2 * j), .inr (5, [.ref (xa E (61 + 2 * j))]))] H := by
  refine hW.obj (60 + 2 * j) 5 1 (by omega) (xs_sb j hj).1 ?_
  show [xcv E σ (xlc (60 + 2 * j) 0)] = _
  rw [(xs_sb j hj).2]
  rfl
theorem xO_sp (hW : xW E σ H) (j : Nat) (hj : j < 10) : va_P (xD E) xCl [(xa E (172 + j), .inr (5, [va_rf (if σ 12 j < 0 then none else some (xa E (σ 12 j).toNatClampNeg))]))] H := by
  refine hW.obj (172 + j) 5 1 (by omega) (xs_sp j hj).1 ?_
  show [xcv E σ (xlc (172 + j) 0)] = _
  rw [(xs_sp j hj).2]
  rfl
theorem xO_ss (hW : xW E σ H) (j : Nat) (hj : j < 4) : va_P (xD E) xCl [(xa E (182 + j), .inr (5, [va_rf (if σ 13 j = 0 then none else some (xq E j))]))] H := by
  refine hW.obj (182 + j) 5 1 (by omega) (xs_ss j hj).1 ?_
  show [xcv E σ (xlc (182 + j) 0)] = _
  rw [(xs_ss j hj).2]
  rfl
def xbc (κ n : Nat) : Nat := 61 + 2 * (8 * κ + n)
theorem xO_B (hW : xW E σ H) (κ n : Nat) (hκ : κ < 7) (hn : n < 8) : va_P (xD E) xCl [(xa E (xbc κ n), .inr (6 + κ, .int (Int32.ofNat n) :: List.replicate (xbN κ - 1) (.ref (xa E 0))))] H := by
  obtain ⟨h1, h2, h3⟩ := xs_b κ hκ n hn
  refine hW.obj (61 + 2 * (8 * κ + n)) (6 + κ) _ (by omega) h1 ?_
  have hpos : ∀ κ, κ < 7 → 1 ≤ xbN κ := by decide
  have hp := hpos κ hκ
  generalize xbN κ = N at h3 hp ⊢
  obtain ⟨N', rfl⟩ : ∃ N', N = N' + 1 := ⟨N - 1, by omega⟩
  apply List.ext_getElem
  · simp
  · intro j q1 q2
    have hj : j < N' + 1 := by simpa using q1
    rw [List.getElem_map, List.getElem_range]
    cases j with
    | zero => rw [h2]; rfl
    | succ j =>
      rcases h3 (j + 1) hj with q | q
      · exact absurd q (by omega)
      · rw [q]; simp [xcv]
end XV
