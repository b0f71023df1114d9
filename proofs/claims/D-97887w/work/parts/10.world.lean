/-! THE WORLD: all cells that the law makes, by their places behind the start's heap; their contents are variables of one memory -/
set_option maxRecDepth 100000
abbrev xM : Type := Nat → Nat → Int32
abbrev xE : Type := va_G × (Nat → ClassId) × ((Nat → Nat) × (Nat → Nat)) × Nat × (Nat → Nat)
def xD (E : xE) : va_G := E.1
def xak (E : xE) : Nat → ClassId := E.2.1
def xks (E : xE) : Nat → Nat := E.2.2.1.1
def xkv (E : xE) : Nat → Nat := E.2.2.1.2
def xz (E : xE) : Nat := E.2.2.2.1
def xq (E : xE) : Nat → Nat := E.2.2.2.2
def xa (E : xE) (k : Nat) : Nat := xz E + k
def xA (E : xE) : Nat → Prop := fun q => xz E ≤ q
def xup (σ : xM) (v i : Nat) (x : Int32) : xM := fun a b => if a = v ∧ b = i then x else σ a b
def xwb (w : Nat) : Nat := if w = 0 then 17 else if w = 1 then 29 else if w = 2 then 41 else 5
def xwc (w r : Nat) : Nat := xwb w + r
/-- a cell's shape: (0, class, fields), (1, kind of its ints, length), (2, kind of its references, length) -/
def xsh (k : Nat) : Nat × Nat × Nat :=
  if k < 5 then (if k = 0 then (0, 0, 15) else if k = 1 then (0, 1, 7) else if k = 2 then (0, 2, 8) else if k = 3 then (0, 3, 6) else (1, 1, 120))
  else if k < 53 then (if (k - 5) % 12 = 0 then (0, 4, 8) else if (k - 5) % 12 = 1 then (2, 4, 2) else if (k - 5) % 12 < 4 then (1, 0, 64) else if (k - 5) % 12 = 4 then (1, 0, 4) else if (k - 5) % 12 = 5 then (2, 4, 5) else if (k - 5) % 12 < 11 then (1, 0, 8) else (1, 0, 10))
  else if k < 60 then (if k = 53 then (2, 5, 56) else if k = 54 then (2, 5, 10) else if k = 55 then (2, 5, 4) else if k = 56 then (1, 0, 7) else if k = 57 then (1, 0, 8) else if k = 58 then (1, 3, 64) else (1, 0, 100))
  else if k < 172 then (if k % 2 = 0 then (0, 5, 1) else (0, 6 + (k - 61) / 2 / 8, [2, 3, 3, 4, 5, 3, 4].getD ((k - 61) / 2 / 8) 0))
  else if k < 186 then (0, 5, 1)
  else if k = 186 then (0, 13, 24) else if k < 190 then (1, 0, 186) else if k = 190 then (1, 0, 8) else if k < 193 then (1, 0, 4) else if k = 193 then (1, 0, 100) else if k = 194 then (1, 0, 120) else if k = 195 then (2, 6, 7) else if k = 196 then (1, 0, 480) else if k < 199 then (1, 0, 4) else if k = 199 then (1, 0, 160) else (1, 0, 40)
/-- what a slot holds: (0, v, i) the int of that variable, (1, k, 0) the cell k, (2, n, 0) the number n, (3, ..) null, (4, v, i) a spot's thing, (5, .., s) a sheet, (6, n, 0) a text -/
def xlc (k j : Nat) : Nat × Nat × Nat :=
  if k < 5 then
    (if k = 0 then ([(1, 1, 0), (1, 2, 0), (0, 6, 0), (1, 17, 0), (1, 29, 0), (1, 41, 0), (0, 6, 1), (1, 53, 0), (1, 54, 0), (1, 55, 0), (1, 56, 0), (1, 57, 0), (1, 58, 0), (0, 6, 2), (1, 59, 0)].getD j (3, 0, 0))
    else if k = 1 then (if j < 5 then (3, 0, 0) else if j = 5 then (2, 0, 0) else (0, 11, 0))
    else if k = 2 then (if j = 0 then (1, 3, 0) else if j = 1 then (1, 4, 0) else if j = 2 then (1, 5, 0) else (0, 4, j - 3))
    else if k = 3 then (if j < 5 then (3, 0, 0) else (2, 0, 0))
    else (0, 5, j))
  else if k < 53 then
    (if (k - 5) % 12 = 0 then [(1, k + 1, 0), (1, k + 4, 0), (0, ((k - 5) / 12 + 3) % 4, 1), (0, ((k - 5) / 12 + 3) % 4, 2), (1, k + 5, 0), (0, ((k - 5) / 12 + 3) % 4, 0), (0, ((k - 5) / 12 + 3) % 4, 3), (1, k + 11, 0)].getD j (3, 0, 0)
    else if (k - 5) % 12 = 1 then (1, k + 1 + j, 0)
    else if (k - 5) % 12 = 2 then (0, ((k - 5) / 12 + 3) % 4, 18 + j)
    else if (k - 5) % 12 = 3 then (0, ((k - 5) / 12 + 3) % 4, 82 + j)
    else if (k - 5) % 12 = 4 then (0, ((k - 5) / 12 + 3) % 4, 14 + j)
    else if (k - 5) % 12 = 5 then (1, k + 1 + j, 0)
    else if (k - 5) % 12 < 11 then (0, ((k - 5) / 12 + 3) % 4, 146 + 5 * j + ((k - 5) % 12 - 6))
    else (0, ((k - 5) / 12 + 3) % 4, 4 + j))
  else if k < 60 then (if k = 53 then (1, 60 + 2 * j, 0) else if k = 54 then (1, 172 + j, 0) else if k = 55 then (1, 182 + j, 0) else (0, k - 49, j))
  else if k < 172 then (if k % 2 = 0 then (1, k + 1, 0) else if j = 0 then (2, (k - 61) / 2 % 8, 0) else (1, 0, 0))
  else if k < 182 then (4, 12, k - 172)
  else if k < 186 then (5, 13, k - 182)
  else if k = 186 then [(1, 187, 0), (1, 188, 0), (1, 189, 0), (0, 24, 0), (1, 190, 0), (1, 191, 0), (1, 192, 0), (0, 24, 1), (1, 193, 0), (1, 194, 0), (0, 24, 2), (0, 24, 3), (0, 24, 4), (0, 24, 5), (0, 24, 6), (0, 24, 7), (1, 195, 0), (1, 196, 0), (0, 24, 8), (0, 24, 9), (1, 197, 0), (1, 198, 0), (1, 199, 0), (1, 200, 0)].getD j (3, 0, 0)
  else if k = 195 then (6, j, 0)
  else (0, [20, 21, 22, 23, 32, 33, 25, 26, 0, 27, 28, 29, 30, 31].getD (k - 187) 0, j)
/-- the cell and the slot of a variable's place -/
def xown (v i : Nat) : Nat :=
  if v < 4 then (if i < 4 then xwb v else if i < 14 then xwb v + 11 else if i < 18 then xwb v + 4 else if i < 82 then xwb v + 2 else if i < 146 then xwb v + 3 else xwb v + 6 + (i - 146) % 5)
  else if v < 12 then [2, 4, 0, 56, 57, 58, 59, 1].getD (v - 4) 999
  else if v = 12 then 172 + i
  else if v < 20 then 999
  else [187, 188, 189, 190, 186, 193, 194, 196, 197, 198, 199, 200, 191, 192].getD (v - 20) 999
def xslt (v i : Nat) : Nat :=
  if v < 4 then (if i < 4 then [5, 2, 3, 6].getD i 0 else if i < 14 then i - 4 else if i < 18 then i - 14 else if i < 82 then i - 18 else if i < 146 then i - 82 else (i - 146) / 5)
  else if v = 4 then i + 3
  else if v = 6 then [2, 6, 13].getD i 0
  else if v = 11 then 6
  else if v = 12 then 0
  else if v = 24 then [3, 7, 10, 11, 12, 13, 14, 15, 18, 19].getD i 0
  else i
theorem xown_ok : ∀ k, k < 201 → ∀ j, j < (xsh k).2.2 → ((xlc k j).1 = 0 ∨ (xlc k j).1 = 4) → xown (xlc k j).2.1 (xlc k j).2.2 = k ∧ xslt (xlc k j).2.1 (xlc k j).2.2 = j := by decide +kernel
theorem xkind_ok : ∀ k, k < 201 → ((xsh k).1 = 1 → ∀ j, j < (xsh k).2.2 → (xlc k j).1 = 0) ∧ ((xsh k).1 = 2 → ∀ j, j < (xsh k).2.2 → ((xlc k j).1 = 1 ∨ (xlc k j).1 = 6)) ∧ (xsh k).1 < 3 := by decide +kernel
