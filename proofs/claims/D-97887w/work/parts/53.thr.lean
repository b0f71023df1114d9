set_option maxRecDepth 100000
/-! outcomes of methods that may throw, and how their pure functions are put together -/
def xoI (a : Nat) : Option Int32 → Outcome
  | some r => .returned (some (.int r))
  | none => .threw a
def xoV (a : Nat) : Option Unit → Outcome
  | some _ => .returned none
  | none => .threw a
def xoR (E : xE) (a : Nat) : Option (Option Nat) → Outcome
  | some (some s) => .returned (some (.ref (xq E s)))
  | some none => .returned (some .null)
  | none => .threw a
def xbt {α β : Type} (o : Option (Option α × xM)) (k : α → xM → Option (Option β × xM)) : Option (Option β × xM) :=
  match o with
  | none => none
  | some (none, σ) => some (none, σ)
  | some (some r, σ) => k r σ
theorem xbt_n {α β : Type} {k : α → xM → Option (Option β × xM)} : xbt none k = none := rfl
theorem xbt_t {α β : Type} {k : α → xM → Option (Option β × xM)} {σ : xM} : xbt (some (none, σ)) k = some (none, σ) := rfl
theorem xbt_r {α β : Type} {k : α → xM → Option (Option β × xM)} {σ : xM} {r : α} : xbt (some (some r, σ)) k = k r σ := rfl
def xct {α γ : Type} (o : Option (Option α × xM)) (k : α → xM → Option γ) (hd : xM → Option γ) : Option γ :=
  match o with
  | none => none
  | some (none, σ) => hd σ
  | some (some r, σ) => k r σ
theorem xct_n {α γ : Type} {k : α → xM → Option γ} {hd : xM → Option γ} : xct none k hd = none := rfl
theorem xct_t {α γ : Type} {k : α → xM → Option γ} {hd : xM → Option γ} {σ : xM} : xct (some (none, σ)) k hd = hd σ := rfl
theorem xct_r {α γ : Type} {k : α → xM → Option γ} {hd : xM → Option γ} {σ : xM} {r : α} : xct (some (some r, σ)) k hd = k r σ := rfl
