set_option maxRecDepth 100000
/-! a program's shape: numbers by the text, a statement's own up to its end; tg: the guard whose catch is the innermost around (999: none), lp: loops around, dp: so deep it may still go -/
abbrev WB : Type := Nat → Nat → Nat → List Nat → Nat → Nat → Prop
def vE (e : En) : Prop := e.1 ≤ 9 ∧ (e.1 = 1 → ∃ j, e.2 = nI j ∧ j < 6) ∧ ((e.1 = 2 ∨ e.1 = 3) → ∃ j, e.2 = nI j ∧ j < 3)
/-- how many values a sum's entries leave -/
def dE (es : List En) (d : Nat) : Option Nat := match es with
  | [] => some d
  | e :: r => if e.1 = 0 ∨ e.1 = 1 ∨ e.1 = 3 then dE r (d + 1) else if e.1 = 2 ∨ e.1 = 4 then (if d = 0 then none else dE r d) else if d ≤ 1 then none else dE r (d - 1)
def wE (es : List En) : Prop := (∀ e, e ∈ es → vE e) ∧ dE es 0 = some 1
/-- operands -/
def wP (T : Pg) (nm s : Nat) : Prop :=
  Tk T s ≤ 17 ∧ (Tk T s = 0 → ∃ j, Ta T s = nI j ∧ j < 10000) ∧ ((Tk T s = 1 ∨ Tk T s = 2) → ∃ j, Ta T s = nI j ∧ j < 6) ∧ ((Tk T s = 3 ∨ Tk T s = 4 ∨ Tk T s = 5 ∨ Tk T s = 6) → ∃ j, Ta T s = nI j ∧ j < 3) ∧ (Tk T s = 5 → ∃ j, Tb T s = nI j ∧ j < 3) ∧ ((Tk T s = 13 ∨ Tk T s = 14) → ∃ j, Ta T s = nI j ∧ j < 16) ∧ ((Tk T s = 1 ∨ Tk T s = 2 ∨ Tk T s = 3 ∨ Tk T s = 6 ∨ Tk T s = 7 ∨ Tk T s = 8 ∨ Tk T s = 9 ∨ Tk T s = 10) → wE (T1 T s)) ∧ ((Tk T s = 2 ∨ Tk T s = 6 ∨ Tk T s = 7 ∨ Tk T s = 9) → wE (T2 T s)) ∧ ((Tk T s = 2 ∨ Tk T s = 7) → ∃ mi, Tb T s = nI mi ∧ mi < nm) ∧ ∀ c, c ∈ Tc T s → ∃ j, c.1 = nI j ∧ j < 16
def wC (bk : WB) (s lp dp : Nat) (l : List (Int32 × List Nat)) (x y : Nat) : Prop := match l with
  | [] => x = y
  | c :: r => ∃ z, bk s lp dp c.2 x z ∧ wC bk s lp dp r z y
def wO (bk : WB) (tg lp dp : Nat) (o : Option (List Nat)) (x y : Nat) : Prop := match o with
  | none => x = y
  | some b => bk tg lp dp b x y
def wS (T : Pg) (nm : Nat) (bk : WB) (tg lp dp s e : Nat) : Prop := wP T nm s ∧
  if Tk T s = 9 then ∃ d x, dp = d + 1 ∧ bk tg lp d (Tl T s) (s + 1) x ∧ wO bk tg lp d (To T s) x e
  else if Tk T s = 10 then ∃ d, dp = d + 1 ∧ bk tg (lp + 1) d (Tl T s) (s + 1) e
  else if Tk T s = 16 ∨ Tk T s = 17 then ∃ d x y, dp = d + 1 ∧ bk tg lp d (Tl T s) (s + 1) x ∧ wC bk s lp d (Tc T s) x y ∧ wO bk tg lp d (To T s) y e ∧ s < 999 ∧ (Tk T s = 17 → ∃ n, Ta T s = nI n ∧ 1 ≤ n ∧ n ≤ 3)
  else e = s + 1 ∧ ((Tk T s = 11 ∨ Tk T s = 12) → ∃ n, Ta T s = nI n ∧ 1 ≤ n ∧ n ≤ lp ∧ n < 100) ∧ ((Tk T s = 14 ∨ Tk T s = 15) → tg < s ∧ tg < 999 ∧ Tb T s = nI tg)
def wB (T : Pg) (nm : Nat) : Nat → WB
  | 0, _, _, _, ss, lo, hi => ss = [] ∧ lo = hi
  | m + 1, tg, lp, dp, ss, lo, hi => match ss with
    | [] => lo = hi
    | s :: r => s = lo ∧ ∃ e, s < e ∧ wS T nm (wB T nm m) tg lp dp s e ∧ wB T nm m tg lp dp r e hi
def wLe (bk : WB) : Prop := ∀ tg lp dp ss lo hi, bk tg lp dp ss lo hi → lo ≤ hi
theorem wC_le {bk : WB} (hb : wLe bk) {s lp dp : Nat} : ∀ {l : List (Int32 × List Nat)} {x y : Nat}, wC bk s lp dp l x y → x ≤ y := by
  intro l
  induction l with
  | nil => intro x y h; exact Nat.le_of_eq h
  | cons c r ih =>
    intro x y h
    obtain ⟨z, h1, h2⟩ := h
    exact Nat.le_trans (hb _ _ _ _ _ _ h1) (ih h2)
theorem wO_le {bk : WB} (hb : wLe bk) {tg lp dp : Nat} {o : Option (List Nat)} {x y : Nat} (h : wO bk tg lp dp o x y) : x ≤ y := by
  cases o with
  | none => exact Nat.le_of_eq h
  | some b => exact hb _ _ _ _ _ _ h
theorem wB_le (T : Pg) (nm : Nat) : ∀ m, wLe (wB T nm m) := by
  intro m
  induction m with
  | zero => intro tg lp dp ss lo hi h; exact Nat.le_of_eq h.2
  | succ m ih =>
    intro tg lp dp ss lo hi h
    unfold wB at h
    match ss, h with
    | [], h => exact Nat.le_of_eq h
    | s :: r, h =>
      obtain ⟨h1, e, h2, -, h3⟩ := h
      have := ih _ _ _ _ _ _ h3
      omega
/-- a catch's block is well shaped -/
theorem wC_in {bk : WB} (hb : wLe bk) {T : Pg} {kd : Int32} {s lp dp : Nat} : ∀ {l : List (Int32 × List Nat)} {x y : Nat}, wC bk s lp dp l x y → ∀ {b}, catchFor T kd l = some b → ∃ x1 y1, bk s lp dp b x1 y1 ∧ x ≤ x1 ∧ y1 ≤ y := by
  intro l
  induction l with
  | nil => intro x y _ b h; cases h
  | cons c r ih =>
    intro x y h b hc
    obtain ⟨z, h1, h2⟩ := h
    have := hb _ _ _ _ _ _ h1
    have := wC_le hb h2
    unfold catchFor at hc
    split at hc
    · cases hc
      exact ⟨x, z, h1, Nat.le_refl _, by omega⟩
    · obtain ⟨x1, y1, a1, a2, a3⟩ := ih h2 hc
      exact ⟨x1, y1, a1, by omega, a3⟩
