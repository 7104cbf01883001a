set_option maxRecDepth 100000
/-! the reader between statements -/
def rP (R p a : Nat) : Prop := (R ≤ a ∧ a < R + 4) ∨ a = p ∨ (p + 3 ≤ a ∧ a < p + 6)
def PR (G : XG) (p : Nat) : Prop := Gkd G p = 4 ∧ Gfr G 1020 p = some (p + 1) ∧ Gkd G (p + 1) = 106 ∧ Gln G (p + 1) = 8 ∧ Gfr G 1021 p = some (p + 2) ∧ Gkd G (p + 2) = 100 ∧ Gln G (p + 2) = 16 ∧ Gfr G 1022 p = some (p + 3) ∧ Gkd G (p + 3) = 104 ∧ Gln G (p + 3) = 80 ∧ Gfr G 1023 p = some (p + 4) ∧ Gkd G (p + 4) = 107 ∧ Gln G (p + 4) = 160 ∧ Gfr G 1024 p = some (p + 5) ∧ Gkd G (p + 5) = 100 ∧ Gln G (p + 5) = 160 ∧ p + 6 ≤ Gtp G
/-- the first place of what is not there, methods' names aside; the methods that are told -/
def wN (nk : Nat) : List Ck → Option Nat
  | [] => none
  | c :: r => if (c.1 = 1 ∧ nk ≤ c.2.2) ∨ c.1 = 4 then some c.2.1 else wN nk r
def tN (l : List Ck) : List Ck := l.filter (fun c => c.1 == 3)
theorem wN_app {nk : Nat} {c : Ck} : ∀ (l : List Ck), wN nk (l ++ [c]) = lkN (wN nk l) ((c.1 = 1 ∧ nk ≤ c.2.2) ∨ c.1 = 4) c.2.1 := by
  intro l
  induction l with
  | nil =>
    show (if _ then _ else _) = lkN none _ _
    unfold lkN
    rfl
  | cons a r ih =>
    show (if _ then _ else wN nk (r ++ [c])) = lkN (if _ then _ else wN nk r) _ _
    by_cases h : (a.1 = 1 ∧ nk ≤ a.2.2) ∨ a.1 = 4
    · rw [if_pos h, if_pos h]
      unfold lkN
      split <;> rfl
    · rw [if_neg h, if_neg h]
      exact ih
theorem tN_app {c : Ck} (l : List Ck) : tN (l ++ [c]) = if c.1 = 3 then tN l ++ [c] else tN l := by
  unfold tN
  rw [List.filter_append]
  by_cases h : c.1 = 3
  · rw [if_pos h]
    simp [h]
  · rw [if_neg h]
    simp [h]
/-- told rows -/
def TO (G : XG) (R : Nat) (l : List Ck) : Prop := Gfi G 11 R = nI l.length ∧ ∀ (i : Nat) (c : Ck), l[i]? = some c → Gai G (R + 2) i = nI c.2.2 ∧ Gai G (R + 3) i = nI c.2.1 ∧ c.2.2 < 10000000
