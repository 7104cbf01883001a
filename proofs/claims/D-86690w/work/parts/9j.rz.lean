set_option maxRecDepth 100000
/-- handlers that are told: a guard's address, its catch's place -/
def HN (G : XG) (p : Nat) (A : Nat → Nat) (l : List (Nat × Int32)) : Prop := Gfi G 15 p = nI l.length ∧ ∀ (i : Nat) (h : Nat × Int32), l[i]? = some h → Gar G (p + 4) i = some (A h.1) ∧ Gai G (p + 5) i = nI (((l.take i).filter (fun x => x.1 == h.1)).length)
/-- the reader between statements, its token aside: context c, state Z, statements at hand b, methods nm, kinds nk -/
def RY (G : XG) (R p nk nm : Nat) (A : Nat → Nat) (b : Nat) (c : Cx) (Z : Zs) : Prop := PR G p ∧ R + 4 ≤ p ∧ Gfi G 7 R = nI 0 ∧ Gfi G 6 R = nI c.2.2 ∧ Gfi G 8 R = nI c.2.1 ∧ Gfr G 1016 R = (if c.1 = 999 then none else some (A c.1)) ∧ Gfi G 9 R = lkV (wN nk (zc Z)) ∧ TO G R (tN (zc Z)) ∧ Gfi G 10 R = nI b ∧ Gfi G 12 p = nI nm ∧ Gfi G 13 p = nI nk ∧ Gfi G 14 p = nI (zn Z) ∧ HN G p A (zh Z) ∧ (∀ x, wN nk (zc Z) = some x → x < 2000)
/-- statements from n0 on that are there -/
def SA (G : XG) (lo p : Nat) (A : Nat → Nat) (T : Pg) (n0 n1 : Nat) : Prop := ∀ s, n0 ≤ s → s < n1 → Gar G (p + 3) s = some (A s) ∧ SO G lo A T s
