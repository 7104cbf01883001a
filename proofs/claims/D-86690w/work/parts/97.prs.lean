set_option maxRecDepth 100000
/-! READING, plain: tokens t; a fault: kind, place. A state: token, statements, tables, checks (how: 0 fine 1 a kind 3 a method 4 bad; place, value), handlers -/
abbrev Ft : Type := Nat × Nat
abbrev Tks : Type := Nat → Tok
def zb {α β : Type} (r : Ft ⊕ α) (f : α → Ft ⊕ β) : Ft ⊕ β := match r with
  | .inl e => .inl e
  | .inr a => f a
def zK (t : Tks) (j : Nat) : Nat := (t j).1
def zP (t : Tks) (j : Nat) : Nat := (t j).2.1
def zV (t : Tks) (j : Nat) : Nat := (t j).2.2.1
def zF {α : Type} (t : Tks) (k j : Nat) : Ft ⊕ α := .inl (k, zP t j)
/-- a sign or a kind is there -/
def zN {α : Type} (t : Tks) (j k : Nat) (r : Ft ⊕ α) : Ft ⊕ α := if zK t j = k then r else zF t 1 j
/-! sums: depth, token; the next token, entries -/
abbrev Sr : Type := Ft ⊕ (Nat × List En)
abbrev SumF : Type := Nat → Nat → Sr
def mop (k : Nat) : Nat := if k = 42 then 7 else if k = 47 then 8 else 9
def aop (k : Nat) : Nat := if k = 43 then 5 else 6
def pTl (t : Tks) (fac : SumF) (d : Nat) : Nat → Nat → List En → Sr
  | 0, _, _ => .inl (9, 9)
  | g + 1, j, es => if zK t j = 42 ∨ zK t j = 47 ∨ zK t j = 37 then zb (fac d (j + 1)) (fun r => pTl t fac d g r.1 (es ++ r.2 ++ [(mop (zK t j), 0)])) else .inr (j, es)
def pTerm (t : Tks) (fac : SumF) (g d j : Nat) : Sr := zb (fac d j) (fun r => pTl t fac d g r.1 r.2)
def pSl (t : Tks) (fac : SumF) (g d : Nat) : Nat → Nat → List En → Sr
  | 0, _, _ => .inl (9, 9)
  | h + 1, j, es => if zK t j = 43 ∨ zK t j = 45 then zb (pTerm t fac g d (j + 1)) (fun r => pSl t fac g d h r.1 (es ++ r.2 ++ [(aop (zK t j), 0)])) else .inr (j, es)
def pSm (t : Tks) (fac : SumF) (g d j : Nat) : Sr := zb (pTerm t fac g d j) (fun r => pSl t fac g d g r.1 r.2)
def pFac (t : Tks) : Nat → SumF
  | 0, _, _ => .inl (9, 9)
  | f + 1, d, j =>
    if zK t j = 45 then (if 8 ≤ d then zF t 2 j else zb (pFac t f (d + 1) (j + 1)) (fun r => .inr (r.1, r.2 ++ [(4, 0)])))
    else if zK t j = 40 then (if 8 ≤ d then zF t 2 j else zb (pSm t (pFac t f) f (d + 1) (j + 1)) (fun r => zN t r.1 41 (.inr (r.1 + 1, r.2))))
    else if zK t j = 7 then .inr (j + 1, [(0, nI (zV t j))])
    else if zK t j = 5 then (if zV t j < 6 then .inr (j + 1, [(1, nI (zV t j))]) else zF t 2 j)
    else if zK t j = 6 then (if 3 ≤ zV t j then zF t 2 j else if zK t (j + 1) ≠ 91 then zF t 1 (j + 1) else if 8 ≤ d then zF t 2 (j + 1) else zb (pSm t (pFac t f) f (d + 1) (j + 2)) (fun r => zN t r.1 93 (.inr (r.1 + 1, r.2 ++ [(2, nI (zV t j))]))))
    else if zK t j = 2 ∧ zV t j = 20 then (if 8 ≤ d then zF t 2 j else if zK t (j + 1) ≠ 6 then zF t 1 (j + 1) else if 3 ≤ zV t (j + 1) then zF t 2 (j + 1) else .inr (j + 2, [(3, nI (zV t (j + 1)))]))
    else zF t 1 j
def pSum (t : Tks) (f j : Nat) : Sr := pSm t (pFac t f) f 0 j
/-! statements -/
abbrev Ck : Type := Nat × Nat × Nat
/-- token, statements, tables, checks, handlers -/
abbrev Zs : Type := Nat × Nat × Pg × List Ck × List (Nat × Int32)
def zj (S : Zs) : Nat := S.1
def zn (S : Zs) : Nat := S.2.1
def zT (S : Zs) : Pg := S.2.2.1
def zc (S : Zs) : List Ck := S.2.2.2.1
def zh (S : Zs) : List (Nat × Int32) := S.2.2.2.2
def zaj (S : Zs) (j : Nat) : Zs := (j, S.2)
def zan (S : Zs) : Zs := (S.1, S.2.1 + 1, S.2.2)
def zaT (S : Zs) (T : Pg) : Zs := (S.1, S.2.1, T, S.2.2.2)
def zac (S : Zs) (c : Ck) : Zs := (S.1, S.2.1, S.2.2.1, S.2.2.2.1 ++ [c], S.2.2.2.2)
def zah (S : Zs) (h : Nat × Int32) : Zs := (S.1, S.2.1, S.2.2.1, S.2.2.2.1, S.2.2.2.2 ++ [h])
def up {α : Type} (f : Nat → α) (s : Nat) (v : α) : Nat → α := fun x => if x = s then v else f x
def tset (T : Pg) (s k : Nat) (a b : Int32) (e1 e2 : List En) (l : List Nat) (o : Option (List Nat)) (c : List (Int32 × List Nat)) : Pg := (up T.1 s k, up T.2.1 s a, up T.2.2.1 s b, up T.2.2.2.1 s e1, up T.2.2.2.2.1 s e2, up T.2.2.2.2.2.1 s l, up T.2.2.2.2.2.2.1 s o, up T.2.2.2.2.2.2.2.1 s c, T.2.2.2.2.2.2.2.2)
def tmet (T : Pg) (m : Nat) (l : List Nat) : Pg := (T.1, T.2.1, T.2.2.1, T.2.2.2.1, T.2.2.2.2.1, T.2.2.2.2.2.1, T.2.2.2.2.2.2.1, T.2.2.2.2.2.2.2.1, up T.2.2.2.2.2.2.2.2.1 m l, T.2.2.2.2.2.2.2.2.2)
def tabv (T : Pg) (k : Nat) (o : Option Nat) : Pg := (T.1, T.2.1, T.2.2.1, T.2.2.2.1, T.2.2.2.2.1, T.2.2.2.2.2.1, T.2.2.2.2.2.2.1, T.2.2.2.2.2.2.2.1, T.2.2.2.2.2.2.2.2.1, up T.2.2.2.2.2.2.2.2.2 k o)
/-- context: the guard whose catch is around (999: none), loops, blocks -/
abbrev Cx : Type := Nat × Nat × Nat
abbrev StF : Type := Cx → Zs → Ft ⊕ (Zs × List Nat)
def pBlk (t : Tks) (stms : StF) (c : Cx) (S : Zs) : Ft ⊕ (Zs × List Nat) := zN t (zj S) 123 (if 6 ≤ c.2.2 then zF t 2 (zj S) else zb (stms (c.1, c.2.1, c.2.2 + 1) (zaj S (zj S + 1))) (fun r => zN t (zj r.1) 125 (.inr (zaj r.1 (zj r.1 + 1), r.2))))
def begins (t : Tks) (j : Nat) : Bool := zK t j == 5 || zK t j == 6 || (zK t j == 2 && (zV t j == 3 || zV t j == 4 || zV t j == 7 || zV t j == 8 || (decide (10 ≤ zV t j) && decide (zV t j ≤ 17))))
/-- a call, from its word on -/
def pCall (t : Tks) (f : Nat) (s k : Nat) (a : Int32) (S : Zs) : Ft ⊕ Zs :=
  let j := zj S
  zN t (j + 1) 4 (zN t (j + 2) 40 (zb (pSum t f (j + 3)) (fun r => zN t r.1 44 (zb (pSum t f (r.1 + 1)) (fun q => zN t q.1 41 (zN t (q.1 + 1) 59 (.inr (zac (zaT (zaj S (q.1 + 2)) (tset (zT S) s k a (nI (zV t (j + 1))) r.2 q.2 [] none [])) (3, zP t (j + 1), zV t (j + 1))))))))))
/-- catches, a finishing block -/
def pCat (t : Tks) (blk : StF) (s : Nat) (c : Cx) : Nat → Zs → List (Int32 × List Nat) → Ft ⊕ (Zs × List (Int32 × List Nat))
  | 0, _, _ => .inl (9, 9)
  | g + 1, S, l => if zK t (zj S) = 2 ∧ zV t (zj S) = 18 then zN t (zj S + 1) 3 (zb (blk (s, c.2) (zah (zac (zaj S (zj S + 2)) (1, zP t (zj S + 1), zV t (zj S + 1))) (s, nI (zV t (zj S + 1))))) (fun r => pCat t blk s c g r.1 (l ++ [(nI (zV t (zj S + 1)), r.2)]))) else .inr (S, l)
def pGua (t : Tks) (f : Nat) (blk : StF) (s res : Nat) (c : Cx) (S : Zs) : Ft ⊕ Zs :=
  zb (blk c S) (fun b => if res = 0 ∧ ¬ (zK t (zj b.1) = 2 ∧ (zV t (zj b.1) = 18 ∨ zV t (zj b.1) = 19)) then zF t 1 (zj b.1) else
    zb (pCat t blk s c f b.1 []) (fun q => if zK t (zj q.1) = 2 ∧ zV t (zj q.1) = 19 then zb (blk c (zaj q.1 (zj q.1 + 1))) (fun z => .inr (zaT z.1 (tset (zT z.1) s (if res = 0 then 16 else 17) (nI res) 0 [] [] b.2 (some z.2) q.2)))
      else .inr (zaT q.1 (tset (zT q.1) s (if res = 0 then 16 else 17) (nI res) 0 [] [] b.2 none q.2))))
def pStm (t : Tks) (f : Nat) (blk : StF) (c : Cx) (S0 : Zs) : Ft ⊕ Zs :=
  let j := zj S0
  let s := zn S0
  let S := zan S0
  let w := zV t j
  if 80 ≤ s then zF t 2 j
  else if zK t j = 5 then
    if 6 ≤ w then zF t 2 j else zN t (j + 1) 61 (if zK t (j + 2) = 2 ∧ zV t (j + 2) = 4 then pCall t f s 2 (nI w) (zaj S (j + 2)) else zb (pSum t f (j + 2)) (fun r => zN t r.1 59 (.inr (zaT (zaj S (r.1 + 1)) (tset (zT S) s 1 (nI w) 0 r.2 [] [] none [])))))
  else if zK t j = 6 then
    if 3 ≤ w then zF t 2 j
    else if zK t (j + 1) = 91 then zb (pSum t f (j + 2)) (fun r => zN t r.1 93 (zN t (r.1 + 1) 61 (zb (pSum t f (r.1 + 2)) (fun q => zN t q.1 59 (.inr (zaT (zaj S (q.1 + 1)) (tset (zT S) s 6 (nI w) 0 r.2 q.2 [] none [])))))))
    else zN t (j + 1) 61 (if zK t (j + 2) = 2 ∧ zV t (j + 2) = 5 then zb (pSum t f (j + 3)) (fun r => zN t r.1 59 (.inr (zaT (zaj S (r.1 + 1)) (tset (zT S) s 3 (nI w) 0 r.2 [] [] none []))))
      else if zK t (j + 2) = 2 ∧ zV t (j + 2) = 6 then zN t (j + 3) 59 (.inr (zaT (zaj S (j + 4)) (tset (zT S) s 4 (nI w) 0 [] [] [] none [])))
      else zN t (j + 2) 6 (if 3 ≤ zV t (j + 2) then zF t 2 (j + 2) else zN t (j + 3) 59 (.inr (zaT (zaj S (j + 4)) (tset (zT S) s 5 (nI w) (nI (zV t (j + 2))) [] [] [] none [])))))
  else if w = 4 then pCall t f s 7 0 S
  else if w = 3 then zN t (j + 1) 7 (zN t (j + 2) 59 (.inr (zaT (zaj S (j + 3)) (tset (zT S) s 0 (nI (zV t (j + 1))) 0 [] [] [] none []))))
  else if w = 7 then zb (pSum t f (j + 1)) (fun r => zN t r.1 59 (.inr (zaT (zaj S (r.1 + 1)) (tset (zT S) s 8 0 0 r.2 [] [] none []))))
  else if w = 8 then zb (pSum t f (j + 1)) (fun r => if zK t r.1 = 61 ∨ zK t r.1 = 60 ∨ zK t r.1 = 62 then zb (pSum t f (r.1 + 1)) (fun q => zb (blk c (zaj S q.1)) (fun b =>
      if zK t (zj b.1) = 2 ∧ zV t (zj b.1) = 9 then zb (blk c (zaj b.1 (zj b.1 + 1))) (fun z => .inr (zaT z.1 (tset (zT z.1) s 9 (nI (zK t r.1)) 0 r.2 q.2 b.2 (some z.2) [])))
      else .inr (zaT b.1 (tset (zT b.1) s 9 (nI (zK t r.1)) 0 r.2 q.2 b.2 none [])))) else zF t 1 r.1)
  else if w = 10 then zb (pSum t f (j + 1)) (fun r => zb (blk (c.1, c.2.1 + 1, c.2.2) (zaj S r.1)) (fun b => .inr (zaT b.1 (tset (zT b.1) s 10 0 0 r.2 [] b.2 none []))))
  else if w = 11 ∨ w = 12 then zN t (j + 1) 7 (zN t (j + 2) 59 (.inr (zaT (zaj (if zV t (j + 1) = 0 ∨ c.2.1 < zV t (j + 1) then zac S (4, zP t (j + 1), 0) else S) (j + 3)) (tset (zT S) s w (nI (zV t (j + 1))) 0 [] [] [] none []))))
  else if w = 13 then zN t (j + 1) 3 (zN t (j + 2) 59 (.inr (zac (zaT (zaj S (j + 3)) (tset (zT S) s 13 (nI (zV t (j + 1))) 0 [] [] [] none [])) (1, zP t (j + 1), zV t (j + 1)))))
  else if w = 14 then zN t (j + 1) 3 (zN t (j + 2) 59 (.inr (zac (zaT (zaj (if c.1 = 999 then zac S (4, zP t j, 0) else S) (j + 3)) (tset (zT S) s 14 (nI (zV t (j + 1))) (nI c.1) [] [] [] none [])) (1, zP t (j + 1), zV t (j + 1)))))
  else if w = 15 then zN t (j + 1) 59 (.inr (zaT (zaj (if c.1 = 999 then zac S (4, zP t j, 0) else S) (j + 2)) (tset (zT S) s 15 0 (nI c.1) [] [] [] none [])))
  else if w = 16 then pGua t f blk s 0 c (zaj S (j + 1))
  else zN t (j + 1) 7 (if 1 ≤ zV t (j + 1) ∧ zV t (j + 1) ≤ 3 then pGua t f blk s (zV t (j + 1)) c (zaj S (j + 2)) else zF t 2 (j + 1))
def pStms (t : Tks) (f0 : Nat) : Nat → StF
  | 0, _, _ => .inl (9, 9)
  | f + 1, c, S => if begins t (zj S) = true then zb (pStm t f0 (pBlk t (pStms t f0 f)) c S) (fun S1 => zb (pStms t f0 f c S1) (fun r => .inr (r.1, zn S :: r.2))) else .inr (S, [])
/-! a program -/
abbrev Zp : Type := Zs × Nat × Nat
def pMth (t : Tks) (f : Nat) (X : Zp) : Ft ⊕ Zp :=
  let S := X.1
  let j := zj S
  if zK t j = 2 ∧ zV t j = 2 then (if 8 ≤ X.2.1 then zF t 2 j else zN t (j + 1) 123 (zb (pStms t f f (999, 0, 0) (zaj S (j + 2))) (fun r => zN t (zj r.1) 125 (.inr (zaT (zaj r.1 (zj r.1 + 1)) (tmet (zT r.1) X.2.1 r.2), X.2.1 + 1, X.2.2))))) else zF t 1 j
def pMts (t : Tks) (f : Nat) : Nat → Zp → Ft ⊕ Zp
  | 0, _ => .inl (9, 9)
  | g + 1, X => if zK t (zj X.1) = 2 ∧ zV t (zj X.1) = 2 then zb (pMth t f X) (pMts t f g) else .inr X
def pKds (t : Tks) : Nat → Zp → Ft ⊕ Zp
  | 0, _ => .inl (9, 9)
  | g + 1, X =>
    let S := X.1
    let j := zj S
    if zK t j = 2 ∧ zV t j = 0 then
      if 16 ≤ X.2.2 then zF t 2 j
      else if zK t (j + 1) = 2 ∧ zV t (j + 1) = 1 then zN t (j + 2) 3 (zN t (j + 3) 59 (pKds t g (zaT (zac (zaj S (j + 4)) (if zV t (j + 2) < X.2.2 then 0 else 4, zP t (j + 2), zV t (j + 2))) (tabv (zT S) X.2.2 (some (min (zV t (j + 2)) (X.2.2 - 1)))), X.2.1, X.2.2 + 1)))
      else zF t 1 (j + 1)
    else .inr X
/-- tables of no program -/
def tz : Pg := (fun _ => 0, fun _ => 0, fun _ => 0, fun _ => [], fun _ => [], fun _ => [], fun _ => none, fun _ => [], fun _ => [], fun k => if k = 0 then none else if k = 1 then some 0 else if k ≤ 6 then some 1 else none)
def badC (nm nk : Nat) (c : Ck) : Bool := (c.1 == 1 && decide (nk ≤ c.2.2)) || (c.1 == 3 && decide (nm ≤ c.2.2)) || c.1 == 4
def fBad (nm nk : Nat) (l : List Ck) : Option Nat := match l with
  | [] => none
  | c :: r => if badC nm nk c = true then some c.2.1 else fBad nm nk r
def pAll (t : Tks) (f : Nat) : Ft ⊕ Zp :=
  zb (pKds t f ((0, 0, tz, [], []), 0, 7)) (fun X => zb (pMth t f X) (fun Y => zb (pMts t f f Y) (fun Z => zN t (zj Z.1) 0 (match fBad Z.2.1 Z.2.2 (zc Z.1) with
    | some p => .inl (3, p)
    | none => .inr Z))))
