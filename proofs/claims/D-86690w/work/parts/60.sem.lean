set_option maxRecDepth 100000
/-! MEANING of a program, in plain terms. A program: flat tables by statement number: sort (the twin's numbers), A, B, two sums (entries as the twin's: 0 number 1 var 2 row 3 size 4 neg 5 add 6 less 7 times 8 over 9 rest), block, other block (else, finally), catches, methods' blocks, kind above. -/
abbrev En : Type := Nat × Int32
abbrev Pg : Type := (Nat → Nat) × (Nat → Int32) × (Nat → Int32) × (Nat → List En) × (Nat → List En) × (Nat → List Nat) × (Nat → Option (List Nat)) × (Nat → List (Int32 × List Nat)) × (Nat → List Nat) × (Nat → Option Nat)
def Tk (T : Pg) : Nat → Nat := T.1
def Ta (T : Pg) : Nat → Int32 := T.2.1
def Tb (T : Pg) : Nat → Int32 := T.2.2.1
def T1 (T : Pg) : Nat → List En := T.2.2.2.1
def T2 (T : Pg) : Nat → List En := T.2.2.2.2.1
def Tl (T : Pg) : Nat → List Nat := T.2.2.2.2.2.1
def To (T : Pg) : Nat → Option (List Nat) := T.2.2.2.2.2.2.1
def Tc (T : Pg) : Nat → List (Int32 × List Nat) := T.2.2.2.2.2.2.2.1
def Tm (T : Pg) : Nat → List Nat := T.2.2.2.2.2.2.2.2.1
def Tu (T : Pg) : Nat → Option Nat := T.2.2.2.2.2.2.2.2.2
/-- what a way comes to: sort (0 on, 1 return, 2 leave, 3 next, 4 failure, 5 spent), its value, the book -/
abbrev Rs : Type := Nat × Int32 × Bk
def b1 (B : Bk) (c v : Nat) : Bk := (fun x => if x = c then v else B.1 x, B.2)
def b2 (B : Bk) (o i : Nat) (v : Int32) : Bk := (B.1, fun x y => if x = o ∧ y = i then v else B.2 x y)
/-- the top frame's parts -/
def oAt (B : Bk) : Nat := 14 + 4 * B.1 10
def oVar (B : Bk) : Nat := 15 + 4 * B.1 10
def oRow (B : Bk) : Nat := 16 + 4 * B.1 10
def bStp (B : Bk) : Bk := b1 B 9 (B.1 9 + 1)
def isSpent (B : Bk) : Bool := B.1 9 == B.1 11
def sFail (kind : Int32) (B : Bk) : Rs := (4, nI (B.1 4), bMakes kind NN B)
/-! sums -/
def rowOf (B : Bk) (r : Int32) : Int32 := B.2 (oRow B) r.toNatClampNeg
def inRow (B : Bk) (n k : Int32) : Bool := decide (0 ≤ k) && decide (k ≤ B.2 14 n.toNatClampNeg - 1)
def cellOf (n k : Int32) : Nat := 8 * n.toNatClampNeg + k.toNatClampNeg
def ev1 (B : Bk) (e : En) (st : List Int32) : Int32 × List Int32 :=
  if e.1 = 0 then (0, e.2 :: st)
  else if e.1 = 1 then (0, B.2 (oVar B) e.2.toNatClampNeg :: st)
  else if e.1 = 3 then (if rowOf B e.2 = NN then (4, st) else (0, B.2 14 (rowOf B e.2).toNatClampNeg :: st))
  else match st with
    | [] => (0, [])
    | y :: r => if e.1 = 2 then (if rowOf B e.2 = NN then (4, st) else if inRow B (rowOf B e.2) y = true then (0, B.2 15 (cellOf (rowOf B e.2) y) :: r) else (3, st))
      else if e.1 = 4 then (0, (0 - y) :: r)
      else match r with
        | [] => (0, [])
        | x :: q => if e.1 = 5 then (0, (x + y) :: q) else if e.1 = 6 then (0, (x - y) :: q) else if e.1 = 7 then (0, (x * y) :: q) else if y = 0 then (2, st) else if e.1 = 8 then (0, (x / y) :: q) else (0, (x - x / y * y) :: q)
def evs (B : Bk) (es : List En) (st : List Int32) : Int32 × List Int32 := match es with
  | [] => (0, st)
  | e :: r => if (ev1 B e st).1 = 0 then evs B r (ev1 B e st).2 else ev1 B e st
/-- a sum's failure's kind (0: none), its value -/
def evE (B : Bk) (es : List En) : Int32 × Int32 := ((evs B es []).1, (evs B es []).2.headD 0)
/-! parts that are passed -/
def bPass (k : Nat) (B : Bk) : Bk :=
  let t := B.2 12 k + 1
  let B1 := b2 B 12 k t
  if B.1 13 < 60 then b1 (b2 (b2 B1 13 (2 * B.1 13) (nI k)) 13 (2 * B.1 13 + 1) t) 13 (B.1 13 + 1) else B1
/-- the end of what is suppressed, from k on -/
def lst (B : Bk) : Nat → Nat → Nat
  | 0, k => k
  | n + 1, k => if B.2 6 k = NN then k else lst B n (B.2 6 k).toNatClampNeg
def bSup (f : Nat) (g : Int32) (B : Bk) : Bk := if B.2 5 f = NN then b2 B 5 f g else b2 B 6 (lst B (B.1 4) (B.2 5 f).toNatClampNeg) g
/-- resources are opened: those left, the next one; at the end: how many are open, too -/
def sOpens (pl : Nat → Int32 → Int32) (s : Nat) : Nat → Nat → Bk → Nat × Rs
  | 0, i, B => (i, 0, 0, B)
  | n + 1, i, B => if isSpent B = true then (i, 5, 0, B) else
    let B2 := bPass (7 * s + 1 + i) (bStp B)
    let k := pl (7 * s + 1 + i) (B2.2 12 (7 * s + 1 + i))
    if k = NN then sOpens pl s n (i + 1) (b1 B2 5 (B2.1 5 + 1)) else (i, sFail k B2)
/-- so many are closed, o the first one's number; the way that is pending -/
def sCl (pl : Nat → Int32 → Int32) (s o : Nat) : Nat → Nat → Int32 → Bk → Rs
  | 0, p, v, B => (p, v, B)
  | n + 1, p, v, B => if isSpent B = true then (5, 0, B) else
    let B1 := bStp B
    let B2 := bPass (7 * s + 4 + n) (b1 (b2 B1 10 (B1.1 6) (nI (o + n))) 6 (B1.1 6 + 1))
    let k := pl (7 * s + 4 + n) (B2.2 12 (7 * s + 4 + n))
    if k = NN then sCl pl s o n p v B2
    else if p = 4 then sCl pl s o n 4 v (bSup v.toNatClampNeg (nI (B2.1 4)) (bMakes k NN B2))
    else sCl pl s o n 4 (nI (B2.1 4)) (bMakes k NN B2)
/-- is a kind under another one (or it) -/
def und (T : Pg) : Nat → Nat → Nat → Bool
  | 0, k, o => k == o
  | n + 1, k, o => if k = o then true else match Tu T k with
    | none => false
    | some q => und T n q o
def catchFor (T : Pg) (kind : Int32) (l : List (Int32 × List Nat)) : Option (List Nat) := match l with
  | [] => none
  | c :: r => if und T 16 kind.toNatClampNeg c.1.toNatClampNeg = true then some c.2 else catchFor T kind r
abbrev Wk : Type := List Nat → Int32 → Bk → Rs
def sLoop (bk : Wk) (ss : List Nat) (tk : Int32) : Nat → Bk → Rs
  | 0, B => (0, 0, B)
  | t + 1, B => if isSpent B = true then (5, 0, B) else
    let q := bk ss tk (bStp B)
    if q.1 = 0 ∨ (q.1 = 3 ∧ q.2.1 = 1) then sLoop bk ss tk t q.2.2
    else if q.1 = 2 ∧ q.2.1 = 1 then (0, 0, q.2.2)
    else if q.1 = 2 ∨ q.1 = 3 then (q.1, q.2.1 - 1, q.2.2) else q
/-- a method is under way -/
def bEnter (m : Nat) (x y : Int32) (B : Bk) : Bk :=
  (fun c => if c = 10 then B.1 10 + 1 else if c = 8 then (if B.1 8 < B.1 10 + 1 then B.1 10 + 1 else B.1 8) else if c = 600 + B.1 10 then m else B.1 c,
   fun o i => if o = 18 + 4 * B.1 10 ∧ i = 0 then NN else if o = 19 + 4 * B.1 10 ∧ i < 6 then (if i = 0 then x else if i = 1 then y else 0) else if o = 20 + 4 * B.1 10 ∧ i < 3 then NN else B.2 o i)
def bExit (B : Bk) : Bk := b1 B 10 (B.1 10 - 1)
/-- a guard's first block, with its resources -/
def sInner (T : Pg) (pl : Nat → Int32 → Int32) (bk : Wk) (s : Nat) (tk : Int32) (B : Bk) : Rs :=
  if Tk T s = 16 then bk (Tl T s) tk B
  else
    let w := sOpens pl s (Ta T s).toNatClampNeg 0 B
    if w.2.1 = 5 then w.2
    else
      let q := if w.2.1 = 0 then bk (Tl T s) tk w.2.2.2 else w.2
      if q.1 = 5 then q else sCl pl s (B.1 5) w.1 q.1 q.2.1 (b2 q.2.2 (oAt q.2.2) 0 (nI s))
def sCaught (T : Pg) (pl : Nat → Int32 → Int32) (bk : Wk) (s : Nat) (tk : Int32) (B : Bk) : Rs :=
  let q := sInner T pl bk s tk B
  if q.1 = 4 then match catchFor T (q.2.2.2 3 q.2.1.toNatClampNeg) (Tc T s) with
    | none => q
    | some b => bk b q.2.1 q.2.2
  else q
def sGuard (T : Pg) (pl : Nat → Int32 → Int32) (bk : Wk) (s : Nat) (tk : Int32) (B : Bk) : Rs :=
  let q := sCaught T pl bk s tk B
  match To T s with
  | none => q
  | some b => if q.1 = 5 then q else
    let w := bk b tk (b2 q.2.2 11 s (q.2.2.2 11 s + 1))
    if w.1 = 5 then w
    else if w.1 = 0 then (q.1, q.2.1, w.2.2)
    else if q.1 = 4 then (w.1, w.2.1, b1 w.2.2 7 (w.2.2.1 7 + 1)) else w
def sCall (T : Pg) (bk : Wk) (s : Nat) (tk x y : Int32) (B : Bk) : Rs :=
  if B.1 10 = 12 then sFail 6 B
  else
    let q := bk (Tm T (Tb T s).toNatClampNeg) tk (bEnter (Tb T s).toNatClampNeg x y B)
    if q.1 = 5 then q
    else if q.1 = 4 then (4, q.2.1, bExit q.2.2)
    else
      let v := if q.1 = 1 then q.2.1 else 0
      let B2 := bExit q.2.2
      (0, 0, if Tk T s = 2 then b2 B2 (oVar B2) (Ta T s).toNatClampNeg v else B2)
def holds (sg x y : Int32) : Bool := if sg = 61 then decide (x = y) else if sg = 60 then decide (x < y) else decide (y < x)
def turns (n : Int32) : Nat := if n < 1 then 0 else n.toNatClampNeg
/-- a statement, behind its step -/
def stm (T : Pg) (pl : Nat → Int32 → Int32) (bk : Wk) (s : Nat) (tk : Int32) (B : Bk) : Rs :=
  let k := Tk T s
  let a := Ta T s
  let w1 := evE B (T1 T s)
  let w2 := evE B (T2 T s)
  if k = 0 then
    let B1 := bPass (7 * s) B
    let c := pl (7 * s) (B1.2 12 (7 * s))
    if c = NN then (0, 0, b1 (b2 B1 2 (B1.1 3) a) 3 (B1.1 3 + 1)) else sFail c B1
  else if k = 4 then (0, 0, b2 B (oRow B) a.toNatClampNeg NN)
  else if k = 5 then (0, 0, b2 B (oRow B) a.toNatClampNeg (rowOf B (Tb T s)))
  else if k = 11 then (2, a, B)
  else if k = 12 then (3, a, B)
  else if k = 13 then sFail a B
  else if k = 14 then (4, nI (B.1 4), bMakes a tk B)
  else if k = 15 then (4, tk, B)
  else if k = 16 ∨ k = 17 then sGuard T pl bk s tk B
  else if w1.1 ≠ 0 then sFail w1.1 B
  else if k = 1 then (0, 0, b2 B (oVar B) a.toNatClampNeg w1.2)
  else if k = 3 then (if 0 ≤ w1.2 ∧ w1.2 ≤ 8 then (0, 0, (fun c => if c = 12 then B.1 12 + 1 else B.1 c, fun o i => if o = 14 ∧ i = B.1 12 then w1.2 else if o = 15 ∧ 8 * B.1 12 ≤ i ∧ i < 8 * B.1 12 + 8 then 0 else if o = oRow B ∧ i = a.toNatClampNeg then nI (B.1 12) else B.2 o i)) else sFail 5 B)
  else if k = 8 then (1, w1.2, B)
  else if k = 10 then sLoop bk (Tl T s) tk (turns w1.2) B
  else if w2.1 ≠ 0 then sFail w2.1 B
  else if k = 6 then (if rowOf B a = NN then sFail 4 B else if inRow B (rowOf B a) w1.2 = true then (0, 0, b2 B 15 (cellOf (rowOf B a) w1.2) w2.2) else sFail 3 B)
  else if k = 9 then bk (if holds a w1.2 w2.2 = true then Tl T s else (To T s).getD []) tk B
  else sCall T bk s tk w1.2 w2.2 B
/-- a block; n: at least the steps left -/
def sBlk (T : Pg) (pl : Nat → Int32 → Int32) : Nat → Wk
  | 0, ss, _, B => match ss with
    | [] => (0, 0, B)
    | _ :: _ => (5, 0, B)
  | n + 1, ss, tk, B => match ss with
    | [] => (0, 0, B)
    | s :: r => if isSpent B = true then (5, 0, B) else
      let q := stm T pl (sBlk T pl n) s tk (b2 (bStp B) (oAt B) 0 (nI s))
      if q.1 = 0 then sBlk T pl n r tk q.2.2 else q
/-- a whole run: method m on a, b, so many steps: sort of end (0 returned, 1 thrown, 2 spent), what was given, the failure, the book -/
def bZero (most : Nat) : Bk := (fun c => if c = 11 then most else 0, fun _ _ => 0)
def sRun (T : Pg) (pl : Nat → Int32 → Int32) (m : Nat) (a b : Int32) (most : Nat) : Nat × Int32 × Int32 × Bk :=
  let q := sBlk T pl most (Tm T m) NN (bEnter m a b (bZero most))
  if q.1 = 5 then (2, 0, NN, q.2.2) else if q.1 = 4 then (1, 0, q.2.1, q.2.2) else (0, if q.1 = 1 then q.2.1 else 0, NN, q.2.2)
