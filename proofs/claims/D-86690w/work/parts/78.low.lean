set_option maxRecDepth 100000
/-! THE LOWERING, plain. A scope: sort, statement, goal, gaps, their room, jumps, their room. What is made: how long, instructions, rows, room of both, cells and slots made. -/
abbrev Lc : Type := Nat × Nat × Nat × List (Nat × Nat) × Nat × List Nat × Nat
abbrev LSt : Type := Nat × (Nat → Ci) × List Crw × Nat × Nat × Nat × Nat
abbrev LX : Type := LSt × List Lc
def Xn (X : LX) : Nat := X.1.1
def Xo (X : LX) : Nat → Ci := X.1.2.1
def Xr (X : LX) : List Crw := X.1.2.2.1
def lwd (c k : Nat) : Nat := if k ≤ c then c else 2 * k
def lgc (c k : Nat) : Nat := if k ≤ c then 0 else 1
def lgs (c k : Nat) : Nat := if k ≤ c then 0 else 2 * k
/-- cells and slots are made -/
def coX (c s : Nat) (X : LX) : LX := ((X.1.1, X.1.2.1, X.1.2.2.1, X.1.2.2.2.1, X.1.2.2.2.2.1, X.1.2.2.2.2.2.1 + c, X.1.2.2.2.2.2.2 + s), X.2)
def aX (o a b : Nat) (X : LX) : LX := ((X.1.1 + 1, (fun i => if i = X.1.1 then (o, a, b) else X.1.2.1 i), X.1.2.2.1, lwd X.1.2.2.2.1 (3 * X.1.1 + 3), X.1.2.2.2.2.1, X.1.2.2.2.2.2.1 + lgc X.1.2.2.2.1 (3 * X.1.1 + 3), X.1.2.2.2.2.2.2 + lgs X.1.2.2.2.1 (3 * X.1.1 + 3)), X.2)
def lnX (j t : Nat) (X : LX) : LX := ((X.1.1, (fun i => if i = j then ((X.1.2.1 i).1, (X.1.2.1 i).2.1, t) else X.1.2.1 i), X.1.2.2), X.2)
def roX (f t a : Nat) (kd : Int32) (sl : Nat) (X : LX) : LX := if f < t then ((X.1.1, X.1.2.1, X.1.2.2.1 ++ [(f, t, a, kd, sl)], X.1.2.2.2.1, lwd X.1.2.2.2.2.1 (5 * X.1.2.2.1.length + 5), X.1.2.2.2.2.2.1 + lgc X.1.2.2.2.2.1 (5 * X.1.2.2.1.length + 5), X.1.2.2.2.2.2.2 + lgs X.1.2.2.2.2.1 (5 * X.1.2.2.1.length + 5)), X.2) else X
def rwX (gs : List (Nat × Nat)) (f t a : Nat) (kd : Int32) (sl : Nat) (X : LX) : LX := match gs with
  | [] => roX f t a kd sl X
  | g :: r => rwX r g.2 t a kd sl (roX f g.1 a kd sl X)
def lnsX (js : List Nat) (t : Nat) (X : LX) : LX := match js with
  | [] => X
  | j :: r => lnsX r t (lnX j t X)
/-- a scope is entered: an object and two arrays -/
def puX (sort s goal : Nat) (X : LX) : LX := ((coX 3 19 X).1, (sort, s, goal, [], 8, [], 4) :: X.2)
def poX (X : LX) : LX := (X.1, X.2.tail)
def toX (X : LX) : Lc := X.2.headD (0, 0, 0, [], 0, [], 0)
def cGs (c : Lc) : List (Nat × Nat) := c.2.2.2.1
def cJs (c : Lc) : List Nat := c.2.2.2.2.2.1
/-- the scope on top gets a jump, a gap -/
def juX (i : Nat) (X : LX) : LX := match X.2 with
  | [] => X
  | c :: K => ((coX (lgc c.2.2.2.2.2.2 ((cJs c).length + 1)) (lgs c.2.2.2.2.2.2 ((cJs c).length + 1)) X).1, (c.1, c.2.1, c.2.2.1, c.2.2.2.1, c.2.2.2.2.1, cJs c ++ [i], lwd c.2.2.2.2.2.2 ((cJs c).length + 1)) :: K)
def gaX (f t : Nat) (X : LX) : LX := match X.2 with
  | [] => X
  | c :: K => ((coX (lgc c.2.2.2.2.1 (2 * (cGs c).length + 2)) (lgs c.2.2.2.2.1 (2 * (cGs c).length + 2)) X).1, (c.1, c.2.1, c.2.2.1, cGs c ++ [(f, t)], lwd c.2.2.2.2.1 (2 * (cGs c).length + 2), c.2.2.2.2.2) :: K)
def lTL (sh : Bool) (X : LX) : Bool := !sh && decide (2000 < Xn X)
abbrev LB : Type := List Nat → LX → LX
/-- with the scope on top put aside -/
def unX (f : LX → LX) (X : LX) : LX := match X.2 with
  | [] => X
  | c :: K => ((f (X.1, K)).1, c :: (f (X.1, K)).2)
/-- what is done on a way out of the scope on top -/
def paX (T : Pg) (sh : Bool) (bk : LB) (w : Nat) (X : LX) : LX :=
  let c := toX X
  if c.1 = 1 then aX 10 c.2.1 0 X
  else if c.1 = 4 then aX 16 0 0 X
  else if c.1 = 5 then aX 17 0 (8 * c.2.1 + 1) X
  else if c.1 = 3 then
    let X1 := if w = 1 then aX 13 0 (8 * c.2.1 + 2) X else X
    let X2 := if sh = true then
        let X3 := aX 5 0 0 (aX 19 (8 * c.2.1 + 3) 0 (aX 18 0 (8 * c.2.1 + 1) X1))
        lnX (Xn X1 + 1) (Xn X3) (juX (Xn X1 + 2) X3)
      else unX (bk (finB T c.2.1)) (aX 12 c.2.1 0 X1)
    if w = 1 then aX 14 0 (8 * c.2.1 + 2) X2 else X2
  else X
def lvX (T : Pg) (sh : Bool) (bk : LB) (w : Nat) : Nat → Nat → LX → LX
  | 0, _, X => aX 22 0 0 X
  | d + 1, n, X =>
    let c := toX X
    if c.1 = 0 ∧ w = 2 ∧ n = 1 then juX (Xn X) (aX 5 0 0 X)
    else if c.1 = 0 ∧ w = 3 ∧ n = 1 then aX 5 0 c.2.2.1 X
    else
      let X2 := unX (lvX T sh bk w d (if c.1 = 0 then n - 1 else n)) (paX T sh bk w X)
      gaX (Xn X) (Xn X2) X2
/-- leaves: the row of 40 numbers -/
def leX (T : Pg) (sh : Bool) (bk : LB) (w n : Nat) (X : LX) : LX := lvX T sh bk w X.2.length n (coX 1 40 X)
def inX (T : Pg) (bk : LB) (s : Nat) (X : LX) : LX :=
  if Tk T s = 16 then bk (Tl T s) X
  else
    let X1 := aX 9 s 0 X
    let X2 := bk (Tl T s) (puX 1 s 0 X1)
    let X3 := aX 5 0 0 (aX 10 s 0 (poX X2))
    lnX (Xn X2 + 1) (Xn X2 + 3) (aX 11 s (8 * s + 7) (rwX (cGs (toX X2)) (Xn X1) (Xn X2) (Xn X2 + 2) NN (8 * s + 7) X3))
def csX (bk : LB) (s : Nat) (gs : List (Nat × Nat)) (f t : Nat) (l : List (Int32 × List Nat)) (js : List Nat) (X : LX) : LX := match l with
  | [] => lnsX js (Xn X) X
  | c :: r =>
    let X2 := bk c.2 (rwX gs f t (Xn X) c.1 (8 * s) X)
    csX bk s gs f t r (js ++ [Xn X2]) (aX 5 0 0 X2)
def caX (T : Pg) (bk : LB) (s : Nat) (X : LX) : LX :=
  if Tc T s = [] then inX T bk s X
  else
    let X2 := inX T bk s (puX 2 s 0 X)
    csX bk s (cGs (toX X2)) (Xn X) (Xn X2) (Tc T s) [Xn X2] (aX 5 0 0 (coX 1 ((Tc T s).length + 1) (poX X2)))
def pdX (bk : LB) (s sort : Nat) (b : List Nat) (X : LX) : LX :=
  let X2 := bk b (puX sort s 0 X)
  let X3 := rwX (cGs (toX X2)) (Xn X) (Xn X2) (Xn X2 + 1) NN (8 * s + 7) (aX 5 0 0 (poX X2))
  lnX (Xn X2) (Xn X2 + 3) (aX 15 0 (8 * s + 7) (aX (if sort = 4 then 16 else 17) 0 (8 * s + 1) X3))
def gdX (T : Pg) (sh : Bool) (bk : LB) (s : Nat) (X : LX) : LX := match To T s with
  | none => caX T bk s X
  | some b =>
    let X2 := caX T bk s (puX 3 s 0 X)
    let c := toX X2
    let p := Xn X2
    if sh = true then
      let X3 := aX 5 0 0 (aX 19 (8 * s + 3) 0 (aX 18 0 (8 * s + 1) (poX X2)))
      let X4 := aX 19 (8 * s + 3) 0 (rwX (cGs c) (Xn X) p (p + 3) NN (8 * s + 1) X3)
      let X5 := aX 12 s 0 (lnsX (cJs c) (p + 4) (lnX (p + 2) (p + 4) X4))
      let X6 := aX 20 0 (8 * s + 3) (pdX bk s 5 b X5)
      let X7 := aX 15 0 (8 * s + 1) (lnX (p + 3) (Xn X6) X6)
      lnX (p + 1) (Xn X7) X7
    else
      let X3 := bk b (aX 12 s 0 (poX X2))
      let X4 := aX 5 0 0 X3
      let X5 := aX 12 s 0 (rwX (cGs c) (Xn X) p (Xn X4) NN (8 * s + 1) X4)
      let X6 := aX 15 0 (8 * s + 1) (pdX bk s 4 b X5)
      lnX (Xn X3) (Xn X6) X6
def stX (T : Pg) (sh : Bool) (bk : LB) (s : Nat) (X : LX) : LX :=
  let k := Tk T s
  if k = 2 ∨ k = 7 then aX 2 s 0 X
  else if k = 8 then leX T sh bk 1 0 (aX 3 s 0 X)
  else if k = 9 then
    let X2 := bk (Tl T s) (aX 4 s 0 X)
    let X3 := bk ((To T s).getD []) (lnX (Xn X) (Xn X2 + 1) (aX 5 0 0 X2))
    lnX (Xn X2) (Xn X3) X3
  else if k = 10 then
    let X2 := bk (Tl T s) (puX 0 s (Xn X + 1) (aX 7 s 0 (aX 6 s (8 * s) X)))
    lnsX (cJs (toX X2)) (Xn X2 + 1) (lnX (Xn X + 1) (Xn X2 + 1) (aX 5 0 (Xn X + 1) (poX X2)))
  else if k = 11 then leX T sh bk 2 (Ta T s).toNatClampNeg X
  else if k = 12 then leX T sh bk 3 (Ta T s).toNatClampNeg X
  else if k = 14 ∨ k = 15 then aX 8 s 0 X
  else if k = 16 ∨ k = 17 then gdX T sh bk s X
  else aX 1 s 0 X
def blX (T : Pg) (sh : Bool) : Nat → LB
  | 0, _, X => X
  | m + 1, ss, X => match ss with
    | [] => X
    | s :: r => if lTL sh X = true then X else blX T sh m r (stX T sh (blX T sh m) s (aX 0 s 0 X))
