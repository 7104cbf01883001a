set_option maxRecDepth 100000
/-! THE PILE: the twin's machine, plain. A frame: sort (0 method 1 block 2 loop 3 guard), statement, what is left of a block, turns left or phase, what is pending, its value, first resource, how many are open, what was caught. A state: signal (9 none yet), its value, pile, end (9 not yet, 2 spent), book. -/
abbrev Fr : Type := Nat × Nat × List Nat × Nat × Nat × Int32 × Nat × Nat × Int32
abbrev Ps : Type := Nat × Int32 × List Fr × Nat × Bk
def fBlk (ss : List Nat) : Fr := (1, 0, ss, 0, 0, 0, 0, 0, NN)
/-- a method: its target in the place of what is pending -/
def fMth (t : Int32) : Fr := (0, 0, [], 0, 0, t, 0, 0, NN)
def fLop (s n : Nat) : Fr := (2, s, [], n, 0, 0, 0, 0, NN)
/-- a guard: statement, phase, pending, its value, first, open, caught -/
def fGrd (s ph p : Nat) (v : Int32) (o n : Nat) (c : Int32) : Fr := (3, s, [], ph, p, v, o, n, c)
def tkOf (K : List Fr) : Int32 := match K with
  | [] => NN
  | f :: r => if f.1 = 3 ∧ f.2.2.2.1 = 2 then f.2.2.2.2.2.2.2.2 else tkOf r
def pFail (kind : Int32) (K : List Fr) (B : Bk) : Ps := (4, nI (B.1 4), K, 9, bMakes kind NN B)
/-- the loop on top: its next turn -/
def pTurn (T : Pg) (s : Nat) (sv : Int32) (K : List Fr) (B : Bk) : Ps := if isSpent B = true then (9, sv, K, 2, B) else (9, sv, fBlk (Tl T s) :: K, 9, bStp B)
def pDo (T : Pg) (pl : Nat → Int32 → Int32) (s : Nat) (sv : Int32) (K : List Fr) (B : Bk) : Ps :=
  let k := Tk T s
  let a := Ta T s
  let w1 := evE B (T1 T s)
  let w2 := evE B (T2 T s)
  if k = 16 then (9, sv, fBlk (Tl T s) :: fGrd s 0 0 0 0 0 NN :: K, 9, B)
  else if k = 17 then
    let w := sOpens pl s a.toNatClampNeg 0 B
    let F := fGrd s 0 0 0 (B.1 5) w.1 NN
    if w.2.1 = 5 then (9, sv, F :: K, 2, w.2.2.2) else if w.2.1 = 4 then (4, w.2.2.1, F :: K, 9, w.2.2.2) else (9, sv, fBlk (Tl T s) :: F :: K, 9, w.2.2.2)
  else if k = 2 ∨ k = 7 then
    if w1.1 ≠ 0 then pFail w1.1 K B else if w2.1 ≠ 0 then pFail w2.1 K B
    else if B.1 10 = 12 then pFail 6 K B
    else (9, sv, fBlk (Tm T (Tb T s).toNatClampNeg) :: fMth (if k = 2 then a else -1) :: K, 9, bEnter (Tb T s).toNatClampNeg w1.2 w2.2 B)
  else if k = 9 then
    if w1.1 ≠ 0 then pFail w1.1 K B else if w2.1 ≠ 0 then pFail w2.1 K B
    else if holds a w1.2 w2.2 = true then (9, sv, fBlk (Tl T s) :: K, 9, B) else match To T s with
      | none => (9, sv, K, 9, B)
      | some b => (9, sv, fBlk b :: K, 9, B)
  else if k = 10 then
    if w1.1 ≠ 0 then pFail w1.1 K B else if turns w1.2 = 0 then (9, sv, K, 9, B) else pTurn T s sv (fLop s (turns w1.2) :: K) B
  else
    let q := stm T pl (fun _ _ B => (0, 0, B)) s (tkOf K) B
    if q.1 = 0 then (9, sv, K, 9, q.2.2) else (q.1, q.2.1, K, 9, q.2.2)
def pFin (T : Pg) (s p : Nat) (v : Int32) (o : Nat) (c : Int32) (sg : Nat) (sv : Int32) (K : List Fr) (B : Bk) : Ps := match To T s with
  | none => (p, v, K, 9, B)
  | some b => (9, sv, fBlk b :: fGrd s 3 p v o 0 c :: K, 9, b2 B 11 s (B.2 11 s + 1))
def pGrd (T : Pg) (pl : Nat → Int32 → Int32) (f : Fr) (sg : Nat) (sv : Int32) (K : List Fr) (B : Bk) : Ps :=
  let s := f.2.1
  let ph := f.2.2.2.1
  let o := f.2.2.2.2.2.2.1
  let n := f.2.2.2.2.2.2.2.1
  if ph = 3 then
    if sg = 0 then (f.2.2.2.2.1, f.2.2.2.2.2.1, K, 9, B) else if f.2.2.2.2.1 = 4 then (sg, sv, K, 9, b1 B 7 (B.1 7 + 1)) else (sg, sv, K, 9, B)
  else if ph = 0 then
    let q := if n = 0 then (sg, sv, B) else sCl pl s o n sg sv (b2 B (oAt B) 0 (nI s))
    if q.1 = 5 then (sg, sv, f :: K, 2, q.2.2)
    else if q.1 = 4 then match catchFor T (q.2.2.2 3 q.2.1.toNatClampNeg) (Tc T s) with
      | none => pFin T s q.1 q.2.1 o NN sg sv K q.2.2
      | some b => (9, sv, fBlk b :: fGrd s 2 q.1 q.2.1 o 0 q.2.1 :: K, 9, q.2.2)
    else pFin T s q.1 q.2.1 o NN sg sv K q.2.2
  else pFin T s sg sv o f.2.2.2.2.2.2.2.2 sg sv K B
def pLop (T : Pg) (f : Fr) (sg : Nat) (sv : Int32) (K : List Fr) (B : Bk) : Ps :=
  let s := f.2.1
  if sg = 0 ∨ (sg = 3 ∧ sv = 1) then
    if 1 < f.2.2.2.1 then pTurn T s sv (fLop s (f.2.2.2.1 - 1) :: K) B else (0, sv, K, 9, B)
  else if sg = 2 ∧ sv = 1 then (0, sv, K, 9, B)
  else if sg = 2 ∨ sg = 3 then (sg, sv - 1, K, 9, B) else (sg, sv, K, 9, B)
/-- one go; the end of the first method is told by the end 0 or 1 -/
def pGo (T : Pg) (pl : Nat → Int32 → Int32) (x : Ps) : Ps := match x with
  | (_, _, [], _, _) => x
  | (sg, sv, f :: K, e, B) =>
    if sg = 9 then match f.2.2.1 with
      | [] => (0, sv, K, 9, B)
      | s :: r => if isSpent B = true then (9, sv, fBlk r :: K, 2, B) else pDo T pl s sv (fBlk r :: K) (b2 (bStp B) (oAt B) 0 (nI s))
    else if f.1 = 1 then (if sg = 0 then (9, sv, f :: K, e, B) else (sg, sv, K, e, B))
    else if f.1 = 2 then pLop T f sg sv K B
    else if f.1 = 3 then pGrd T pl f sg sv K B
    else
      let v := if sg = 1 then sv else 0
      let B2 := bExit B
      if B2.1 10 = 0 then (sg, sv, K, if sg = 4 then 1 else 0, B2)
      else if sg = 4 then (4, sv, K, 9, B2)
      else (0, sv, K, 9, if 0 ≤ f.2.2.2.2.2.1 then b2 B2 (oVar B2) f.2.2.2.2.2.1.toNatClampNeg v else B2)
def pIt (T : Pg) (pl : Nat → Int32 → Int32) : Nat → Ps → Ps
  | 0, x => x
  | n + 1, x => if x.2.2.2.1 = 9 then pIt T pl n (pGo T pl x) else x
/-- comes to -/
def pTo (T : Pg) (pl : Nat → Int32 → Int32) (x y : Ps) : Prop := ∃ n, pIt T pl n x = y
theorem pIt_add (T : Pg) (pl : Nat → Int32 → Int32) : ∀ (n m : Nat) (x : Ps), pIt T pl (n + m) x = pIt T pl m (pIt T pl n x) := by
  intro n
  induction n with
  | zero => intro m x; rw [Nat.zero_add]; rfl
  | succ n ih =>
    intro m x
    rw [show n + 1 + m = (n + m) + 1 from by omega]
    by_cases h : x.2.2.2.1 = 9
    · simp only [pIt, if_pos h]
      exact ih m _
    · simp only [pIt, if_neg h]
      cases m with
      | zero => rfl
      | succ m => simp only [pIt, if_neg h]
theorem pTo.refl {T : Pg} {pl : Nat → Int32 → Int32} {x : Ps} : pTo T pl x x := ⟨0, rfl⟩
theorem pTo.trans {T : Pg} {pl : Nat → Int32 → Int32} {x y z : Ps} (h : pTo T pl x y) (k : pTo T pl y z) : pTo T pl x z := by
  obtain ⟨n, rfl⟩ := h
  obtain ⟨m, rfl⟩ := k
  exact ⟨n + m, pIt_add T pl n m x⟩
theorem pTo.one {T : Pg} {pl : Nat → Int32 → Int32} {sg : Nat} {sv : Int32} {K : List Fr} {B : Bk} {y z : Ps} (h : pGo T pl (sg, sv, K, 9, B) = y) (k : pTo T pl y z) : pTo T pl (sg, sv, K, 9, B) z := pTo.trans ⟨1, by simp only [pIt, if_pos]; exact h⟩ k
/-- what a result is on a pile -/
def pIs (K : List Fr) (q : Rs) (y : Ps) : Prop := if q.1 = 5 then y.2.2.2.1 = 2 ∧ y.2.2.2.2 = q.2.2 else ∃ v, (q.1 ≠ 0 → v = q.2.1) ∧ y = (q.1, v, K, 9, q.2.2)
def pEnd (T : Pg) (pl : Nat → Int32 → Int32) (x : Ps) (K : List Fr) (q : Rs) : Prop := ∃ y, pTo T pl x y ∧ pIs K q y
