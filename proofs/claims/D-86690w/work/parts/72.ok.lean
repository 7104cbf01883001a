set_option maxRecDepth 100000
/-! CODE OF A BLOCK. What lies around: a list of scopes: sort (0 loop 1 with 2 catch 3 finish 4 pending 5 may pend), statement, goal, where it goes on (behind a loop; a shared finishing block), handlers outside of it. -/
abbrev Hf : Type := Int32 → Option (Nat × Nat)
abbrev Sc : Type := Nat × Nat × Nat × Nat × Hf
abbrev OkB : Type := List Sc → Hf → List Nat → Nat → Nat → Prop
def hAt (T : Pg) (C : Cd) (h : Hf) (p : Nat) : Prop := ∀ kd, hlr T C.2.1 p kd = h kd
def finB (T : Pg) (s : Nat) : List Nat := (To T s).getD []
/-- a way out (1 return, 2 leave, 3 next; of n loops) from e on -/
def okLv (T : Pg) (sh : Bool) (C : Cd) (bk : OkB) (K : List Sc) (w n e : Nat) : Prop := match K with
  | [] => w = 1 ∧ (C.1 e).1 = 22
  | c :: K' =>
    if c.1 = 0 then (if w = 2 ∧ n = 1 then (C.1 e).1 = 5 ∧ (C.1 e).2.2 = c.2.2.2.1 else if w = 3 ∧ n = 1 then (C.1 e).1 = 5 ∧ (C.1 e).2.2 = c.2.2.1 else okLv T sh C bk K' w (n - 1) e)
    else if c.1 = 1 then C.1 e = (10, c.2.1, 0) ∧ hAt T C c.2.2.2.2 e ∧ okLv T sh C bk K' w n (e + 1)
    else if c.1 = 2 then okLv T sh C bk K' w n e
    else if c.1 = 3 then
      if sh = true then ∃ e1, e1 < 100000 ∧ (if w = 1 then C.1 e = (13, 0, 8 * c.2.1 + 2) ∧ e1 = e + 1 else e1 = e) ∧ C.1 e1 = (18, 0, 8 * c.2.1 + 1) ∧ C.1 (e1 + 1) = (19, 8 * c.2.1 + 3, e1 + 3) ∧ (C.1 (e1 + 2)).1 = 5 ∧ (C.1 (e1 + 2)).2.2 = c.2.2.2.1 ∧ ∃ e3, (if w = 1 then C.1 (e1 + 3) = (14, 0, 8 * c.2.1 + 2) ∧ e3 = e1 + 4 else e3 = e1 + 3) ∧ okLv T sh C bk K' w n e3
      else ∃ e1 e2 e3, (if w = 1 then C.1 e = (13, 0, 8 * c.2.1 + 2) ∧ e1 = e + 1 else e1 = e) ∧ C.1 e1 = (12, c.2.1, 0) ∧ bk K' c.2.2.2.2 (finB T c.2.1) (e1 + 1) e2 ∧ (if w = 1 then C.1 e2 = (14, 0, 8 * c.2.1 + 2) ∧ e3 = e2 + 1 else e3 = e2) ∧ okLv T sh C bk K' w n e3
    else if c.1 = 4 then (C.1 e).1 = 16 ∧ okLv T sh C bk K' w n (e + 1)
    else C.1 e = (17, 0, 8 * c.2.1 + 1) ∧ okLv T sh C bk K' w n (e + 1)
def okIn (T : Pg) (C : Cd) (bk : OkB) (K : List Sc) (h : Hf) (s p q : Nat) : Prop :=
  if Tk T s = 16 then bk K h (Tl T s) p q
  else ∃ p1, C.1 p = (9, s, 0) ∧ hAt T C h p ∧ bk ((1, s, 0, 0, h) :: K) (fun _ => some (p1 + 2, 8 * s + 7)) (Tl T s) (p + 1) p1 ∧ C.1 p1 = (10, s, 0) ∧ hAt T C h p1 ∧ (C.1 (p1 + 1)).1 = 5 ∧ (C.1 (p1 + 1)).2.2 = p1 + 3 ∧ C.1 (p1 + 2) = (11, s, 8 * s + 7) ∧ hAt T C h (p1 + 2) ∧ q = p1 + 3
/-- the handlers of catches that begin at as -/
def hCs (T : Pg) (h : Hf) (s : Nat) (l : List (Int32 × List Nat)) (as : List Nat) : Hf := match l, as with
  | c :: r, a :: as => fun kd => if und T 16 kd.toNatClampNeg c.1.toNatClampNeg = true then some (a, 8 * s) else hCs T h s r as kd
  | _, _ => h
def okCs (C : Cd) (bk : OkB) (K : List Sc) (h : Hf) (q : Nat) (l : List (Int32 × List Nat)) (as : List Nat) (a : Nat) : Prop := match l, as with
  | [], [] => a = q
  | c :: r, a1 :: as => a1 = a ∧ ∃ b, bk K h c.2 a b ∧ (C.1 b).1 = 5 ∧ (C.1 b).2.2 = q ∧ okCs C bk K h q r as (b + 1)
  | _, _ => False
def okCa (T : Pg) (C : Cd) (bk : OkB) (K : List Sc) (h : Hf) (s p q : Nat) : Prop :=
  if Tc T s = [] then okIn T C bk K h s p q
  else ∃ p1 as, okIn T C bk ((2, s, 0, 0, h) :: K) (hCs T h s (Tc T s) as) s p p1 ∧ (C.1 p1).1 = 5 ∧ (C.1 p1).2.2 = q ∧ okCs C bk K h q (Tc T s) as (p1 + 1)
def okGd (T : Pg) (sh : Bool) (C : Cd) (bk : OkB) (K : List Sc) (h : Hf) (s p q : Nat) : Prop := match To T s with
  | none => okCa T C bk K h s p q
  | some b =>
    if sh = true then ∃ p1 p3, okCa T C bk ((3, s, 0, p1 + 4, h) :: K) (fun _ => some (p1 + 3, 8 * s + 1)) s p p1 ∧ C.1 p1 = (18, 0, 8 * s + 1) ∧ C.1 (p1 + 1) = (19, 8 * s + 3, q) ∧ (C.1 (p1 + 2)).1 = 5 ∧ (C.1 (p1 + 2)).2.2 = p1 + 4 ∧ C.1 (p1 + 3) = (19, 8 * s + 3, p3 + 4) ∧ C.1 (p1 + 4) = (12, s, 0) ∧ bk ((5, s, 0, 0, h) :: K) (fun _ => some (p3 + 1, 8 * s + 7)) b (p1 + 5) p3 ∧ (C.1 p3).1 = 5 ∧ (C.1 p3).2.2 = p3 + 3 ∧ C.1 (p3 + 1) = (17, 0, 8 * s + 1) ∧ C.1 (p3 + 2) = (15, 0, 8 * s + 7) ∧ hAt T C h (p3 + 2) ∧ C.1 (p3 + 3) = (20, 0, 8 * s + 3) ∧ C.1 (p3 + 4) = (15, 0, 8 * s + 1) ∧ hAt T C h (p3 + 4) ∧ q = p3 + 5 ∧ p3 < 100000
    else ∃ p1 p2 p3, okCa T C bk ((3, s, 0, 0, h) :: K) (fun _ => some (p2 + 1, 8 * s + 1)) s p p1 ∧ C.1 p1 = (12, s, 0) ∧ bk K h b (p1 + 1) p2 ∧ (C.1 p2).1 = 5 ∧ (C.1 p2).2.2 = q ∧ C.1 (p2 + 1) = (12, s, 0) ∧ bk ((4, s, 0, 0, h) :: K) (fun _ => some (p3 + 1, 8 * s + 7)) b (p2 + 2) p3 ∧ (C.1 p3).1 = 5 ∧ (C.1 p3).2.2 = p3 + 3 ∧ (C.1 (p3 + 1)).1 = 16 ∧ C.1 (p3 + 2) = (15, 0, 8 * s + 7) ∧ hAt T C h (p3 + 2) ∧ C.1 (p3 + 3) = (15, 0, 8 * s + 1) ∧ hAt T C h (p3 + 3) ∧ q = p3 + 4
def okSt (T : Pg) (sh : Bool) (C : Cd) (bk : OkB) (K : List Sc) (h : Hf) (s p q : Nat) : Prop :=
  let k := Tk T s
  if k = 2 ∨ k = 7 then C.1 p = (2, s, 0) ∧ hAt T C h p ∧ q = p + 1
  else if k = 8 then C.1 p = (3, s, 0) ∧ hAt T C h p ∧ okLv T sh C bk K 1 0 (p + 1)
  else if k = 9 then ∃ p1, C.1 p = (4, s, p1 + 1) ∧ hAt T C h p ∧ bk K h (Tl T s) (p + 1) p1 ∧ (C.1 p1).1 = 5 ∧ (C.1 p1).2.2 = q ∧ bk K h ((To T s).getD []) (p1 + 1) q
  else if k = 10 then ∃ p1, C.1 p = (6, s, 8 * s) ∧ hAt T C h p ∧ C.1 (p + 1) = (7, s, q) ∧ bk ((0, s, p + 1, q, h) :: K) h (Tl T s) (p + 2) p1 ∧ (C.1 p1).1 = 5 ∧ (C.1 p1).2.2 = p + 1 ∧ q = p1 + 1
  else if k = 11 then okLv T sh C bk K 2 (Ta T s).toNatClampNeg p
  else if k = 12 then okLv T sh C bk K 3 (Ta T s).toNatClampNeg p
  else if k = 14 ∨ k = 15 then C.1 p = (8, s, 0) ∧ hAt T C h p ∧ q = p + 1
  else if k = 16 ∨ k = 17 then okGd T sh C bk K h s p q
  else C.1 p = (1, s, 0) ∧ hAt T C h p ∧ q = p + 1
def okBlk (T : Pg) (sh : Bool) (C : Cd) : Nat → OkB
  | 0, _, _, ss, p, q => ss = [] ∧ p = q
  | m + 1, K, h, ss, p, q => match ss with
    | [] => p = q
    | s :: r => ∃ p1, C.1 p = (0, s, 0) ∧ okSt T sh C (okBlk T sh C m) K h s (p + 1) p1 ∧ okBlk T sh C m K h r p1 q
/-- what a result is on the code's machine -/
def cIs (T : Pg) (sh : Bool) (C : Cd) (K : List Sc) (h : Hf) (q : Nat) (F : Nat → Cf) (k lo hi : Nat) (r : Rs) (y : Cs) : Prop :=
  y.2.2.2 = r.2.2 ∧ if r.1 = 5 then y.1 = 5 else prs F y.2.2.1 k lo hi ∧
    if r.1 = 4 then y.1 = 4 ∧ y.2.1 = r.2.1 ∧ hlr T C.2.1 ((y.2.2.1 k).1 - 1) (r.2.2.2 3 r.2.1.toNatClampNeg) = h (r.2.2.2 3 r.2.1.toNatClampNeg)
    else y.1 = 0 ∧ if r.1 = 0 then (y.2.2.1 k).1 = q
      else ∃ m n, n < 100 ∧ (r.1 = 1 → (y.2.2.1 k).2.1 = r.2.1 ∧ n = 0) ∧ (r.1 ≠ 1 → r.2.1 = nI n ∧ 1 ≤ n) ∧ okLv T sh C (okBlk T sh C m) K r.1 n (y.2.2.1 k).1
def cEnd (T : Pg) (pl : Nat → Int32 → Int32) (sh : Bool) (C : Cd) (x : Cs) (K : List Sc) (h : Hf) (q : Nat) (F : Nat → Cf) (k lo hi : Nat) (r : Rs) : Prop := ∃ y, cTo T pl C x y ∧ cIs T sh C K h q F k lo hi r y
section CEND
variable {T : Pg} {pl : Nat → Int32 → Int32} {sh : Bool} {C : Cd} {K : List Sc} {h : Hf} {q : Nat} {F : Nat → Cf} {k lo hi : Nat}
theorem cEnd.bind {x : Cs} {K1 : List Sc} {h1 : Hf} {q1 k1 : Nat} {F1 : Nat → Cf} {lo1 hi1 : Nat} {r1 r : Rs} (a : cEnd T pl sh C x K1 h1 q1 F1 k1 lo1 hi1 r1) (b : ∀ y, cIs T sh C K1 h1 q1 F1 k1 lo1 hi1 r1 y → cEnd T pl sh C y K h q F k lo hi r) : cEnd T pl sh C x K h q F k lo hi r := by
  obtain ⟨y, t, i⟩ := a
  obtain ⟨z, t2, i2⟩ := b y i
  exact ⟨z, t.trans t2, i2⟩
/-- an instruction -/
theorem cEnd.op' {r : Rs} {p kk : Nat} {v : Int32} {F1 : Nat → Cf} {B : Bk} {i : Ci} (hp : (F1 kk).1 = p) (hd : B.1 10 = kk + 1) (hC : C.1 p = i) (a : cEnd T pl sh C (cOp T pl C kk i (fpc F1 kk (p + 1)) B) K h q F k lo hi r) : cEnd T pl sh C (0, v, F1, B) K h q F k lo hi r := by
  obtain ⟨y, t, i2⟩ := a
  refine ⟨y, cTo.one ?_ t, i2⟩
  unfold cGo
  rw [if_pos rfl]
  show cOp T pl C (B.1 10 - 1) (C.1 (F1 (B.1 10 - 1)).1) (fpc F1 (B.1 10 - 1) ((F1 (B.1 10 - 1)).1 + 1)) B = _
  rw [hd, Nat.add_sub_cancel, hp, hC]
theorem cEnd.op {r : Rs} {p : Nat} {v : Int32} {F1 : Nat → Cf} {B : Bk} {i : Ci} (hp : (F1 k).1 = p) (hd : B.1 10 = k + 1) (hC : C.1 p = i) (a : cEnd T pl sh C (cOp T pl C k i (fpc F1 k (p + 1)) B) K h q F k lo hi r) : cEnd T pl sh C (0, v, F1, B) K h q F k lo hi r := cEnd.op' hp hd hC a
/-- a jump -/
theorem cEnd.jmp {r : Rs} {p t : Nat} {v : Int32} {F1 : Nat → Cf} {B : Bk} (hp : (F1 k).1 = p) (hd : B.1 10 = k + 1) (h1 : (C.1 p).1 = 5) (h2 : (C.1 p).2.2 = t) (a : cEnd T pl sh C (0, 0, fpc (fpc F1 k (p + 1)) k t, B) K h q F k lo hi r) : cEnd T pl sh C (0, v, F1, B) K h q F k lo hi r := by
  refine cEnd.op (i := (5, (C.1 p).2.1, t)) hp hd ?_ a
  rw [← h1, ← h2]
/-- a failure that a row takes -/
theorem cEnd.take {r : Rs} {v : Int32} {F1 : Nat → Cf} {B : Bk} {t sl : Nat} (hd : B.1 10 = k + 1) (hh : hlr T C.2.1 ((F1 k).1 - 1) (B.2 3 v.toNatClampNeg) = some (t, sl)) (a : cEnd T pl sh C (0, 0, fsl (fpc F1 k t) k sl v, B) K h q F k lo hi r) : cEnd T pl sh C (4, v, F1, B) K h q F k lo hi r := by
  obtain ⟨y, t1, i2⟩ := a
  refine ⟨y, cTo.one ?_ t1, i2⟩
  unfold cGo
  rw [if_neg (show ¬ (4 : Nat) = 0 from by decide), if_pos rfl]
  show (if B.1 10 = 0 then _ else match hlr T C.2.1 ((F1 (B.1 10 - 1)).1 - 1) (B.2 3 v.toNatClampNeg) with | some q => _ | none => _) = _
  rw [hd, if_neg (Nat.succ_ne_zero k), Nat.add_sub_cancel, hh]
theorem cEnd.pop {r : Rs} {v : Int32} {F1 : Nat → Cf} {B : Bk} {k1 : Nat} (hd : B.1 10 = k1 + 1) (hh : hlr T C.2.1 ((F1 k1).1 - 1) (B.2 3 v.toNatClampNeg) = none) (a : cEnd T pl sh C (4, v, F1, bExit B) K h q F k lo hi r) : cEnd T pl sh C (4, v, F1, B) K h q F k lo hi r := by
  obtain ⟨y, t1, i2⟩ := a
  refine ⟨y, cTo.one ?_ t1, i2⟩
  unfold cGo
  rw [if_neg (show ¬ (4 : Nat) = 0 from by decide), if_pos rfl]
  show (if B.1 10 = 0 then _ else match hlr T C.2.1 ((F1 (B.1 10 - 1)).1 - 1) (B.2 3 v.toNatClampNeg) with | some q => _ | none => _) = _
  rw [hd, if_neg (Nat.succ_ne_zero k1), Nat.add_sub_cancel, hh]
theorem cEnd.now {x : Cs} {r : Rs} (a : cIs T sh C K h q F k lo hi r x) : cEnd T pl sh C x K h q F k lo hi r := ⟨x, cTo.refl, a⟩
theorem cIs.i5 {v v' : Int32} {F1 : Nat → Cf} {B : Bk} : cIs T sh C K h q F k lo hi (5, v, B) (5, v', F1, B) := ⟨rfl, by rw [if_pos rfl]⟩
theorem cIs.i5' {r : Rs} {y : Cs} (h5 : r.1 = 5) (a : y.1 = 5) (b : y.2.2.2 = r.2.2) : cIs T sh C K h q F k lo hi r y := ⟨b, by rw [if_pos h5]; exact a⟩
theorem cIs.i4 {v : Int32} {F1 : Nat → Cf} {B : Bk} (a : prs F F1 k lo hi) (b : hlr T C.2.1 ((F1 k).1 - 1) (B.2 3 v.toNatClampNeg) = h (B.2 3 v.toNatClampNeg)) : cIs T sh C K h q F k lo hi (4, v, B) (4, v, F1, B) := ⟨rfl, by rw [if_neg (show ¬ (4 : Nat) = 5 from by decide)]; exact ⟨a, by rw [if_pos rfl]; exact ⟨rfl, rfl, b⟩⟩⟩
theorem cIs.i0 {v v' : Int32} {F1 : Nat → Cf} {B : Bk} (a : prs F F1 k lo hi) (b : (F1 k).1 = q) : cIs T sh C K h q F k lo hi (0, v, B) (0, v', F1, B) := ⟨rfl, by rw [if_neg (show ¬ (0 : Nat) = 5 from by decide)]; exact ⟨a, by rw [if_neg (show ¬ (0 : Nat) = 4 from by decide)]; exact ⟨rfl, by rw [if_pos rfl]; exact b⟩⟩⟩
theorem cIs.iw {w m n : Nat} {v v' : Int32} {F1 : Nat → Cf} {B : Bk} (hw : 1 ≤ w ∧ w ≤ 3) (a : prs F F1 k lo hi) (hn : n < 100) (b1 : w = 1 → (F1 k).2.1 = v ∧ n = 0) (b2 : w ≠ 1 → v = nI n ∧ 1 ≤ n) (b : okLv T sh C (okBlk T sh C m) K w n (F1 k).1) : cIs T sh C K h q F k lo hi (w, v, B) (0, v', F1, B) := ⟨rfl, by
  rw [if_neg (show ¬ w = 5 from by omega)]
  refine ⟨a, ?_⟩
  rw [if_neg (show ¬ w = 4 from by omega)]
  refine ⟨rfl, ?_⟩
  rw [if_neg (show ¬ w = 0 from by omega)]
  exact ⟨m, n, hn, b1, b2, b⟩⟩
/-- what an end says, case by case -/
theorem cIs.case {r : Rs} {y : Cs} (hr : r.1 ≤ 5) (a : cIs T sh C K h q F k lo hi r y) :
    (r.1 = 5 ∧ y.1 = 5 ∧ y.2.2.2 = r.2.2) ∨
    (r.1 = 4 ∧ ∃ F1, y = (4, r.2.1, F1, r.2.2) ∧ prs F F1 k lo hi ∧ hlr T C.2.1 ((F1 k).1 - 1) (r.2.2.2 3 r.2.1.toNatClampNeg) = h (r.2.2.2 3 r.2.1.toNatClampNeg)) ∨
    (r.1 = 0 ∧ ∃ v F1, y = (0, v, F1, r.2.2) ∧ prs F F1 k lo hi ∧ (F1 k).1 = q) ∨
    ((1 ≤ r.1 ∧ r.1 ≤ 3) ∧ ∃ v F1, y = (0, v, F1, r.2.2) ∧ prs F F1 k lo hi ∧ ∃ m n, n < 100 ∧ (r.1 = 1 → (F1 k).2.1 = r.2.1 ∧ n = 0) ∧ (r.1 ≠ 1 → r.2.1 = nI n ∧ 1 ≤ n) ∧ okLv T sh C (okBlk T sh C m) K r.1 n (F1 k).1) := by
  obtain ⟨e, a⟩ := a
  obtain ⟨y1, y2, y3, y4⟩ := y
  dsimp only at e a ⊢
  by_cases h5 : r.1 = 5
  · rw [if_pos h5] at a
    exact Or.inl ⟨h5, a, e⟩
  rw [if_neg h5] at a
  obtain ⟨a1, a⟩ := a
  by_cases h4 : r.1 = 4
  · rw [if_pos h4] at a
    obtain ⟨a2, a3, a4⟩ := a
    refine Or.inr (Or.inl ⟨h4, y3, ?_, a1, a4⟩)
    rw [e, a2, a3]
  rw [if_neg h4] at a
  obtain ⟨a2, a⟩ := a
  by_cases h0 : r.1 = 0
  · rw [if_pos h0] at a
    refine Or.inr (Or.inr (Or.inl ⟨h0, y2, y3, ?_, a1, a⟩))
    rw [e, a2]
  rw [if_neg h0] at a
  refine Or.inr (Or.inr (Or.inr ⟨⟨by omega, by omega⟩, y2, y3, ?_, a1, a⟩))
  rw [e, a2]
/-- the same end, seen from further out -/
theorem cIs.up {r : Rs} {y : Cs} {lo1 hi1 : Nat} {F0 : Nat → Cf} (a : cIs T sh C K h q F k lo1 hi1 r y) (g : prs F0 F k lo hi) (h1 : lo ≤ lo1) (h2 : hi1 ≤ hi) : cIs T sh C K h q F0 k lo hi r y := by
  obtain ⟨e, a⟩ := a
  refine ⟨e, ?_⟩
  by_cases h5 : r.1 = 5
  · rw [if_pos h5] at a ⊢
    exact a
  rw [if_neg h5] at a ⊢
  exact ⟨g.trans a.1 h1 h2, a.2⟩
/-- .. where it goes on does not matter but at a plain end -/
theorem cIs.uq {r : Rs} {y : Cs} {lo1 hi1 q1 : Nat} {F0 : Nat → Cf} (a : cIs T sh C K h q1 F k lo1 hi1 r y) (h0 : r.1 ≠ 0) (g : prs F0 F k lo hi) (h1 : lo ≤ lo1) (h2 : hi1 ≤ hi) : cIs T sh C K h q F0 k lo hi r y := by
  obtain ⟨e, a⟩ := a
  refine ⟨e, ?_⟩
  by_cases h5 : r.1 = 5
  · rw [if_pos h5] at a ⊢
    exact a
  rw [if_neg h5] at a ⊢
  refine ⟨g.trans a.1 h1 h2, ?_⟩
  have a := a.2
  by_cases h4 : r.1 = 4
  · rw [if_pos h4] at a ⊢
    exact a
  rw [if_neg h4, if_neg h0] at a ⊢
  exact a
end CEND
