set_option maxRecDepth 100000
/-! THE CODE's machine, plain. An instruction: op, a, b. A frame: pc, result, slots. A state: 0 runs, 4 a failure is on its way, 5 spent, 1 the first method gave, 6 the failure got out; its value; frames by depth; book. The code: instructions, rows (from, to, at, kind, slot), where methods begin. -/
abbrev Ci : Type := Nat × Nat × Nat
abbrev Cf : Type := Nat × Int32 × (Nat → Int32)
abbrev Cs : Type := Nat × Int32 × (Nat → Cf) × Bk
abbrev Crw : Type := Nat × Nat × Nat × Int32 × Nat
abbrev Cd : Type := (Nat → Ci) × List Crw × (Nat → Nat)
def fpc (F : Nat → Cf) (k v : Nat) : Nat → Cf := fun j => if j = k then (v, (F j).2) else F j
def fre (F : Nat → Cf) (k : Nat) (v : Int32) : Nat → Cf := fun j => if j = k then ((F j).1, v, (F j).2.2) else F j
def fsl (F : Nat → Cf) (k i : Nat) (v : Int32) : Nat → Cf := fun j => if j = k then ((F j).1, (F j).2.1, fun x => if x = i then v else (F j).2.2 x) else F j
/-- numbers of resources: from o on, n of them, of the statement s -/
def fop (F : Nat → Cf) (k s o n : Nat) : Nat → Cf := fun j => if j = k then ((F j).1, (F j).2.1, fun x => if 8 * s + 4 ≤ x ∧ x < 8 * s + 4 + n then nI (o + (x - (8 * s + 4))) else (F j).2.2 x) else F j
/-- resources are closed by their slots -/
def cCl (pl : Nat → Int32 → Int32) (s : Nat) (sl : Nat → Int32) : Nat → Nat → Int32 → Bk → Rs
  | 0, p, v, B => (p, v, B)
  | n + 1, p, v, B => if isSpent B = true then (5, 0, B) else
    let B1 := bStp B
    let B2 := bPass (7 * s + 4 + n) (b1 (b2 B1 10 (B1.1 6) (sl (8 * s + 4 + n))) 6 (B1.1 6 + 1))
    let k := pl (7 * s + 4 + n) (B2.2 12 (7 * s + 4 + n))
    if k = NN then cCl pl s sl n p v B2
    else if p = 4 then cCl pl s sl n 4 v (bSup v.toNatClampNeg (nI (B2.1 4)) (bMakes k NN B2))
    else cCl pl s sl n 4 (nI (B2.1 4)) (bMakes k NN B2)
def cRs (F : Nat → Cf) (q : Rs) : Cs := if q.1 = 0 then (0, 0, F, q.2.2) else if q.1 = 5 then (5, 0, F, q.2.2) else (4, q.2.1, F, q.2.2)
def cFl (kind : Int32) (F : Nat → Cf) (B : Bk) : Cs := (4, nI (B.1 4), F, bMakes kind NN B)
def cOp (T : Pg) (pl : Nat → Int32 → Int32) (C : Cd) (k : Nat) (i : Ci) (F : Nat → Cf) (B : Bk) : Cs :=
  let a := i.2.1
  let b := i.2.2
  let w1 := evE B (T1 T a)
  let w2 := evE B (T2 T a)
  match i.1 with
  | 0 => if isSpent B = true then (5, 0, F, B) else (0, 0, F, b2 (bStp B) (oAt B) 0 (nI a))
  | 1 => cRs F (stm T pl (fun _ _ B => (0, 0, B)) a NN B)
  | 2 => if w1.1 ≠ 0 then cFl w1.1 F B else if w2.1 ≠ 0 then cFl w2.1 F B else if B.1 10 = 12 then cFl 6 F B
    else (0, 0, (fun j => if j = k + 1 then (C.2.2 (Tb T a).toNatClampNeg, 0, (F j).2.2) else F j), bEnter (Tb T a).toNatClampNeg w1.2 w2.2 B)
  | 3 => if w1.1 ≠ 0 then cFl w1.1 F B else (0, 0, fre F k w1.2, B)
  | 4 => if w1.1 ≠ 0 then cFl w1.1 F B else if w2.1 ≠ 0 then cFl w2.1 F B else (0, 0, if holds (Ta T a) w1.2 w2.2 = true then F else fpc F k b, B)
  | 5 => (0, 0, fpc F k b, B)
  | 6 => if w1.1 ≠ 0 then cFl w1.1 F B else (0, 0, fsl F k b w1.2, B)
  | 7 => if (F k).2.2 (8 * a) < 1 then (0, 0, fpc F k b, B) else if isSpent B = true then (5, 0, F, B) else (0, 0, fsl F k (8 * a) ((F k).2.2 (8 * a) - 1), bStp B)
  | 8 => if Tk T a = 15 then (4, (F k).2.2 (8 * (Tb T a).toNatClampNeg), F, B) else (4, nI (B.1 4), F, bMakes (Ta T a) ((F k).2.2 (8 * (Tb T a).toNatClampNeg)) B)
  | 9 =>
    let w := sOpens pl a (Ta T a).toNatClampNeg 0 B
    let F1 := fop F k a (B.1 5) w.1
    if w.2.1 = 4 then cRs F1 (cCl pl a (F1 k).2.2 w.1 4 w.2.2.1 w.2.2.2) else cRs F1 w.2
  | 10 => cRs F (cCl pl a (F k).2.2 (Ta T a).toNatClampNeg 0 0 (b2 B (oAt B) 0 (nI a)))
  | 11 => cRs F (cCl pl a (F k).2.2 (Ta T a).toNatClampNeg 4 ((F k).2.2 b) (b2 B (oAt B) 0 (nI a)))
  | 12 => (0, 0, F, b2 B 11 a (B.2 11 a + 1))
  | 13 => (0, 0, fsl F k b (F k).2.1, B)
  | 14 => (0, 0, fre F k ((F k).2.2 b), B)
  | 15 => (4, (F k).2.2 b, F, B)
  | 16 => (0, 0, F, b1 B 7 (B.1 7 + 1))
  | 17 => (0, 0, F, if (F k).2.2 b = NN then B else b1 B 7 (B.1 7 + 1))
  | 18 => (0, 0, fsl F k b NN, B)
  | 19 => (0, 0, fsl F k a (nI b), B)
  | 20 => (0, 0, fpc F k ((F k).2.2 b).toNatClampNeg, B)
  | 21 => (0, 0, fre F k 0, B)
  | _ => if k = 0 then (1, (F k).2.1, F, bExit B) else
    (0, 0, F, if Tk T (C.1 ((F (k - 1)).1 - 1)).2.1 = 2 then b2 (bExit B) (oVar (bExit B)) (Ta T (C.1 ((F (k - 1)).1 - 1)).2.1).toNatClampNeg (F k).2.1 else bExit B)
/-- the first row that takes a failure at a pc: where, in which slot -/
def hlr (T : Pg) (l : List Crw) (pc : Nat) (kd : Int32) : Option (Nat × Nat) := match l with
  | [] => none
  | r :: q => if r.1 ≤ pc ∧ pc < r.2.1 ∧ (r.2.2.2.1 = NN ∨ und T 16 kd.toNatClampNeg r.2.2.2.1.toNatClampNeg = true) then some (r.2.2.1, r.2.2.2.2) else hlr T q pc kd
def cGo (T : Pg) (pl : Nat → Int32 → Int32) (C : Cd) (x : Cs) : Cs :=
  if x.1 = 0 then cOp T pl C (x.2.2.2.1 10 - 1) (C.1 (x.2.2.1 (x.2.2.2.1 10 - 1)).1) (fpc x.2.2.1 (x.2.2.2.1 10 - 1) ((x.2.2.1 (x.2.2.2.1 10 - 1)).1 + 1)) x.2.2.2
  else if x.1 = 4 then
    if x.2.2.2.1 10 = 0 then (6, x.2)
    else match hlr T C.2.1 ((x.2.2.1 (x.2.2.2.1 10 - 1)).1 - 1) (x.2.2.2.2 3 x.2.1.toNatClampNeg) with
      | some q => (0, 0, fsl (fpc x.2.2.1 (x.2.2.2.1 10 - 1) q.1) (x.2.2.2.1 10 - 1) q.2 x.2.1, x.2.2.2)
      | none => (4, x.2.1, x.2.2.1, bExit x.2.2.2)
  else x
def cIt (T : Pg) (pl : Nat → Int32 → Int32) (C : Cd) : Nat → Cs → Cs
  | 0, x => x
  | n + 1, x => cIt T pl C n (cGo T pl C x)
def cTo (T : Pg) (pl : Nat → Int32 → Int32) (C : Cd) (x y : Cs) : Prop := ∃ n, cIt T pl C n x = y
theorem cIt_add (T : Pg) (pl : Nat → Int32 → Int32) (C : Cd) : ∀ (n m : Nat) (x : Cs), cIt T pl C (n + m) x = cIt T pl C m (cIt T pl C n x) := by
  intro n
  induction n with
  | zero => intro m x; rw [Nat.zero_add]; rfl
  | succ n ih =>
    intro m x
    rw [show n + 1 + m = (n + m) + 1 from by omega]
    exact ih m _
theorem cTo.refl {T : Pg} {pl : Nat → Int32 → Int32} {C : Cd} {x : Cs} : cTo T pl C x x := ⟨0, rfl⟩
theorem cTo.trans {T : Pg} {pl : Nat → Int32 → Int32} {C : Cd} {x y z : Cs} (h : cTo T pl C x y) (k : cTo T pl C y z) : cTo T pl C x z := by
  obtain ⟨n, rfl⟩ := h
  obtain ⟨m, rfl⟩ := k
  exact ⟨n + m, cIt_add T pl C n m x⟩
theorem cTo.one {T : Pg} {pl : Nat → Int32 → Int32} {C : Cd} {x y z : Cs} (h : cGo T pl C x = y) (k : cTo T pl C y z) : cTo T pl C x z := cTo.trans ⟨1, h⟩ k
/-! frames -/
theorem fpc_1 {F : Nat → Cf} {k v : Nat} : (fpc F k v k).1 = v := by unfold fpc; rw [if_pos rfl]
theorem fpc_2 {F : Nat → Cf} {k v : Nat} : (fpc F k v k).2 = (F k).2 := by unfold fpc; rw [if_pos rfl]
theorem fpc_o {F : Nat → Cf} {k v j : Nat} (h : j ≠ k) : fpc F k v j = F j := by unfold fpc; rw [if_neg h]
theorem fre_1 {F : Nat → Cf} {k : Nat} {v : Int32} : (fre F k v k).1 = (F k).1 := by unfold fre; rw [if_pos rfl]
theorem fre_r {F : Nat → Cf} {k : Nat} {v : Int32} : (fre F k v k).2.1 = v := by unfold fre; rw [if_pos rfl]
theorem fre_2 {F : Nat → Cf} {k : Nat} {v : Int32} : (fre F k v k).2.2 = (F k).2.2 := by unfold fre; rw [if_pos rfl]
theorem fre_o {F : Nat → Cf} {k j : Nat} {v : Int32} (h : j ≠ k) : fre F k v j = F j := by unfold fre; rw [if_neg h]
theorem fsl_1 {F : Nat → Cf} {k i : Nat} {v : Int32} : (fsl F k i v k).1 = (F k).1 := by unfold fsl; rw [if_pos rfl]
theorem fsl_r {F : Nat → Cf} {k i : Nat} {v : Int32} : (fsl F k i v k).2.1 = (F k).2.1 := by unfold fsl; rw [if_pos rfl]
theorem fsl_i {F : Nat → Cf} {k i : Nat} {v : Int32} : (fsl F k i v k).2.2 i = v := by unfold fsl; rw [if_pos rfl]; exact if_pos rfl
theorem fsl_j {F : Nat → Cf} {k i j : Nat} {v : Int32} (h : j ≠ i) : (fsl F k i v k).2.2 j = (F k).2.2 j := by unfold fsl; rw [if_pos rfl]; exact if_neg h
theorem fsl_o {F : Nat → Cf} {k i j : Nat} {v : Int32} (h : j ≠ k) : fsl F k i v j = F j := by unfold fsl; rw [if_neg h]
theorem fop_1 {F : Nat → Cf} {k s o n : Nat} : (fop F k s o n k).1 = (F k).1 := by unfold fop; rw [if_pos rfl]
theorem fop_i {F : Nat → Cf} {k s o n i : Nat} (h : i < n) : (fop F k s o n k).2.2 (8 * s + 4 + i) = nI (o + i) := by
  unfold fop
  rw [if_pos rfl]
  show (if 8 * s + 4 ≤ 8 * s + 4 + i ∧ 8 * s + 4 + i < 8 * s + 4 + n then nI (o + (8 * s + 4 + i - (8 * s + 4))) else _) = _
  rw [if_pos (by omega), Nat.add_sub_cancel_left]
theorem fop_j {F : Nat → Cf} {k s o n j : Nat} (h : j < 8 * s + 4 ∨ 8 * s + 4 + n ≤ j) : (fop F k s o n k).2.2 j = (F k).2.2 j := by
  unfold fop
  rw [if_pos rfl]
  show (if 8 * s + 4 ≤ j ∧ j < 8 * s + 4 + n then _ else _) = _
  rw [if_neg (by omega)]
theorem fop_o {F : Nat → Cf} {k s o n j : Nat} (h : j ≠ k) : fop F k s o n j = F j := by unfold fop; rw [if_neg h]
/-- what a way keeps: frames below, slots of other statements -/
def prs (F F' : Nat → Cf) (k lo hi : Nat) : Prop := (∀ j, j < k → F' j = F j) ∧ ∀ i, (i < 8 * lo ∨ 8 * hi ≤ i) → (F' k).2.2 i = (F k).2.2 i
theorem prs.refl {F : Nat → Cf} {k lo hi : Nat} : prs F F k lo hi := ⟨fun _ _ => rfl, fun _ _ => rfl⟩
theorem prs.trans {F F' F'' : Nat → Cf} {k lo hi lo1 hi1 : Nat} (h : prs F F' k lo hi) (g : prs F' F'' k lo1 hi1) (a : lo ≤ lo1) (b : hi1 ≤ hi) : prs F F'' k lo hi := ⟨fun j q => (g.1 j q).trans (h.1 j q), fun i q => (g.2 i (by omega)).trans (h.2 i q)⟩
theorem prs.pc {F F' : Nat → Cf} {k lo hi v : Nat} (h : prs F F' k lo hi) : prs F (fpc F' k v) k lo hi := ⟨fun j q => (fpc_o (by omega)).trans (h.1 j q), fun i q => by rw [fpc_2]; exact h.2 i q⟩
theorem prs.re {F F' : Nat → Cf} {k lo hi : Nat} {v : Int32} (h : prs F F' k lo hi) : prs F (fre F' k v) k lo hi := ⟨fun j q => (fre_o (by omega)).trans (h.1 j q), fun i q => by rw [fre_2]; exact h.2 i q⟩
theorem prs.sl {F F' : Nat → Cf} {k lo hi i : Nat} {v : Int32} (h : prs F F' k lo hi) (a : 8 * lo ≤ i) (b : i < 8 * hi) : prs F (fsl F' k i v) k lo hi := ⟨fun j q => (fsl_o (by omega)).trans (h.1 j q), fun j q => by rw [fsl_j (by omega)]; exact h.2 j q⟩
theorem prs.op {F F' : Nat → Cf} {k lo hi s o n : Nat} (h : prs F F' k lo hi) (a : lo ≤ s) (b : s < hi) (c : n ≤ 4) : prs F (fop F' k s o n) k lo hi := ⟨fun j q => (fop_o (by omega)).trans (h.1 j q), fun j q => by rw [fop_j (by omega)]; exact h.2 j q⟩
