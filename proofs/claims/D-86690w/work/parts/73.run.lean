set_option maxRecDepth 100000
/-! closings and openings: what the run of the code has to know -/
theorem cCl_e {pl : Nat → Int32 → Int32} {s o : Nat} {sl : Nat → Int32} : ∀ (n p : Nat) (v : Int32) (B : Bk), (∀ i, i < n → sl (8 * s + 4 + i) = nI (o + i)) → cCl pl s sl n p v B = sCl pl s o n p v B := by
  intro n
  induction n with
  | zero => intro p v B _; rfl
  | succ n ih =>
    intro p v B h
    rw [cCl, sCl, h n (by omega)]
    simp only [ih _ _ _ (fun i hi => h i (by omega))]
theorem sCl_45 {pl : Nat → Int32 → Int32} {s o : Nat} : ∀ (n : Nat) (v : Int32) (B : Bk), (sCl pl s o n 4 v B).1 = 4 ∨ (sCl pl s o n 4 v B).1 = 5 := by
  intro n
  induction n with
  | zero => intro v B; exact Or.inl rfl
  | succ n ih =>
    intro v B
    rw [sCl]
    split
    · exact Or.inr rfl
    · dsimp only
      split
      · exact ih _ _
      · rw [if_pos rfl]
        exact ih _ _
/-- a way that is no failure goes through, or a failure comes -/
theorem sCl_p {pl : Nat → Int32 → Int32} {s o : Nat} : ∀ (n p : Nat) (v : Int32) (B : Bk), p ≠ 4 → ((sCl pl s o n 0 0 B).1 = 0 ∧ sCl pl s o n p v B = (p, v, (sCl pl s o n 0 0 B).2.2)) ∨ (((sCl pl s o n 0 0 B).1 = 4 ∨ (sCl pl s o n 0 0 B).1 = 5) ∧ sCl pl s o n p v B = sCl pl s o n 0 0 B) := by
  intro n
  induction n with
  | zero => intro p v B _; exact Or.inl ⟨rfl, rfl⟩
  | succ n ih =>
    intro p v B hp
    simp only [sCl]
    by_cases e : isSpent B = true
    · simp only [if_pos e]
      exact Or.inr ⟨Or.inr trivial, trivial⟩
    · simp only [if_neg e]
      split
      · exact ih p v _ hp
      · simp only [if_neg hp, if_neg (show ¬ (0 : Nat) = 4 from by decide)]
        exact Or.inr ⟨sCl_45 _ _ _, trivial⟩
theorem sOpens_o {pl : Nat → Int32 → Int32} {s : Nat} : ∀ (n i : Nat) (B : Bk) (x y : Nat), 14 ≤ x → (sOpens pl s n i B).2.2.2.2 x y = B.2 x y := by
  intro n
  induction n with
  | zero => intro i B x y _; rfl
  | succ n ih =>
    intro i B x y h
    unfold sOpens
    split
    · rfl
    · dsimp only
      split
      · rw [ih _ _ _ _ h]
        exact bPass_o h
      · show (bMakes _ NN _).2 x y = _
        rw [bMakes_o (by omega)]
        exact bPass_o h
theorem sOpens_n {pl : Nat → Int32 → Int32} {s : Nat} : ∀ (n i : Nat) (B : Bk), (sOpens pl s n i B).1 ≤ i + n ∧ ((sOpens pl s n i B).2.1 = 0 → (sOpens pl s n i B).1 = i + n) := by
  intro n
  induction n with
  | zero => intro i B; exact ⟨Nat.le_refl _, fun _ => rfl⟩
  | succ n ih =>
    intro i B
    unfold sOpens
    split
    · exact ⟨by show i ≤ _; omega, fun h => absurd h (show ¬ (5 : Nat) = 0 from by decide)⟩
    · dsimp only
      split
      · have := ih (i + 1) (b1 (bPass (7 * s + 1 + i) (bStp B)) 5 ((bPass (7 * s + 1 + i) (bStp B)).1 5 + 1))
        exact ⟨by omega, fun h => by have := this.2 h; omega⟩
      · exact ⟨by show i ≤ _; omega, fun h => absurd h (show ¬ (4 : Nat) = 0 from by decide)⟩
theorem b2_id {B : Bk} {o i : Nat} {v : Int32} (h : B.2 o i = v) : b2 B o i v = B := by
  unfold b2
  refine Prod.ext rfl ?_
  funext x y
  dsimp only
  split
  · next e => rw [e.1, e.2, h]
  · rfl
/-! the run of the code is the meaning -/
def cBk (T : Pg) (nm : Nat) (pl : Nat → Int32 → Int32) (sh : Bool) (C : Cd) (bk : Wk) (n : Nat) : Prop := ∀ (m mw tg lp dp : Nat) (K : List Sc) (h : Hf) (ss : List Nat) (p q lo hi : Nat) (tk : Int32) (F : Nat → Cf) (B : Bk) (v : Int32) (k : Nat), okBlk T sh C m K h ss p q → wB T nm mw tg lp dp ss lo hi → B.1 11 - B.1 9 ≤ n → Iv 0 0 0 0 0 B → B.1 10 = k + 1 → (F k).1 = p → (tg ≠ 999 → tg < lo ∧ (F k).2.2 (8 * tg) = tk ∧ vK B tk) → cEnd T pl sh C (0, v, F, B) K h q F k lo hi (bk ss tk B)
/-- every method's code -/
def okPg (T : Pg) (nm : Nat) (sh : Bool) (C : Cd) : Prop := ∀ mi, mi < nm → ∃ m mw dp lo hi q, okBlk T sh C m [] (fun _ => none) (Tm T mi) (C.2.2 mi) q ∧ wB T nm mw 999 0 dp (Tm T mi) lo hi ∧ (C.1 q).1 = 21 ∧ (C.1 (q + 1)).1 = 22
section CRUN
variable {T : Pg} {nm : Nat} {pl : Nat → Int32 → Int32} {sh : Bool} {C : Cd} {bk : Wk} {n : Nat}
theorem i_rets {a b : Nat} {c : Nat} (h : a = b) : (c, a) = (c, b) := by rw [h]
/-- closing at a CLOSES, nothing on its way -/
theorem clo_c {K : List Sc} {h : Hf} {q k lo hi s o e : Nat} {F F1 : Nat → Cf} {B : Bk} {v0 : Int32} {r : Rs} {na : Nat}
    (hC : C.1 e = (10, s, 0)) (hA : hAt T C h e) (hd : B.1 10 = k + 1) (hp : (F1 k).1 = e) (hg : prs F F1 k lo hi) (hn : (Ta T s).toNatClampNeg = na)
    (hsl : ∀ i, i < na → (F1 k).2.2 (8 * s + 4 + i) = nI (o + i)) (hl : B.1 9 ≤ B.1 11)
    (hr : (sCl pl s o na 0 0 (b2 B (oAt B) 0 (nI s))).1 ≠ 0 → r = sCl pl s o na 0 0 (b2 B (oAt B) 0 (nI s)))
    (hk : (sCl pl s o na 0 0 (b2 B (oAt B) 0 (nI s))).1 = 0 → cEnd T pl sh C (0, 0, fpc F1 k (e + 1), (sCl pl s o na 0 0 (b2 B (oAt B) 0 (nI s))).2.2) K h q F k lo hi r) :
    cEnd T pl sh C (0, v0, F1, B) K h q F k lo hi r := by
  refine cEnd.op hp hd hC ?_
  show cEnd T pl sh C (cRs (fpc F1 k (e + 1)) (cCl pl s (fpc F1 k (e + 1) k).2.2 (Ta T s).toNatClampNeg 0 0 (b2 B (oAt B) 0 (nI s)))) K h q F k lo hi r
  rw [hn, cCl_e (o := o) na 0 0 _ (fun i hi => by rw [fpc_2]; exact hsl i hi)]
  rcases sCl_p (pl := pl) (s := s) (o := o) na 0 0 (b2 B (oAt B) 0 (nI s)) (by decide) with ⟨h0, -⟩ | ⟨h45, -⟩
  · unfold cRs
    rw [if_pos h0]
    exact hk h0
  · have hr := hr (by omega)
    subst hr
    have kq := (@sCl_kp pl s o na 0 0 (b2 B (oAt B) 0 (nI s)) hl)
    generalize sCl pl s o na 0 0 (b2 B (oAt B) 0 (nI s)) = z at *
    obtain ⟨z1, z2, z3⟩ := z
    unfold cRs
    rw [if_neg (show ¬ z1 = 0 from by dsimp only at h45; omega)]
    by_cases h5 : z1 = 5
    · rw [if_pos h5]
      subst h5
      exact cEnd.now cIs.i5
    · rw [if_neg h5]
      have h4 : z1 = 4 := by dsimp only at h45; omega
      subst h4
      refine cEnd.now (cIs.i4 hg.pc ?_)
      rw [fpc_1]
      exact hA _
/-- an inner way's failure, closed at a CLOSES_ALL -/
theorem cal_c {K : List Sc} {h : Hf} {q k lo hi s o e : Nat} {F F1 : Nat → Cf} {B : Bk} {v v0 : Int32} {na : Nat}
    (hC : C.1 e = (11, s, 8 * s + 7)) (hA : hAt T C h e) (hd : B.1 10 = k + 1) (hp : (F1 k).1 = e) (hg : prs F F1 k lo hi) (hn : (Ta T s).toNatClampNeg = na)
    (hsl : ∀ i, i < na → (F1 k).2.2 (8 * s + 4 + i) = nI (o + i)) (hv : (F1 k).2.2 (8 * s + 7) = v) :
    cEnd T pl sh C (0, v0, F1, B) K h q F k lo hi (sCl pl s o na 4 v (b2 B (oAt B) 0 (nI s))) := by
  refine cEnd.op hp hd hC ?_
  show cEnd T pl sh C (cRs (fpc F1 k (e + 1)) (cCl pl s (fpc F1 k (e + 1) k).2.2 (Ta T s).toNatClampNeg 4 ((fpc F1 k (e + 1) k).2.2 (8 * s + 7)) (b2 B (oAt B) 0 (nI s)))) K h q F k lo hi _
  rw [hn, cCl_e (o := o) na 4 _ _ (fun i hi => by rw [fpc_2]; exact hsl i hi), fpc_2, hv]
  have h45 := sCl_45 (pl := pl) (s := s) (o := o) na v (b2 B (oAt B) 0 (nI s))
  generalize sCl pl s o na 4 v (b2 B (oAt B) 0 (nI s)) = z at *
  obtain ⟨z1, z2, z3⟩ := z
  unfold cRs
  rw [if_neg (show ¬ z1 = 0 from by dsimp only at h45; omega)]
  by_cases h5 : z1 = 5
  · rw [if_pos h5]
    subst h5
    exact cEnd.now cIs.i5
  · rw [if_neg h5]
    have h4 : z1 = 4 := by dsimp only at h45; omega
    subst h4
    refine cEnd.now (cIs.i4 hg.pc ?_)
    rw [fpc_1]
    exact hA _
end CRUN
