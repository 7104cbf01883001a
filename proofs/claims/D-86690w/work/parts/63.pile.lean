set_option maxRecDepth 100000
/-! sorts of ways -/
def sgB (bk : Wk) : Prop := ∀ ss tk B, (bk ss tk B).1 ≤ 5
theorem sOpens_sg {pl : Nat → Int32 → Int32} {s : Nat} : ∀ (n i : Nat) (B : Bk), (sOpens pl s n i B).2.1 = 0 ∨ (sOpens pl s n i B).2.1 = 4 ∨ (sOpens pl s n i B).2.1 = 5 := by
  intro n
  induction n with
  | zero => intro i B; exact Or.inl rfl
  | succ n ih =>
    intro i B
    unfold sOpens
    split
    · exact Or.inr (Or.inr rfl)
    · dsimp only
      split
      · exact ih _ _
      · exact Or.inr (Or.inl rfl)
theorem sCl_sg {pl : Nat → Int32 → Int32} {s o : Nat} : ∀ (n p : Nat) (v : Int32) (B : Bk), p ≤ 5 → (sCl pl s o n p v B).1 ≤ 5 := by
  intro n
  induction n with
  | zero => intro p v B h; exact h
  | succ n ih =>
    intro p v B h
    unfold sCl
    split
    · exact Nat.le_refl _
    · dsimp only
      split
      · exact ih _ _ _ h
      · split
        · exact ih _ _ _ (by omega)
        · exact ih _ _ _ (by omega)
theorem sLoop_sg {bk : Wk} (hb : sgB bk) {ss : List Nat} {tk : Int32} : ∀ (t : Nat) (B : Bk), (sLoop bk ss tk t B).1 ≤ 5 := by
  intro t
  induction t with
  | zero => intro B; exact Nat.zero_le _
  | succ t ih =>
    intro B
    unfold sLoop
    split
    · exact Nat.le_refl _
    · dsimp only
      split
      · exact ih _
      · split
        · exact Nat.zero_le _
        · split
          · exact hb _ _ _
          · exact hb _ _ _
theorem sInner_sg {T : Pg} {pl : Nat → Int32 → Int32} {bk : Wk} {s : Nat} {tk : Int32} {B : Bk} (hb : sgB bk) : (sInner T pl bk s tk B).1 ≤ 5 := by
  unfold sInner
  split
  · exact hb _ _ _
  · have k0 := @sOpens_sg pl s (Ta T s).toNatClampNeg 0 B
    dsimp only
    generalize sOpens pl s (Ta T s).toNatClampNeg 0 B = w at *
    split
    · omega
    · have kq : (if w.2.1 = 0 then bk (Tl T s) tk w.2.2.2 else w.2).1 ≤ 5 := by
        split
        · exact hb _ _ _
        · show w.2.1 ≤ 5; omega
      generalize (if w.2.1 = 0 then bk (Tl T s) tk w.2.2.2 else w.2) = q at *
      split
      · exact kq
      · exact sCl_sg _ _ _ _ kq
theorem sCaught_sg {T : Pg} {pl : Nat → Int32 → Int32} {bk : Wk} {s : Nat} {tk : Int32} {B : Bk} (hb : sgB bk) : (sCaught T pl bk s tk B).1 ≤ 5 := by
  have k0 := @sInner_sg T pl bk s tk B hb
  unfold sCaught
  dsimp only
  generalize sInner T pl bk s tk B = q at *
  split
  · split
    · exact k0
    · exact hb _ _ _
  · exact k0
theorem sGuard_sg {T : Pg} {pl : Nat → Int32 → Int32} {bk : Wk} {s : Nat} {tk : Int32} {B : Bk} (hb : sgB bk) : (sGuard T pl bk s tk B).1 ≤ 5 := by
  have k0 := @sCaught_sg T pl bk s tk B hb
  unfold sGuard
  dsimp only
  generalize sCaught T pl bk s tk B = q at *
  split
  · exact k0
  · next b _ =>
    have k1 := hb b tk (b2 q.2.2 11 s (q.2.2.2 11 s + 1))
    generalize bk b tk (b2 q.2.2 11 s (q.2.2.2 11 s + 1)) = w at *
    split
    · exact k0
    · split
      · exact k1
      · split
        · exact k0
        · split
          · exact k1
          · exact k1
theorem sCall_sg {T : Pg} {bk : Wk} {s : Nat} {tk x y : Int32} {B : Bk} (hb : sgB bk) : (sCall T bk s tk x y B).1 ≤ 5 := by
  unfold sCall
  split
  · show 4 ≤ 5; omega
  · have k0 := hb (Tm T (Tb T s).toNatClampNeg) tk (bEnter (Tb T s).toNatClampNeg x y B)
    dsimp only
    generalize bk (Tm T (Tb T s).toNatClampNeg) tk (bEnter (Tb T s).toNatClampNeg x y B) = q at *
    split
    · exact k0
    · split
      · show 4 ≤ 5; omega
      · exact Nat.zero_le _
theorem stm_sg {T : Pg} {pl : Nat → Int32 → Int32} {bk : Wk} {s : Nat} {tk : Int32} {B : Bk} (hb : sgB bk) : (stm T pl bk s tk B).1 ≤ 5 := by
  unfold stm
  dsimp only
  by_cases c0 : Tk T s = 0
  · rw [if_pos c0]
    split
    · exact Nat.zero_le _
    · show 4 ≤ 5; omega
  rw [if_neg c0]
  by_cases c1 : Tk T s = 4
  · rw [if_pos c1]
    exact Nat.zero_le _
  rw [if_neg c1]
  by_cases c2 : Tk T s = 5
  · rw [if_pos c2]
    exact Nat.zero_le _
  rw [if_neg c2]
  by_cases c3 : Tk T s = 11
  · rw [if_pos c3]
    show 2 ≤ 5; omega
  rw [if_neg c3]
  by_cases c4 : Tk T s = 12
  · rw [if_pos c4]
    show 3 ≤ 5; omega
  rw [if_neg c4]
  by_cases c5 : Tk T s = 13
  · rw [if_pos c5]
    show 4 ≤ 5; omega
  rw [if_neg c5]
  by_cases c6 : Tk T s = 14
  · rw [if_pos c6]
    show 4 ≤ 5; omega
  rw [if_neg c6]
  by_cases c7 : Tk T s = 15
  · rw [if_pos c7]
    show 4 ≤ 5; omega
  rw [if_neg c7]
  by_cases c8 : Tk T s = 16 ∨ Tk T s = 17
  · rw [if_pos c8]
    exact sGuard_sg hb
  rw [if_neg c8]
  by_cases c9 : (evE B (T1 T s)).1 ≠ 0
  · rw [if_pos c9]
    show 4 ≤ 5; omega
  rw [if_neg c9]
  by_cases c10 : Tk T s = 1
  · rw [if_pos c10]
    exact Nat.zero_le _
  rw [if_neg c10]
  by_cases c11 : Tk T s = 3
  · rw [if_pos c11]
    split
    · exact Nat.zero_le _
    · show 4 ≤ 5; omega
  rw [if_neg c11]
  by_cases c12 : Tk T s = 8
  · rw [if_pos c12]
    show 1 ≤ 5; omega
  rw [if_neg c12]
  by_cases c13 : Tk T s = 10
  · rw [if_pos c13]
    exact sLoop_sg hb _ _
  rw [if_neg c13]
  by_cases c14 : (evE B (T2 T s)).1 ≠ 0
  · rw [if_pos c14]
    show 4 ≤ 5; omega
  rw [if_neg c14]
  by_cases c15 : Tk T s = 6
  · rw [if_pos c15]
    split
    · show 4 ≤ 5; omega
    · split
      · exact Nat.zero_le _
      · show 4 ≤ 5; omega
  rw [if_neg c15]
  by_cases c16 : Tk T s = 9
  · rw [if_pos c16]
    exact hb _ _ _
  rw [if_neg c16]
  exact sCall_sg hb
theorem sBlk_sg (T : Pg) (pl : Nat → Int32 → Int32) : ∀ n, sgB (sBlk T pl n) := by
  intro n
  induction n with
  | zero =>
    intro ss tk B
    unfold sBlk
    split
    · exact Nat.zero_le _
    · show 5 ≤ 5; omega
  | succ n ih =>
    intro ss tk B
    unfold sBlk
    split
    · exact Nat.zero_le _
    · next s r =>
      split
      · show 5 ≤ 5; omega
      · dsimp only
        split
        · exact ih _ _ _
        · exact stm_sg ih
