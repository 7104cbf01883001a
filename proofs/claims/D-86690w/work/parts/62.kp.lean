set_option maxRecDepth 100000
/-- what every way keeps: the steps that there are, the depth; steps only grow -/
def kp (B : Bk) (q : Rs) : Prop := q.2.2.1 11 = B.1 11 ∧ B.1 9 ≤ q.2.2.1 9 ∧ q.2.2.1 9 ≤ q.2.2.1 11 ∧ (q.1 ≠ 5 → q.2.2.1 10 = B.1 10)
theorem kp.of {B B' : Bk} {a : Nat} {v : Int32} (h : B.1 9 ≤ B.1 11) (h9 : B'.1 9 = B.1 9) (h11 : B'.1 11 = B.1 11) (h10 : B'.1 10 = B.1 10) : kp B (a, v, B') := ⟨h11, Nat.le_of_eq h9.symm, by show B'.1 9 ≤ B'.1 11; omega, fun _ => h10⟩
theorem kp.trans {B : Bk} {q w : Rs} (h : kp B q) (h5 : q.1 ≠ 5) (k : kp q.2.2 w) : kp B w := by
  obtain ⟨a1, a2, a3, a4⟩ := h
  obtain ⟨b1, b2, b3, b4⟩ := k
  exact ⟨b1.trans a1, Nat.le_trans a2 b2, b3, fun h => (b4 h).trans (a4 h5)⟩
/-- .. from a book with the same counters -/
theorem kp.from {B B0 : Bk} {q : Rs} (k : kp B0 q) (h9 : B.1 9 ≤ B0.1 9) (h11 : B0.1 11 = B.1 11) (h10 : B0.1 10 = B.1 10) : kp B q := by
  obtain ⟨b1, b2, b3, b4⟩ := k
  exact ⟨b1.trans h11, Nat.le_trans h9 b2, b3, fun h => (b4 h).trans h10⟩
theorem kp.to {B B' : Bk} {q : Rs} {a : Nat} {v : Int32} (k : kp B q) (h5 : q.1 ≠ 5) (h9 : B'.1 9 = q.2.2.1 9) (h11 : B'.1 11 = q.2.2.1 11) (h10 : B'.1 10 = q.2.2.1 10) : kp B (a, v, B') := by
  obtain ⟨b1, b2, b3, b4⟩ := k
  refine ⟨h11.trans b1, ?_, ?_, fun _ => h10.trans (b4 h5)⟩
  · show B.1 9 ≤ B'.1 9; omega
  · show B'.1 9 ≤ B'.1 11; omega
theorem bMakes_c {k c : Int32} {B : Bk} : (bMakes k c B).1 9 = B.1 9 ∧ (bMakes k c B).1 10 = B.1 10 ∧ (bMakes k c B).1 11 = B.1 11 := by
  refine ⟨?_, ?_, ?_⟩ <;> (simp only [bMakes]; rw [if_neg (by omega), if_neg (by omega)])
theorem bPass_c {k : Nat} {B : Bk} : (bPass k B).1 9 = B.1 9 ∧ (bPass k B).1 10 = B.1 10 ∧ (bPass k B).1 11 = B.1 11 := by
  unfold bPass
  by_cases h : B.1 13 < 60 <;> simp [h, b1, b2]
theorem bSup_c {f : Nat} {g : Int32} {B : Bk} : (bSup f g B).1 = B.1 := by
  unfold bSup
  split <;> rfl
theorem bStp_c {B : Bk} : (bStp B).1 9 = B.1 9 + 1 ∧ (bStp B).1 10 = B.1 10 ∧ (bStp B).1 11 = B.1 11 := ⟨rfl, rfl, rfl⟩
theorem isSpent_no {B : Bk} (h : ¬ isSpent B = true) (hl : B.1 9 ≤ B.1 11) : B.1 9 + 1 ≤ B.1 11 := by
  have : ¬ B.1 9 = B.1 11 := fun e => h (by unfold isSpent; rw [e]; exact beq_self_eq_true _)
  omega
theorem sFail_kp {k : Int32} {B : Bk} (h : B.1 9 ≤ B.1 11) : kp B (sFail k B) := kp.of h bMakes_c.1 bMakes_c.2.2 bMakes_c.2.1
theorem sOpens_kp {pl : Nat → Int32 → Int32} {s : Nat} : ∀ (n i : Nat) (B : Bk), B.1 9 ≤ B.1 11 → kp B (sOpens pl s n i B).2 := by
  intro n
  induction n with
  | zero => intro i B h; exact kp.of h rfl rfl rfl
  | succ n ih =>
    intro i B h
    unfold sOpens
    split
    · exact kp.of h rfl rfl rfl
    · next hs =>
      have hl := isSpent_no hs h
      have c := @bPass_c (7 * s + 1 + i) (bStp B)
      have c0 := @bStp_c B
      dsimp only
      split
      · refine (ih (i + 1) _ ?_).from ?_ ?_ ?_
        · show (bPass (7 * s + 1 + i) (bStp B)).1 9 ≤ (bPass (7 * s + 1 + i) (bStp B)).1 11; omega
        · show _ ≤ (bPass (7 * s + 1 + i) (bStp B)).1 9; omega
        · show (bPass (7 * s + 1 + i) (bStp B)).1 11 = _; omega
        · show (bPass (7 * s + 1 + i) (bStp B)).1 10 = _; omega
      · exact (sFail_kp (by omega)).from (by omega) (by omega) (by omega)
theorem sCl_kp {pl : Nat → Int32 → Int32} {s o : Nat} : ∀ (n p : Nat) (v : Int32) (B : Bk), B.1 9 ≤ B.1 11 → kp B (sCl pl s o n p v B) := by
  intro n
  induction n with
  | zero => intro p v B h; exact kp.of h rfl rfl rfl
  | succ n ih =>
    intro p v B h
    unfold sCl
    split
    · exact kp.of h rfl rfl rfl
    · next hs =>
      have hl := isSpent_no hs h
      have c0 := @bStp_c B
      dsimp only
      have c := @bPass_c (7 * s + 4 + n) (b1 (b2 (bStp B) 10 ((bStp B).1 6) (nI (o + n))) 6 ((bStp B).1 6 + 1))
      have e9 : (b1 (b2 (bStp B) 10 ((bStp B).1 6) (nI (o + n))) 6 ((bStp B).1 6 + 1)).1 9 = B.1 9 + 1 := rfl
      have e10 : (b1 (b2 (bStp B) 10 ((bStp B).1 6) (nI (o + n))) 6 ((bStp B).1 6 + 1)).1 10 = B.1 10 := rfl
      have e11 : (b1 (b2 (bStp B) 10 ((bStp B).1 6) (nI (o + n))) 6 ((bStp B).1 6 + 1)).1 11 = B.1 11 := rfl
      generalize bPass (7 * s + 4 + n) (b1 (b2 (bStp B) 10 ((bStp B).1 6) (nI (o + n))) 6 ((bStp B).1 6 + 1)) = B2 at *
      have m := @bMakes_c (pl (7 * s + 4 + n) (B2.2 12 (7 * s + 4 + n))) NN B2
      split
      · exact (ih p v B2 (by omega)).from (by omega) (by omega) (by omega)
      · split
        · refine (ih 4 v _ ?_).from ?_ ?_ ?_ <;> rw [bSup_c] <;> omega
        · exact (ih 4 _ _ (by omega)).from (by omega) (by omega) (by omega)
def kpB (bk : Wk) (n : Nat) : Prop := ∀ ss tk B, B.1 11 - B.1 9 ≤ n → B.1 9 ≤ B.1 11 → kp B (bk ss tk B)
theorem sLoop_kp {bk : Wk} {n : Nat} (hb : kpB bk n) {ss : List Nat} {tk : Int32} : ∀ (t : Nat) (B : Bk), B.1 11 - B.1 9 ≤ n → B.1 9 ≤ B.1 11 → kp B (sLoop bk ss tk t B) := by
  intro t
  induction t with
  | zero => intro B _ h; exact kp.of h rfl rfl rfl
  | succ t ih =>
    intro B hn h
    unfold sLoop
    split
    · exact kp.of h rfl rfl rfl
    · next hs =>
      have hl := isSpent_no hs h
      have c0 := @bStp_c B
      have k0 : kp B (bk ss tk (bStp B)) := (hb ss tk (bStp B) (by omega) (by omega)).from (by omega) (by omega) (by omega)
      dsimp only
      generalize bk ss tk (bStp B) = q at *
      obtain ⟨k1, k2, k3, k4⟩ := k0
      split
      · next hc =>
        have h5 : q.1 ≠ 5 := by rcases hc with e | e <;> omega
        exact kp.trans ⟨k1, k2, k3, k4⟩ h5 (ih q.2.2 (by omega) k3)
      · split
        · next hc => exact ⟨k1, k2, k3, fun _ => k4 (by omega)⟩
        · split
          · next hc => exact ⟨k1, k2, k3, fun _ => k4 (by omega)⟩
          · exact ⟨k1, k2, k3, k4⟩
theorem sInner_kp {T : Pg} {pl : Nat → Int32 → Int32} {bk : Wk} {n s : Nat} {tk : Int32} {B : Bk} (hb : kpB bk n) (hn : B.1 11 - B.1 9 ≤ n) (h : B.1 9 ≤ B.1 11) : kp B (sInner T pl bk s tk B) := by
  unfold sInner
  split
  · exact hb _ _ _ hn h
  · have k0 := @sOpens_kp pl s (Ta T s).toNatClampNeg 0 B h
    dsimp only
    generalize sOpens pl s (Ta T s).toNatClampNeg 0 B = w at *
    split
    · exact k0
    · next h5 =>
      have kq : kp B (if w.2.1 = 0 then bk (Tl T s) tk w.2.2.2 else w.2) := by
        split
        · obtain ⟨a1, a2, a3, a4⟩ := k0
          exact kp.trans ⟨a1, a2, a3, a4⟩ h5 (hb _ _ _ (by omega) a3)
        · exact k0
      generalize (if w.2.1 = 0 then bk (Tl T s) tk w.2.2.2 else w.2) = q at *
      split
      · exact kq
      · next hq5 => exact kq.trans hq5 ((sCl_kp w.1 q.1 q.2.1 (b2 q.2.2 (oAt q.2.2) 0 (nI s)) kq.2.2.1).from (Nat.le_refl _) rfl rfl)
theorem sCaught_kp {T : Pg} {pl : Nat → Int32 → Int32} {bk : Wk} {n s : Nat} {tk : Int32} {B : Bk} (hb : kpB bk n) (hn : B.1 11 - B.1 9 ≤ n) (h : B.1 9 ≤ B.1 11) : kp B (sCaught T pl bk s tk B) := by
  have k0 := @sInner_kp T pl bk n s tk B hb hn h
  unfold sCaught
  dsimp only
  generalize sInner T pl bk s tk B = q at *
  split
  · next h4 =>
    split
    · exact k0
    · obtain ⟨a1, a2, a3, a4⟩ := k0
      exact kp.trans ⟨a1, a2, a3, a4⟩ (by omega) (hb _ _ _ (by omega) a3)
  · exact k0
theorem sGuard_kp {T : Pg} {pl : Nat → Int32 → Int32} {bk : Wk} {n s : Nat} {tk : Int32} {B : Bk} (hb : kpB bk n) (hn : B.1 11 - B.1 9 ≤ n) (h : B.1 9 ≤ B.1 11) : kp B (sGuard T pl bk s tk B) := by
  have k0 := @sCaught_kp T pl bk n s tk B hb hn h
  unfold sGuard
  dsimp only
  generalize sCaught T pl bk s tk B = q at *
  split
  · exact k0
  · next b _ =>
    split
    · exact k0
    · next h5 =>
      obtain ⟨a1, a2, a3, a4⟩ := k0
      have k1 : kp B (bk b tk (b2 q.2.2 11 s (q.2.2.2 11 s + 1))) := kp.trans ⟨a1, a2, a3, a4⟩ h5 ((hb b tk (b2 q.2.2 11 s (q.2.2.2 11 s + 1)) (by show q.2.2.1 11 - q.2.2.1 9 ≤ n; omega) a3).from (Nat.le_refl _) rfl rfl)
      generalize bk b tk (b2 q.2.2 11 s (q.2.2.2 11 s + 1)) = w at *
      split
      · exact k1
      · next w5 =>
        split
        · exact k1.to w5 rfl rfl rfl
        · split
          · exact k1.to w5 rfl rfl rfl
          · exact k1
theorem sCall_kp {T : Pg} {bk : Wk} {n s : Nat} {tk x y : Int32} {B : Bk} (hb : kpB bk n) (hn : B.1 11 - B.1 9 ≤ n) (h : B.1 9 ≤ B.1 11) : kp B (sCall T bk s tk x y B) := by
  unfold sCall
  split
  · exact sFail_kp h
  · have e9 : (bEnter (Tb T s).toNatClampNeg x y B).1 9 = B.1 9 := by simp only [bEnter]; rw [if_neg (by omega), if_neg (by omega), if_neg (by omega)]
    have e11 : (bEnter (Tb T s).toNatClampNeg x y B).1 11 = B.1 11 := by simp only [bEnter]; rw [if_neg (by omega), if_neg (by omega), if_neg (by omega)]
    have e10 : (bEnter (Tb T s).toNatClampNeg x y B).1 10 = B.1 10 + 1 := rfl
    have k0 := hb (Tm T (Tb T s).toNatClampNeg) tk (bEnter (Tb T s).toNatClampNeg x y B) (by omega) (by omega)
    dsimp only
    generalize bk (Tm T (Tb T s).toNatClampNeg) tk (bEnter (Tb T s).toNatClampNeg x y B) = q at *
    obtain ⟨a1, a2, a3, a4⟩ := k0
    split
    · next h5 => exact ⟨by omega, by omega, a3, fun h => absurd h5 h⟩
    · next h5 =>
      have a4 := a4 h5
      have f9 : (bExit q.2.2).1 9 = q.2.2.1 9 := rfl
      have f11 : (bExit q.2.2).1 11 = q.2.2.1 11 := rfl
      have f10 : (bExit q.2.2).1 10 = q.2.2.1 10 - 1 := rfl
      split
      · exact ⟨by show (bExit q.2.2).1 11 = _; omega, by show _ ≤ (bExit q.2.2).1 9; omega, by show (bExit q.2.2).1 9 ≤ (bExit q.2.2).1 11; omega, fun _ => by show (bExit q.2.2).1 10 = _; omega⟩
      · split
        · exact ⟨by show (bExit q.2.2).1 11 = _; omega, by show _ ≤ (bExit q.2.2).1 9; omega, by show (bExit q.2.2).1 9 ≤ (bExit q.2.2).1 11; omega, fun _ => by show (bExit q.2.2).1 10 = _; omega⟩
        · exact ⟨by show (bExit q.2.2).1 11 = _; omega, by show _ ≤ (bExit q.2.2).1 9; omega, by show (bExit q.2.2).1 9 ≤ (bExit q.2.2).1 11; omega, fun _ => by show (bExit q.2.2).1 10 = _; omega⟩
theorem stm_kp {T : Pg} {pl : Nat → Int32 → Int32} {bk : Wk} {n s : Nat} {tk : Int32} {B : Bk} (hb : kpB bk n) (hn : B.1 11 - B.1 9 ≤ n) (h : B.1 9 ≤ B.1 11) : kp B (stm T pl bk s tk B) := by
  have p := @bPass_c (7 * s) B
  unfold stm
  dsimp only
  generalize bPass (7 * s) B = B1 at *
  by_cases c0 : Tk T s = 0
  · rw [if_pos c0]
    split
    · exact kp.of h p.1 p.2.2 p.2.1
    · exact (sFail_kp (by omega)).from (by omega) (by omega) (by omega)
  rw [if_neg c0]
  by_cases c1 : Tk T s = 4
  · rw [if_pos c1]
    exact kp.of h rfl rfl rfl
  rw [if_neg c1]
  by_cases c2 : Tk T s = 5
  · rw [if_pos c2]
    exact kp.of h rfl rfl rfl
  rw [if_neg c2]
  by_cases c3 : Tk T s = 11
  · rw [if_pos c3]
    exact kp.of h rfl rfl rfl
  rw [if_neg c3]
  by_cases c4 : Tk T s = 12
  · rw [if_pos c4]
    exact kp.of h rfl rfl rfl
  rw [if_neg c4]
  by_cases c5 : Tk T s = 13
  · rw [if_pos c5]
    exact sFail_kp h
  rw [if_neg c5]
  by_cases c6 : Tk T s = 14
  · rw [if_pos c6]
    exact kp.of h bMakes_c.1 bMakes_c.2.2 bMakes_c.2.1
  rw [if_neg c6]
  by_cases c7 : Tk T s = 15
  · rw [if_pos c7]
    exact kp.of h rfl rfl rfl
  rw [if_neg c7]
  by_cases c8 : Tk T s = 16 ∨ Tk T s = 17
  · rw [if_pos c8]
    exact sGuard_kp hb hn h
  rw [if_neg c8]
  by_cases c9 : (evE B (T1 T s)).1 ≠ 0
  · rw [if_pos c9]
    exact sFail_kp h
  rw [if_neg c9]
  by_cases c10 : Tk T s = 1
  · rw [if_pos c10]
    exact kp.of h rfl rfl rfl
  rw [if_neg c10]
  by_cases c11 : Tk T s = 3
  · rw [if_pos c11]
    split
    · refine kp.of h ?_ ?_ ?_ <;> (dsimp only; rw [if_neg (by omega)])
    · exact sFail_kp h
  rw [if_neg c11]
  by_cases c12 : Tk T s = 8
  · rw [if_pos c12]
    exact kp.of h rfl rfl rfl
  rw [if_neg c12]
  by_cases c13 : Tk T s = 10
  · rw [if_pos c13]
    exact sLoop_kp hb _ _ hn h
  rw [if_neg c13]
  by_cases c14 : (evE B (T2 T s)).1 ≠ 0
  · rw [if_pos c14]
    exact sFail_kp h
  rw [if_neg c14]
  by_cases c15 : Tk T s = 6
  · rw [if_pos c15]
    split
    · exact sFail_kp h
    · split
      · exact kp.of h rfl rfl rfl
      · exact sFail_kp h
  rw [if_neg c15]
  by_cases c16 : Tk T s = 9
  · rw [if_pos c16]
    exact hb _ _ _ hn h
  rw [if_neg c16]
  exact sCall_kp hb hn h
theorem sBlk_kp (T : Pg) (pl : Nat → Int32 → Int32) : ∀ n, kpB (sBlk T pl n) n := by
  intro n
  induction n with
  | zero =>
    intro ss tk B hn h
    unfold sBlk
    split <;> exact kp.of h rfl rfl rfl
  | succ n ih =>
    intro ss tk B hn h
    unfold sBlk
    split
    · exact kp.of h rfl rfl rfl
    · next s r =>
      split
      · exact kp.of h rfl rfl rfl
      · next hs =>
        have hl := isSpent_no hs h
        have c0 := @bStp_c B
        have k0 : kp B (stm T pl (sBlk T pl n) s tk (b2 (bStp B) (oAt B) 0 (nI s))) := (stm_kp ih (by show (bStp B).1 11 - (bStp B).1 9 ≤ n; omega) (by show (bStp B).1 9 ≤ (bStp B).1 11; omega)).from (by show _ ≤ (bStp B).1 9; omega) rfl rfl
        have k1 : B.1 9 + 1 ≤ (stm T pl (sBlk T pl n) s tk (b2 (bStp B) (oAt B) 0 (nI s))).2.2.1 9 := (@stm_kp T pl (sBlk T pl n) n s tk (b2 (bStp B) (oAt B) 0 (nI s)) ih (by show (bStp B).1 11 - (bStp B).1 9 ≤ n; omega) (by show (bStp B).1 9 ≤ (bStp B).1 11; omega)).2.1
        dsimp only
        generalize stm T pl (sBlk T pl n) s tk (b2 (bStp B) (oAt B) 0 (nI s)) = q at *
        obtain ⟨a1, a2, a3, a4⟩ := k0
        split
        · next h0 => exact kp.trans ⟨a1, a2, a3, a4⟩ (by omega) (ih r tk q.2.2 (by omega) a3)
        · exact ⟨a1, a2, a3, a4⟩
