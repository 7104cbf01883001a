set_option maxRecDepth 100000
section PILE
variable {T : Pg} {pl : Nat → Int32 → Int32}
theorem pEnd.done {x : Ps} {K : List Fr} {q : Rs} (h : pIs K q x) : pEnd T pl x K q := ⟨x, pTo.refl, h⟩
theorem pEnd.ok {sg : Nat} {v w : Int32} {K : List Fr} {B : Bk} (h5 : sg ≠ 5) (hv : sg ≠ 0 → v = w) : pEnd T pl (sg, v, K, 9, B) K (sg, w, B) := pEnd.done (by
  unfold pIs
  rw [if_neg h5]
  exact ⟨v, hv, rfl⟩)
theorem pEnd.out {x : Ps} {K : List Fr} {v : Int32} {B : Bk} (h : x.2.2.2.1 = 2) (hb : x.2.2.2.2 = B) : pEnd T pl x K (5, v, B) := pEnd.done (by
  unfold pIs
  rw [if_pos rfl]
  exact ⟨h, hb⟩)
theorem pEnd.one {sg : Nat} {sv : Int32} {K K' : List Fr} {B : Bk} {y : Ps} {q : Rs} (h : pGo T pl (sg, sv, K', 9, B) = y) (k : pEnd T pl y K q) : pEnd T pl (sg, sv, K', 9, B) K q := by
  obtain ⟨z, a, b⟩ := k
  exact ⟨z, pTo.one h a, b⟩
theorem pEnd.bind {x : Ps} {K' K : List Fr} {q r : Rs} (h : pEnd T pl x K' q) (h5 : q.1 = 5 → r.1 = 5 ∧ r.2.2 = q.2.2) (hk : q.1 ≠ 5 → ∀ v, (q.1 ≠ 0 → v = q.2.1) → pEnd T pl (q.1, v, K', 9, q.2.2) K r) : pEnd T pl x K r := by
  obtain ⟨y, a, b⟩ := h
  unfold pIs at b
  by_cases e : q.1 = 5
  · rw [if_pos e] at b
    obtain ⟨r1, r2⟩ := h5 e
    refine ⟨y, a, ?_⟩
    unfold pIs
    rw [if_pos r1]
    exact ⟨b.1, b.2.trans r2.symm⟩
  · rw [if_neg e] at b
    obtain ⟨v, hv, rfl⟩ := b
    obtain ⟨z, c, d⟩ := hk e v hv
    exact ⟨z, a.trans c, d⟩
/-- what is asked of a block's meaning -/
def pB (T : Pg) (pl : Nat → Int32 → Int32) (bk : Wk) (n : Nat) : Prop := ∀ ss sv K B, B.1 11 - B.1 9 ≤ n → B.1 9 ≤ B.1 11 → 1 ≤ B.1 10 → pEnd T pl (9, sv, fBlk ss :: K, 9, B) K (bk ss (tkOf K) B)
theorem loop_p {bk : Wk} {n s : Nat} (hb : pB T pl bk n) (hk : kpB bk n) (hs : sgB bk) {K : List Fr} : ∀ (t : Nat) (sv : Int32) (B : Bk), B.1 11 - B.1 9 ≤ n → B.1 9 ≤ B.1 11 → 1 ≤ B.1 10 → pEnd T pl (pTurn T s sv (fLop s (t + 1) :: K) B) K (sLoop bk (Tl T s) (tkOf K) (t + 1) B) := by
  intro t
  induction t with
  | zero =>
    intro sv B hn h hd
    unfold pTurn sLoop
    by_cases e : isSpent B = true
    · rw [if_pos e, if_pos e]
      exact pEnd.out rfl rfl
    · rw [if_neg e, if_neg e]
      have hl := isSpent_no e h
      have c0 := @bStp_c B
      have p := hb (Tl T s) sv (fLop s 1 :: K) (bStp B) (by omega) (by omega) (by omega)
      have kq := hk (Tl T s) (tkOf K) (bStp B) (by omega) (by omega)
      have sq := hs (Tl T s) (tkOf K) (bStp B)
      have et : tkOf (fLop s 1 :: K) = tkOf K := rfl
      rw [et] at p
      dsimp only
      generalize bk (Tl T s) (tkOf K) (bStp B) = q at *
      refine p.bind (fun h5 => ?_) (fun h5 v hv => ?_)
      · rw [if_neg (by omega), if_neg (by omega), if_neg (by omega)]
        exact ⟨h5, rfl⟩
      · refine pEnd.one rfl ?_
        simp only [pGo]
        rw [if_neg (by omega), if_neg (show ¬ (fLop s 1).1 = 1 from (by decide : ¬ 2 = 1)), if_pos (show (fLop s 1).1 = 2 from rfl)]
        unfold pLop
        dsimp only
        by_cases c1 : q.1 = 0 ∨ (q.1 = 3 ∧ q.2.1 = 1)
        · have c1' : q.1 = 0 ∨ (q.1 = 3 ∧ v = 1) := by
            rcases c1 with e | e
            · exact Or.inl e
            · exact Or.inr ⟨e.1, by rw [hv (by omega)]; exact e.2⟩
          rw [if_pos c1, if_pos c1', if_neg (show ¬ 1 < (fLop s 1).2.2.2.1 from Nat.lt_irrefl 1)]
          exact pEnd.ok (by omega) (fun h => absurd rfl h)
        · have c1' : ¬ (q.1 = 0 ∨ (q.1 = 3 ∧ v = 1)) := by
            intro e
            rcases e with e | e
            · exact c1 (Or.inl e)
            · exact c1 (Or.inr ⟨e.1, by rw [← hv (by omega)]; exact e.2⟩)
          have ev : v = q.2.1 := hv (fun e => c1 (Or.inl e))
          subst ev
          rw [if_neg c1, if_neg c1']
          split
          · exact pEnd.ok (by omega) (fun h => absurd rfl h)
          · split
            · exact pEnd.ok h5 (fun _ => rfl)
            · exact pEnd.ok h5 (fun _ => rfl)
  | succ t ih =>
    intro sv B hn h hd
    rw [pTurn, sLoop]
    by_cases e : isSpent B = true
    · rw [if_pos e, if_pos e]
      exact pEnd.out rfl rfl
    · rw [if_neg e, if_neg e]
      have hl := isSpent_no e h
      have c0 := @bStp_c B
      have p := hb (Tl T s) sv (fLop s (t + 1 + 1) :: K) (bStp B) (by omega) (by omega) (by omega)
      have kq := hk (Tl T s) (tkOf K) (bStp B) (by omega) (by omega)
      have sq := hs (Tl T s) (tkOf K) (bStp B)
      have et : tkOf (fLop s (t + 1 + 1) :: K) = tkOf K := rfl
      rw [et] at p
      dsimp only
      generalize bk (Tl T s) (tkOf K) (bStp B) = q at *
      obtain ⟨k1, k2, k3, k4⟩ := kq
      refine p.bind (fun h5 => ?_) (fun h5 v hv => ?_)
      · rw [if_neg (by omega), if_neg (by omega), if_neg (by omega)]
        exact ⟨h5, rfl⟩
      · refine pEnd.one rfl ?_
        simp only [pGo]
        rw [if_neg (by omega), if_neg (show ¬ (fLop s (t + 1 + 1)).1 = 1 from (by decide : ¬ 2 = 1)), if_pos (show (fLop s (t + 1 + 1)).1 = 2 from rfl)]
        unfold pLop
        dsimp only
        by_cases c1 : q.1 = 0 ∨ (q.1 = 3 ∧ q.2.1 = 1)
        · have c1' : q.1 = 0 ∨ (q.1 = 3 ∧ v = 1) := by
            rcases c1 with e | e
            · exact Or.inl e
            · exact Or.inr ⟨e.1, by rw [hv (by omega)]; exact e.2⟩
          rw [if_pos c1, if_pos c1', if_pos (show 1 < (fLop s (t + 1 + 1)).2.2.2.1 from by show 1 < t + 1 + 1; omega)]
          exact ih v q.2.2 (by omega) k3 (by have := k4 h5; omega)
        · have c1' : ¬ (q.1 = 0 ∨ (q.1 = 3 ∧ v = 1)) := by
            intro e
            rcases e with e | e
            · exact c1 (Or.inl e)
            · exact c1 (Or.inr ⟨e.1, by rw [← hv (by omega)]; exact e.2⟩)
          have ev : v = q.2.1 := hv (fun e => c1 (Or.inl e))
          subst ev
          rw [if_neg c1, if_neg c1']
          split
          · exact pEnd.ok (by omega) (fun h => absurd rfl h)
          · split
            · exact pEnd.ok h5 (fun _ => rfl)
            · exact pEnd.ok h5 (fun _ => rfl)
end PILE
