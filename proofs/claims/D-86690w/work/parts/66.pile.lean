set_option maxRecDepth 100000
/-- what closing comes to does not hang on the value of a way that just goes on -/
theorem sCl_irr {pl : Nat → Int32 → Int32} {s o : Nat} : ∀ (n : Nat) (v w : Int32) (B : Bk), (sCl pl s o n 0 v B).1 = (sCl pl s o n 0 w B).1 ∧ (sCl pl s o n 0 v B).2.2 = (sCl pl s o n 0 w B).2.2 ∧ ((sCl pl s o n 0 v B).1 ≠ 0 → (sCl pl s o n 0 v B).2.1 = (sCl pl s o n 0 w B).2.1) := by
  intro n
  induction n with
  | zero => intro v w B; exact ⟨rfl, rfl, fun h => absurd rfl h⟩
  | succ n ih =>
    intro v w B
    rw [sCl, sCl]
    by_cases e : isSpent B = true
    · rw [if_pos e, if_pos e]
      exact ⟨rfl, rfl, fun _ => rfl⟩
    · rw [if_neg e, if_neg e]
      dsimp only
      split
      · exact ih v w _
      · rw [if_neg (by decide), if_neg (by decide)]
        exact ⟨rfl, rfl, fun _ => rfl⟩
