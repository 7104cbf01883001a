set_option maxRecDepth 100000
section MIN
variable {D S R p : Nat} {t : Tks} {j J : Nat} {g : Nat → Option Nat} {G : XG} {Q : (Option Value ⊕ Nat) → XG → Prop}
theorem d_min {a b : Nat} (hD : 1 ≤ D) (ha : a < 2147483648) (hb : b < 2147483648) : XC xms D 293 [.int (nI a), .int (nI b)] G Q = Q (.inl (some (.int (nI (min a b))))) G := by
  obtain ⟨d, rfl⟩ : ∃ d, D = d + 1 := ⟨D - 1, by omega⟩
  rw [XC_s]
  by_cases c : a ≤ b
  · rw [Nat.min_eq_left c]
    simp (disch := first | omega | exact cI _ | exact cR _ | exact cK | exact cU | exact cO _ | exact cL _) only [oS, uS.2, Nat.reduceAdd, Nat.reduceSub, Nat.reduceMul, Nat.reduceLeDiff, Nat.reduceEqDiff, Nat.add_sub_cancel, xS, gS, nL, nS, dS, FJ6_min, mJ6_min, zJ6_min, c]
  · rw [Nat.min_eq_right (by omega)]
    simp (disch := first | omega | exact cI _ | exact cR _ | exact cK | exact cU | exact cO _ | exact cL _) only [oS, uS.2, Nat.reduceAdd, Nat.reduceSub, Nat.reduceMul, Nat.reduceLeDiff, Nat.reduceEqDiff, Nat.add_sub_cancel, xS, gS, nL, nS, dS, FJ6_min, mJ6_min, zJ6_min, c]
theorem d_rplace (h : RE G S R p t J g j) (hD : 1 ≤ D) : XC xms D 44 [.ref R] G Q = Q (.inl (some (.int (nI (zP t j))))) G := by
  obtain ⟨d, rfl⟩ : ∃ d, D = d + 1 := ⟨D - 1, by omega⟩
  exact c_place h
theorem d_has {w : Nat} (h : RE G S R p t J g j) (hD : 3 ≤ D) (hw : w < 100) : XC xms D 62 [.ref R, .int (nI w)] G Q = Q (.inl (some (.int (if zK t j = 2 ∧ zV t j = w then nI 1 else nI 0)))) (if zK t j = 2 ∧ zV t j = w then Sfi G 5 R (nI (j + 1)) else G) := by
  obtain ⟨d, rfl⟩ : ∃ d, D = d + 1 + 1 + 1 := ⟨D - 3, by omega⟩
  exact c_has h hw
theorem d_word {w : Nat} (h : RE G S R p t J g j) (hD : 5 ≤ D) (hw : w < 100) : XC xms D 45 [.ref R, .int (nI w)] G Q = qN Q g G (zK t j = 2 ∧ zV t j = w) 1 (zP t j) (Q (.inl none) (Sfi G 5 R (nI (j + 1)))) := by
  obtain ⟨d, rfl⟩ : ∃ d, D = d + 1 + 1 + 1 + 1 + 1 := ⟨D - 5, by omega⟩
  exact c_word' h hw
theorem d_lacks {w : Option Nat} {b : Prop} [Decidable b] {pl : Nat} (hD : 1 ≤ D) (hl : Gkd G R = 3) (hw : Gfi G 9 R = lkV w) (hx : ∀ x, w = some x → x < 2000) : XC xms D 49 [.ref R, .int (if b then nI 1 else nI 0), .int (nI pl)] G Q = Q (.inl none) (Sfi G 9 R (lkV (lkN w b pl))) := by
  obtain ⟨d, rfl⟩ : ∃ d, D = d + 1 := ⟨D - 1, by omega⟩
  exact c_lacks hl hw hx
end MIN
