set_option maxRecDepth 100000
section BEG
variable {D S R p : Nat} {t : Tks} {j J : Nat} {g : Nat → Option Nat} {G : XG} {Q : (Option Value ⊕ Nat) → XG → Prop}
theorem d_isIn {x y z : Nat} (hD : 1 ≤ D) (hx : x < 2147483648) (hy : y < 2147483648) (hz : z < 2147483648) : XC xms D 3 [.int (nI x), .int (nI y), .int (nI z)] G Q = Q (.inl (some (.int (if y ≤ x ∧ x ≤ z then nI 1 else nI 0)))) G := by
  obtain ⟨d, rfl⟩ : ∃ d, D = d + 1 := ⟨D - 1, by omega⟩
  rw [XC_s]
  simp (disch := first | omega | exact cI _ | exact cR _ | exact cK | exact cU | exact cO _ | exact cL _) only [oS, uS.2, Nat.reduceAdd, Nat.reduceSub, Nat.reduceMul, Nat.reduceLeDiff, Nat.reduceEqDiff, Nat.add_sub_cancel, xS, gS, nL, nS, dS, FX0_isIn, mX0_isIn, zX0_isIn]
  by_cases c1 : x < y <;> by_cases c2 : z < x <;> simp [c1, c2] <;> (try rw [if_neg (by omega)]) <;> (try rw [if_pos (by omega)])
theorem begins_iff : begins t j = true ↔ (zK t j = 5 ∨ zK t j = 6 ∨ (zK t j = 2 ∧ (zV t j = 3 ∨ zV t j = 4 ∨ zV t j = 7 ∨ zV t j = 8 ∨ (10 ≤ zV t j ∧ zV t j ≤ 17)))) := by
  unfold begins
  simp only [Bool.or_eq_true, Bool.and_eq_true, beq_iff_eq, decide_eq_true_eq, or_assoc]
theorem c_begins (h : RE G S R p t J g j) (hD : 2 ≤ D) : XC xms D 52 [.ref R] G Q = Q (.inl (some (.int (if begins t j = true then nI 1 else nI 0)))) G := by
  obtain ⟨D, rfl⟩ : ∃ d, D = d + 1 := ⟨D - 1, by omega⟩
  have ck := fun Q => d_kind (D := D) (Q := Q) h (by omega)
  obtain ⟨hl, ht, -, ha, hj⟩ := h
  obtain ⟨h1, -, h2⟩ := ht
  obtain ⟨k1, k2, k3, k4, k5, k6⟩ := h2 j hj
  unfold RD SL at hl
  rw [XC_s]
  by_cases c5 : zK t j = 5
  · rw [if_pos (begins_iff.mpr (.inl c5))]
    simp (disch := first | omega | exact cI _ | exact cR _ | exact cK | exact cU | exact cO _ | exact cL _) only [oS, uS.2, Nat.reduceAdd, Nat.reduceSub, Nat.reduceMul, Nat.reduceLeDiff, Nat.reduceEqDiff, Nat.add_sub_cancel, xS, gS, nL, nS, dS, fX2_begins_0, fX2_begins_71, fX2_begins_76, mX2_begins, zX2_begins, hl, ha, ck, c5]
  by_cases c6 : zK t j = 6
  · rw [if_pos (begins_iff.mpr (.inr (.inl c6)))]
    simp (disch := first | omega | exact cI _ | exact cR _ | exact cK | exact cU | exact cO _ | exact cL _) only [oS, uS.2, Nat.reduceAdd, Nat.reduceSub, Nat.reduceMul, Nat.reduceLeDiff, Nat.reduceEqDiff, Nat.add_sub_cancel, xS, gS, nL, nS, dS, fX2_begins_0, fX2_begins_71, fX2_begins_76, mX2_begins, zX2_begins, hl, ha, ck, c6]
  by_cases c2 : zK t j = 2
  · have k3 := k3 (by omega)
    have cin := fun Q => d_isIn (D := D) (G := G) (Q := Q) (x := zV t j) (y := 10) (z := 17) (by omega) (by omega) (by omega) (by omega)
    by_cases e3 : zV t j = 3
    · rw [if_pos (begins_iff.mpr (.inr (.inr ⟨c2, .inl e3⟩)))]
      simp (disch := first | omega | exact cI _ | exact cR _ | exact cK | exact cU | exact cO _ | exact cL _) only [oS, uS.2, Nat.reduceAdd, Nat.reduceSub, Nat.reduceMul, Nat.reduceLeDiff, Nat.reduceEqDiff, Nat.add_sub_cancel, xS, gS, nL, nS, dS, fX2_begins_0, fX2_begins_71, fX2_begins_76, mX2_begins, zX2_begins, hl, ha, ck, c2, k3, e3]
    by_cases e4 : zV t j = 4
    · rw [if_pos (begins_iff.mpr (.inr (.inr ⟨c2, .inr (.inl e4)⟩)))]
      simp (disch := first | omega | exact cI _ | exact cR _ | exact cK | exact cU | exact cO _ | exact cL _) only [oS, uS.2, Nat.reduceAdd, Nat.reduceSub, Nat.reduceMul, Nat.reduceLeDiff, Nat.reduceEqDiff, Nat.add_sub_cancel, xS, gS, nL, nS, dS, fX2_begins_0, fX2_begins_71, fX2_begins_76, mX2_begins, zX2_begins, hl, ha, ck, c2, k3, e4]
    by_cases e7 : zV t j = 7
    · rw [if_pos (begins_iff.mpr (.inr (.inr ⟨c2, .inr (.inr (.inl e7))⟩)))]
      simp (disch := first | omega | exact cI _ | exact cR _ | exact cK | exact cU | exact cO _ | exact cL _) only [oS, uS.2, Nat.reduceAdd, Nat.reduceSub, Nat.reduceMul, Nat.reduceLeDiff, Nat.reduceEqDiff, Nat.add_sub_cancel, xS, gS, nL, nS, dS, fX2_begins_0, fX2_begins_71, fX2_begins_76, mX2_begins, zX2_begins, hl, ha, ck, c2, k3, e7]
    by_cases e8 : zV t j = 8
    · rw [if_pos (begins_iff.mpr (.inr (.inr ⟨c2, .inr (.inr (.inr (.inl e8)))⟩)))]
      simp (disch := first | omega | exact cI _ | exact cR _ | exact cK | exact cU | exact cO _ | exact cL _) only [oS, uS.2, Nat.reduceAdd, Nat.reduceSub, Nat.reduceMul, Nat.reduceLeDiff, Nat.reduceEqDiff, Nat.add_sub_cancel, xS, gS, nL, nS, dS, fX2_begins_0, fX2_begins_71, fX2_begins_76, mX2_begins, zX2_begins, hl, ha, ck, c2, k3, e8]
    by_cases e9 : 10 ≤ zV t j ∧ zV t j ≤ 17
    · rw [if_pos (begins_iff.mpr (.inr (.inr ⟨c2, .inr (.inr (.inr (.inr e9)))⟩)))]
      simp only [if_pos e9] at cin
      simp (disch := first | omega | exact cI _ | exact cR _ | exact cK | exact cU | exact cO _ | exact cL _) only [oS, uS.2, Nat.reduceAdd, Nat.reduceSub, Nat.reduceMul, Nat.reduceLeDiff, Nat.reduceEqDiff, Nat.add_sub_cancel, xS, gS, nL, nS, dS, fX2_begins_0, fX2_begins_71, fX2_begins_75, fX2_begins_76, mX2_begins, zX2_begins, hl, ha, ck, c2, k3, e3, e4, e7, e8, cin]
    · rw [if_neg (fun q => by have := begins_iff.mp q; omega)]
      simp only [if_neg e9] at cin
      simp (disch := first | omega | exact cI _ | exact cR _ | exact cK | exact cU | exact cO _ | exact cL _) only [oS, uS.2, Nat.reduceAdd, Nat.reduceSub, Nat.reduceMul, Nat.reduceLeDiff, Nat.reduceEqDiff, Nat.add_sub_cancel, xS, gS, nL, nS, dS, fX2_begins_0, fX2_begins_71, fX2_begins_75, fX2_begins_76, mX2_begins, zX2_begins, hl, ha, ck, c2, k3, e3, e4, e7, e8, cin]
  · rw [if_neg (fun q => by have := begins_iff.mp q; omega)]
    simp (disch := first | omega | exact cI _ | exact cR _ | exact cK | exact cU | exact cO _ | exact cL _) only [oS, uS.2, Nat.reduceAdd, Nat.reduceSub, Nat.reduceMul, Nat.reduceLeDiff, Nat.reduceEqDiff, Nat.add_sub_cancel, xS, gS, nL, nS, dS, fX2_begins_0, fX2_begins_75, fX2_begins_76, mX2_begins, zX2_begins, hl, ha, ck, c2, c5, c6]
/-- a kind's name is taken: what there is not is noted -/
theorem c_kindName {nk : Nat} {w : Option Nat} (h : RE G S R p t J g j) (hD : 6 ≤ D) (hp : Gkd G p = 4) (hnk : Gfi G 13 p = nI nk) (hnk2 : nk < 100) (hw : Gfi G 9 R = lkV w) (hx : ∀ x, w = some x → x < 2000) : XC xms D 47 [.ref R] G Q = qN Q g G (zK t j = 3) 1 (zP t j) (Q (.inl (some (.int (nI (zV t j))))) (Sfi (Sfi G 5 R (nI (j + 1))) 9 R (lkV (lkN w (nk ≤ zV t j) (zP t j))))) := by
  obtain ⟨D, rfl⟩ : ∃ d, D = d + 1 := ⟨D - 1, by omega⟩
  have cp : ∀ Q, XC xms D 44 [.ref R] G Q = Q (.inl (some (.int (nI (zP t j))))) G := by
    obtain ⟨d, rfl⟩ : ∃ d, D = d + 1 := ⟨D - 1, by omega⟩
    exact fun Q => c_place h
  have ctk := fun Q => d_take (D := D) (k := 3) (Q := Q) h (by omega) (by omega) (by omega)
  have h' := h
  obtain ⟨hl, ht, -, ha, hj⟩ := h'
  obtain ⟨h1, -, h2⟩ := ht
  obtain ⟨k1, k2, k3, k4, k5, k6⟩ := h2 j hj
  have hg := hl.2.1
  have hR := hl.2.2.2.1
  have hw' : Gfi (Sfi G 5 R (nI (j + 1))) 9 R = lkV w := by simp (disch := first | omega | exact cI _ | exact cR _ | exact cK | exact cU | exact cO _ | exact cL _) only [uS, Nat.reduceAdd, Nat.reduceSub, Nat.reduceMul, Nat.reduceLeDiff, Nat.reduceEqDiff, Nat.add_sub_cancel, gS, nL, nS, dS, hw]
  have hg' : Gkd (Sfi G 5 R (nI (j + 1))) R = 3 := hg
  have clk : ∀ (b : Prop) [Decidable b] Q, XC xms D 49 [.ref R, .int (if b then nI 1 else nI 0), .int (nI (zP t j))] (Sfi G 5 R (nI (j + 1))) Q = Q (.inl none) (Sfi (Sfi G 5 R (nI (j + 1))) 9 R (lkV (lkN w b (zP t j)))) := by
    obtain ⟨d, rfl⟩ : ∃ d, D = d + 1 := ⟨D - 1, by omega⟩
    exact fun b _ Q => c_lacks hg' hw' hx
  rw [XC_s]
  by_cases c : zK t j = 3
  · simp only [qN_1 c] at ctk ⊢
    by_cases e : nk ≤ zV t j
    · have cl := fun Q => clk (nk ≤ zV t j) Q
      simp only [if_pos e] at cl
      simp (disch := first | omega | exact cI _ | exact cR _ | exact cK | exact cU | exact cO _ | exact cL _) only [oS, uS.2, Nat.reduceAdd, Nat.reduceSub, Nat.reduceMul, Nat.reduceLeDiff, Nat.reduceEqDiff, Nat.add_sub_cancel, xS, gS, nL, nS, dS, fX2_kindName_0, fX2_kindName_27, fX2_kindName_28, mX2_kindName, zX2_kindName, hg, hR, hp, hnk, cp, ctk, cl, e]
    · have cl := fun Q => clk (nk ≤ zV t j) Q
      simp only [if_neg e] at cl
      simp (disch := first | omega | exact cI _ | exact cR _ | exact cK | exact cU | exact cO _ | exact cL _) only [oS, uS.2, Nat.reduceAdd, Nat.reduceSub, Nat.reduceMul, Nat.reduceLeDiff, Nat.reduceEqDiff, Nat.add_sub_cancel, xS, gS, nL, nS, dS, fX2_kindName_0, fX2_kindName_27, fX2_kindName_28, mX2_kindName, zX2_kindName, hg, hR, hp, hnk, cp, ctk, cl, e]
  · simp only [qN_0 c] at ctk ⊢
    simp (disch := first | omega | exact cI _ | exact cR _ | exact cK | exact cU | exact cO _ | exact cL _) only [oS, uS.2, Nat.reduceAdd, Nat.reduceSub, Nat.reduceMul, Nat.reduceLeDiff, Nat.reduceEqDiff, Nat.add_sub_cancel, xS, gS, nL, nS, dS, fX2_kindName_0, mX2_kindName, zX2_kindName, hg, cp, ctk]
end BEG
