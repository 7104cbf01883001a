set_option maxRecDepth 100000
section RUN
variable {r kk lo hi p n nm nk : Nat} {A mA : Nat → Nat} {T : Pg} {pl : Nat → Int32 → Int32} {B : Bk} {G G' G2 : XG}
/-- leave, next: the walk -/
theorem w_leave {d s f : Nat} {bk : Wk} {tk : Int32} {Q : (Option Value ⊕ Nat) → XG → Prop} (h : RP r p hi n nm nk A mA T G) (hu : RU G r mA nm pl B) (hs : s < n) (hk : Tk T s = 11 ∨ Tk T s = 12) (hw : ∃ j, Ta T s = nI j ∧ 1 ≤ j ∧ j ≤ 7) (hQ : ∀ z G', oW r kk s (s + 1) nm mA pl G (stm T pl bk s tk B) z G' → Q z G') : XC xms (d + 1) 250 [.ref (A s), .ref r, .ref f] G Q := by
  obtain ⟨-, o1, o2, o3, o4⟩ := h.so hs
  have o4 : SK (Tp hi G) (p + 6) A (A s) (Ta T s) (Tb T s) (T1 T s) (T2 T s) (Tl T s) (To T s) (Tc T s) (Tk T s) := o4
  obtain ⟨j, ej, j1, j7⟩ := hw
  rcases hk with hk | hk
  · rw [hk] at o4
    obtain ⟨k1, m, em, hm, k2⟩ := o4
    have emj : m = j := nI_inj (by omega) (by omega) (em.symm.trans ej)
    subst emj
    have kz : Gkd G (A s) = 29 := k1
    have fz : Gfi G 91 (A s) = nI (100 + m) := by
      have : min m 80 = m := by omega
      rw [this] at k2
      exact k2
    have e : stm T pl bk s tk B = (2, Ta T s, B) := by
      unfold stm
      simp only [hk]
      rfl
    rw [e] at hQ
    have fin := hQ (.inl (some (.int (nI (100 + m))))) G ⟨KT.refl, .inr (.inr (.inl ⟨rfl, ⟨m, ej, j1, by omega, rfl⟩, hu⟩))⟩
    rw [XC_s]
    simp (disch := first | omega | exact cI _ | exact cR _ | exact cK | exact cU | exact cO _ | exact cL _) only [oS, uS.2, Nat.reduceAdd, Nat.reduceSub, Nat.reduceMul, Nat.reduceLeDiff, Nat.reduceEqDiff, Nat.add_sub_cancel, xS, gS, nL, nS, dS, fX28_walk_0, mX28_walk, zX28_walk, kz, fz, fin]
  · rw [hk] at o4
    obtain ⟨k1, m, em, hm, k2⟩ := o4
    have emj : m = j := nI_inj (by omega) (by omega) (em.symm.trans ej)
    subst emj
    have kz : Gkd G (A s) = 29 := k1
    have fz : Gfi G 91 (A s) = nI (200 + m) := by
      have : min m 80 = m := by omega
      rw [this] at k2
      exact k2
    have e : stm T pl bk s tk B = (3, Ta T s, B) := by
      unfold stm
      simp only [hk]
      rfl
    rw [e] at hQ
    have fin := hQ (.inl (some (.int (nI (200 + m))))) G ⟨KT.refl, .inr (.inr (.inr (.inl ⟨rfl, ⟨m, ej, j1, by omega, rfl⟩, hu⟩)))⟩
    rw [XC_s]
    simp (disch := first | omega | exact cI _ | exact cR _ | exact cK | exact cU | exact cO _ | exact cL _) only [oS, uS.2, Nat.reduceAdd, Nat.reduceSub, Nat.reduceMul, Nat.reduceLeDiff, Nat.reduceEqDiff, Nat.add_sub_cancel, xS, gS, nL, nS, dS, fX28_walk_0, mX28_walk, zX28_walk, kz, fz, fin]
end RUN
