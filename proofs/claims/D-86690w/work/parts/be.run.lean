set_option maxRecDepth 100000
section RUN
variable {D r nm kk : Nat} {mA : Nat → Nat} {pl : Nat → Int32 → Int32} {B B' : Bk} {G G' : XG} {Q : (Option Value ⊕ Nat) → XG → Prop}
/-- a call enters its method -/
theorem p_enters {z p b c m : Nat} {e1 e2 : List En} (h : RU G r mA nm pl B) (hB : BV B kk) (hz : Gkd G z = 19) (hb : Gfr G 1121 z = some b) (hc : Gfr G 1122 z = some c) (hm : Gfi G 84 z = nI m) (hmn : m < nm) (hp : Gfr G 1029 r = some p) (hpk : Gkd G p = 4) (hpm : Gfr G 1020 p = some (p + 1)) (hpa : Gkd G (p + 1) = 106 ∧ Gln G (p + 1) = 8) (hmA : Gar G (p + 1) m = some (mA m)) (hv : VAL r nm kk mA pl B G b e1) (hw : VAL r nm kk mA pl B G c e2) (hD : e1.length + e2.length + 8 ≤ D) (h1 : (evE B e1).1 ≠ 0 → FK r mA nm pl B G (evE B e1).1 Q) (h2 : (evE B e1).1 = 0 → (evE B e2).1 ≠ 0 → FK r mA nm pl B G (evE B e2).1 Q)
    (h3 : (evE B e1).1 = 0 → (evE B e2).1 = 0 → B.1 10 = 12 → FK r mA nm pl B G 6 Q)
    (h0 : (evE B e1).1 = 0 → (evE B e2).1 = 0 → B.1 10 < 12 → ∀ G', RU G' r mA nm pl (bEnter m (evE B e1).2 (evE B e2).2 B) → YE r G G' → (∀ j i, Gai G' (r + 21 + 4 * j) i = Gai G (r + 21 + 4 * j) i) → (∀ a g, a ≠ r + 18 + 4 * B.1 10 → 28 ≤ g → Gfi G' g a = Gfi G g a) → Gfi G' 34 (r + 18 + 4 * B.1 10) = 0 → Gfi G' 36 (r + 18 + 4 * B.1 10) = Gfi G 77 (mA m) → Gfr G' 1056 (r + 18 + 4 * B.1 10) = some (mA m) → Q (.inl (some (.ref (r + 18 + 4 * B.1 10)))) G') : XC xms D 220 [.ref z, .ref r, .ref (r + 18 + 4 * kk)] G Q := by
  obtain ⟨hcb, hB4, h10, hrow, hsz⟩ := hB
  have hc8 := hcb.2.2.2.2.2.2.2.2.2.2
  have hc10 := hcb.2.2.2.2.2.2.2.2.2.1
  have hn8 := h.2.2.2.1
  have hm8 : m < 8 := by omega
  have l0 := h.1.1.1
  unfold RL0 at l0
  obtain ⟨mb, hx, hv⟩ := hv.e
  obtain ⟨mc, hx2, hw⟩ := hw.e
  obtain ⟨d, rfl⟩ : ∃ d, D = d + 1 := ⟨D - 1, by omega⟩
  rw [XC_s]
  simp (disch := first | omega | exact cI _ | exact cR _ | exact cK | exact cU | exact cO _ | exact cL _) only [oS, uS.2, Nat.reduceAdd, Nat.reduceSub, Nat.reduceMul, Nat.reduceLeDiff, Nat.reduceEqDiff, Nat.add_sub_cancel, xS, gS, nL, nS, dS, fX18_enters_0, mX18_enters, zX18_enters, hz, hb, hx]
  refine hv d _ (by omega) (fun k0 => ?_) (fun k0 G3 h3 f3 y3 => ?_)
  · simp (disch := first | omega | exact cI _ | exact cR _ | exact cK | exact cU | exact cO _ | exact cL _) only [oS, uS.2, Nat.reduceAdd, Nat.reduceSub, Nat.reduceMul, Nat.reduceLeDiff, Nat.reduceEqDiff, Nat.add_sub_cancel, xS, gS, nL, nS, dS, mX18_enters, zX18_enters, hz, hc, hx2]
    refine hw d _ (by omega) (fun k1 => ?_) (fun k1 G3 h3 f3 y3 => ?_)
    · simp (disch := first | omega | exact cI _ | exact cR _ | exact cK | exact cU | exact cO _ | exact cL _) only [oS, uS.2, Nat.reduceAdd, Nat.reduceSub, Nat.reduceMul, Nat.reduceLeDiff, Nat.reduceEqDiff, Nat.add_sub_cancel, xS, gS, nL, nS, dS, mX18_enters, zX18_enters, l0, hz, hm, hm8, hp, hpk, hpm, hpa, hmA]
      refine k_enters (D := d) h (fun _ => ⟨hcb, hB4⟩) hc10 hc8 (by omega) hmn (by omega) (fun q G3 a1 a2 a3 => ?_) (fun q G3 a1 a2 a3 a4 a5 a6 a7 => ?_)
      · have l3 := a1.1.1.1
        unfold RL0 at l3
        have fin := h3 k0 k1 q G3 a1 a2 a3
        simp (disch := first | omega | exact cI _ | exact cR _ | exact cK | exact cU | exact cO _ | exact cL _) only [oS, uS.2, Nat.reduceAdd, Nat.reduceSub, Nat.reduceMul, Nat.reduceLeDiff, Nat.reduceEqDiff, Nat.add_sub_cancel, xS, gS, nL, nS, dS, mX18_enters, zX18_enters, l3, fin]
      · have fin := h0 k0 k1 q G3 a1 a2 a3 a4 a5 a6 a7
        simp (disch := first | omega | exact cI _ | exact cR _ | exact cK | exact cU | exact cO _ | exact cL _) only [oS, uS.2, Nat.reduceAdd, Nat.reduceSub, Nat.reduceMul, Nat.reduceLeDiff, Nat.reduceEqDiff, Nat.add_sub_cancel, xS, gS, nL, nS, dS, mX18_enters, zX18_enters, fin]
    · have l3 := h3.1.1.1
      unfold RL0 at l3
      have fin := h2 k0 k1 G3 h3 f3 y3
      simp (disch := first | omega | exact cI _ | exact cR _ | exact cK | exact cU | exact cO _ | exact cL _) only [oS, uS.2, Nat.reduceAdd, Nat.reduceSub, Nat.reduceMul, Nat.reduceLeDiff, Nat.reduceEqDiff, Nat.add_sub_cancel, xS, gS, nL, nS, dS, mX18_enters, zX18_enters, l3, fin]
  · have l3 := h3.1.1.1
    unfold RL0 at l3
    have fin := h1 k0 G3 h3 f3 y3
    simp (disch := first | omega | exact cI _ | exact cR _ | exact cK | exact cU | exact cO _ | exact cL _) only [oS, uS.2, Nat.reduceAdd, Nat.reduceSub, Nat.reduceMul, Nat.reduceLeDiff, Nat.reduceEqDiff, Nat.add_sub_cancel, xS, gS, nL, nS, dS, mX18_enters, zX18_enters, l3, fin]
/-- what a catch took is thrown again, or has a new one -/
theorem p_again {z y t : Nat} {tk : Int32} (h : RU G r mA nm pl B) (hcb : CB B) (hB4 : B.1 4 < 401) (hk12 : kk < 12) (hz : Gkd G z = 31) (hy : Gfr G 1134 z = some y) (hyk : Gkd G y = 32) (hyt : Gfi G 82 y = nI t) (ht : t < 80) (hsl : Gai G (r + 21 + 4 * kk) (8 * t) = tk) (hD : 4 ≤ D)
    (h0 : Gfi G 93 z = NN → ∀ G', RU G' r mA nm pl B → Gfi G' 33 (r + 16) = tk → YZ (rgb r) G G' → Q (.inr (r + 16)) G')
    (h1 : Gfi G 93 z ≠ NN → ∀ G', RU G' r mA nm pl (bMakes (Gfi G 93 z) tk B) → Gfi G' 33 (r + 16) = nI (B.1 4) → YZ (rgb r) G G' → Q (.inr (r + 16)) G') : XC xms D 256 [.ref z, .ref r, .ref (r + 18 + 4 * kk)] G Q := by
  obtain ⟨q1, q2, q3, q4, q5, q6, q7, q8, q9, q10, q11⟩ := h.1.1.2 _ hk12
  have l0 := h.1.1.1
  unfold RL0 at l0
  obtain ⟨d, rfl⟩ : ∃ d, D = d + 1 + 1 := ⟨D - 2, by omega⟩
  have ht8 : 8 * t < 640 := by omega
  have ht2 : 8 * t < 2147483648 := by omega
  have hsl' : Gai G (r + 21 + 4 * kk) (8 * t + 0) = tk := hsl
  rw [XC_s]
  by_cases c : Gfi G 93 z = NN
  · have fin := h0 c (Sfi G 33 (r + 16) tk) (h.fi (by decide) (by decide) ⟨by omega, by omega⟩) Sfi_S (YZ.fi ⟨by omega, by omega⟩)
    simp (disch := first | omega | exact cI _ | exact cR _ | exact cK | exact cU | exact cO _ | exact cL _) only [oS, uS.2, Nat.reduceAdd, Nat.reduceSub, Nat.reduceMul, Nat.reduceLeDiff, Nat.reduceEqDiff, Nat.add_sub_cancel, xS, gS, nL, nS, dS, fX30_does_0, fX30_does_40, mX30_does, zX30_does, FX31_slot, mX31_slot, zX31_slot, XC_s (k := 261), FX6_with, mX6_with, zX6_with, XC_s (k := 93), l0, hz, hy, hyk, hyt, hsl, hsl', q2, q5, q10, q11, ht8, ht2, c, fin]
  · have cf := eq_false c
    simp (disch := first | omega | exact cI _ | exact cR _ | exact cK | exact cU | exact cO _ | exact cL _) only [oS, uS.2, Nat.reduceAdd, Nat.reduceSub, Nat.reduceMul, Nat.reduceLeDiff, Nat.reduceEqDiff, Nat.add_sub_cancel, xS, gS, nL, nS, dS, fX30_does_0, fX30_does_31, mX30_does, zX30_does, FX31_slot, mX31_slot, zX31_slot, XC_s (k := 261), l0, hz, hy, hyk, hyt, hsl, hsl', q2, q5, q10, q11, ht8, ht2, cf]
    refine k_makes (D := d + 1) h hcb hB4 (by omega) (fun G3 a1 y3 => ?_)
    have l3 := a1.1.1.1
    unfold RL0 at l3
    have fin := h1 c (Sfi G3 33 (r + 16) (nI (B.1 4))) (a1.fi (f := 33) (a := r + 16) (by decide) (by decide) ⟨by omega, by omega⟩) Sfi_S (y3.trans (YZ.fi ⟨by omega, by omega⟩))
    simp (disch := first | omega | exact cI _ | exact cR _ | exact cK | exact cU | exact cO _ | exact cL _) only [oS, uS.2, Nat.reduceAdd, Nat.reduceSub, Nat.reduceMul, Nat.reduceLeDiff, Nat.reduceEqDiff, Nat.add_sub_cancel, xS, gS, nL, nS, dS, fX30_does_40, mX30_does, zX30_does, FX6_with, mX6_with, zX6_with, XC_s (k := 93), l3, fin]
end RUN
