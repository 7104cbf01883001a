set_option maxRecDepth 100000
section RUN
variable {D r nm kk : Nat} {mA : Nat → Nat} {pl : Nat → Int32 → Int32} {B B' : Bk} {G G' : XG} {Q : (Option Value ⊕ Nat) → XG → Prop}
theorem p_holds {z b c : Nat} {e1 e2 : List En} (hz : Gkd G z = 27) (hb : Gfr G 1128 z = some b) (hc : Gfr G 1129 z = some c) (hv : VAL r nm kk mA pl B G b e1) (hw : VAL r nm kk mA pl B G c e2) (hD : e1.length + e2.length + 8 ≤ D) (h1 : (evE B e1).1 ≠ 0 → FK r mA nm pl B G (evE B e1).1 Q) (h2 : (evE B e1).1 = 0 → (evE B e2).1 ≠ 0 → FK r mA nm pl B G (evE B e2).1 Q) (h0 : (evE B e1).1 = 0 → (evE B e2).1 = 0 → Q (.inl (some (.int (if holds (Gfi G 90 z) (evE B e1).2 (evE B e2).2 = true then nI 1 else nI 0)))) G) : XC xms D 242 [.ref z, .ref r, .ref (r + 18 + 4 * kk)] G Q := by
  obtain ⟨mb, hx, hv⟩ := hv.e
  obtain ⟨mc, hx2, hw⟩ := hw.e
  obtain ⟨d, rfl⟩ : ∃ d, D = d + 1 := ⟨D - 1, by omega⟩
  rw [XC_s]
  simp (disch := first | omega | exact cI _ | exact cR _ | exact cK | exact cU | exact cO _ | exact cL _) only [oS, uS.2, Nat.reduceAdd, Nat.reduceSub, Nat.reduceMul, Nat.reduceLeDiff, Nat.reduceEqDiff, Nat.add_sub_cancel, xS, gS, nL, nS, dS, fX26_holds_0, mX26_holds, zX26_holds, hz, hb, hx]
  refine hv d _ (by omega) (fun k0 => ?_) (fun k0 G3 h3 f3 y3 => ?_)
  · simp (disch := first | omega | exact cI _ | exact cR _ | exact cK | exact cU | exact cO _ | exact cL _) only [oS, uS.2, Nat.reduceAdd, Nat.reduceSub, Nat.reduceMul, Nat.reduceLeDiff, Nat.reduceEqDiff, Nat.add_sub_cancel, xS, gS, nL, nS, dS, mX26_holds, zX26_holds, hz, hc, hx2]
    refine hw d _ (by omega) (fun k1 => ?_) (fun k1 G3 h3 f3 y3 => ?_)
    · have fin := h0 k0 k1
      generalize (evE B e1).2 = x at fin ⊢
      generalize (evE B e2).2 = y at fin ⊢
      obtain ⟨sg, hsg⟩ : ∃ sg, sg = Gfi G 90 z := ⟨_, rfl⟩
      rw [← hsg] at fin
      have hsg := hsg.symm
      unfold holds at fin
      have e61 : (61 : Int32) = nI 61 := rfl
      have e60 : (60 : Int32) = nI 60 := rfl
      rw [e61, e60] at fin
      by_cases c1 : sg = nI 61
      · rw [if_pos c1] at fin
        have c1' := eq_true c1
        by_cases q : x = y
        · rw [if_pos (decide_eq_true q)] at fin
          have q' := eq_true q
          simp (disch := first | omega | exact cI _ | exact cR _ | exact cK | exact cU | exact cO _ | exact cL _) only [oS, uS.2, Nat.reduceAdd, Nat.reduceSub, Nat.reduceMul, Nat.reduceLeDiff, Nat.reduceEqDiff, Nat.add_sub_cancel, xS, gS, nL, nS, dS, fX26_holds_78, mX26_holds, zX26_holds, hz, hsg, c1', q', fin]
        · rw [if_neg (fun w => q (of_decide_eq_true w))] at fin
          have q' := eq_false q
          simp (disch := first | omega | exact cI _ | exact cR _ | exact cK | exact cU | exact cO _ | exact cL _) only [oS, uS.2, Nat.reduceAdd, Nat.reduceSub, Nat.reduceMul, Nat.reduceLeDiff, Nat.reduceEqDiff, Nat.add_sub_cancel, xS, gS, nL, nS, dS, fX26_holds_40, fX26_holds_78, mX26_holds, zX26_holds, hz, hsg, c1', q', fin]
      · rw [if_neg c1] at fin
        have c1' := eq_false c1
        by_cases c2 : sg = nI 60
        · rw [if_pos c2] at fin
          have c2' := eq_true c2
          by_cases q : x < y
          · rw [if_pos (decide_eq_true q)] at fin
            have q' := eq_true q
            have q2 : (y ≤ x) = False := eq_false (Int32.not_le.mpr q)
            simp (disch := first | omega | exact cI _ | exact cR _ | exact cK | exact cU | exact cO _ | exact cL _) only [oS, uS.2, Nat.reduceAdd, Nat.reduceSub, Nat.reduceMul, Nat.reduceLeDiff, Nat.reduceEqDiff, Nat.add_sub_cancel, xS, gS, nL, nS, dS, fX26_holds_44, fX26_holds_78, mX26_holds, zX26_holds, hz, hsg, c1', c2', q', q2, fin]
          · rw [if_neg (fun w => q (of_decide_eq_true w))] at fin
            have q' := eq_false q
            have q2 : (y ≤ x) = True := eq_true (Int32.not_lt.mp q)
            simp (disch := first | omega | exact cI _ | exact cR _ | exact cK | exact cU | exact cO _ | exact cL _) only [oS, uS.2, Nat.reduceAdd, Nat.reduceSub, Nat.reduceMul, Nat.reduceLeDiff, Nat.reduceEqDiff, Nat.add_sub_cancel, xS, gS, nL, nS, dS, fX26_holds_44, fX26_holds_63, fX26_holds_78, mX26_holds, zX26_holds, hz, hsg, c1', c2', q', q2, fin]
        · rw [if_neg c2] at fin
          have c2' := eq_false c2
          by_cases q : y < x
          · rw [if_pos (decide_eq_true q)] at fin
            have q' := eq_true q
            have q2 : (x ≤ y) = False := eq_false (Int32.not_le.mpr q)
            simp (disch := first | omega | exact cI _ | exact cR _ | exact cK | exact cU | exact cO _ | exact cL _) only [oS, uS.2, Nat.reduceAdd, Nat.reduceSub, Nat.reduceMul, Nat.reduceLeDiff, Nat.reduceEqDiff, Nat.add_sub_cancel, xS, gS, nL, nS, dS, fX26_holds_44, fX26_holds_67, fX26_holds_78, mX26_holds, zX26_holds, hz, hsg, c1', c2', q', q2, fin]
          · rw [if_neg (fun w => q (of_decide_eq_true w))] at fin
            have q' := eq_false q
            have q2 : (x ≤ y) = True := eq_true (Int32.not_lt.mp q)
            simp (disch := first | omega | exact cI _ | exact cR _ | exact cK | exact cU | exact cO _ | exact cL _) only [oS, uS.2, Nat.reduceAdd, Nat.reduceSub, Nat.reduceMul, Nat.reduceLeDiff, Nat.reduceEqDiff, Nat.add_sub_cancel, xS, gS, nL, nS, dS, fX26_holds_44, fX26_holds_67, fX26_holds_77, fX26_holds_78, mX26_holds, zX26_holds, hz, hsg, c1', c2', q', q2, fin]
    · have l3 := h3.1.1.1
      unfold RL0 at l3
      have fin := h2 k0 k1 G3 h3 f3 y3
      simp (disch := first | omega | exact cI _ | exact cR _ | exact cK | exact cU | exact cO _ | exact cL _) only [oS, uS.2, Nat.reduceAdd, Nat.reduceSub, Nat.reduceMul, Nat.reduceLeDiff, Nat.reduceEqDiff, Nat.add_sub_cancel, xS, gS, nL, nS, dS, mX26_holds, zX26_holds, l3, fin]
  · have l3 := h3.1.1.1
    unfold RL0 at l3
    have fin := h1 k0 G3 h3 f3 y3
    simp (disch := first | omega | exact cI _ | exact cR _ | exact cK | exact cU | exact cO _ | exact cL _) only [oS, uS.2, Nat.reduceAdd, Nat.reduceSub, Nat.reduceMul, Nat.reduceLeDiff, Nat.reduceEqDiff, Nat.add_sub_cancel, xS, gS, nL, nS, dS, mX26_holds, zX26_holds, l3, fin]
theorem p_mark {z s : Nat} (h : RU G r mA nm pl B) (hc : CB B) (h3 : B.1 3 < 400) (h4 : B.1 4 < 401) (hs : s < 80) (hk12 : kk < 12) (hz : Gkd G z = 25) (hzs : Gfi G 82 z = nI s) (hD : 5 ≤ D)
    (h0 : pl (7 * s) ((bPass (7 * s) B).2 12 (7 * s)) = NN → ∀ G', RU G' r mA nm pl (b1 (b2 (bPass (7 * s) B) 2 ((bPass (7 * s) B).1 3) (Gfi G 89 z)) 3 ((bPass (7 * s) B).1 3 + 1)) → YZ (rgb r) G G' → Q (.inl none) G')
    (h1 : pl (7 * s) ((bPass (7 * s) B).2 12 (7 * s)) ≠ NN → ∀ G', RU G' r mA nm pl (bMakes (pl (7 * s) ((bPass (7 * s) B).2 12 (7 * s))) NN (bPass (7 * s) B)) → Gfi G' 33 (r + 16) = nI ((bPass (7 * s) B).1 4) → YZ (rgb r) G G' → Q (.inr (r + 16)) G') : XC xms D 234 [.ref z, .ref r, .ref (r + 18 + 4 * kk)] G Q := by
  obtain ⟨d, rfl⟩ : ∃ d, D = d + 1 := ⟨D - 1, by omega⟩
  have l0 := h.1.1.1
  unfold RL0 at l0
  rw [XC_s]
  simp (disch := first | omega | exact cI _ | exact cR _ | exact cK | exact cU | exact cO _ | exact cL _) only [oS, uS.2, Nat.reduceAdd, Nat.reduceSub, Nat.reduceMul, Nat.reduceLeDiff, Nat.reduceEqDiff, Nat.add_sub_cancel, xS, gS, nL, nS, dS, fX24_does_0, mX24_does, zX24_does, l0, hz, hzs]
  refine k_marks (D := d) h hc h3 h4 hs (by omega) (fun c G3 h5 y3 => ?_) (fun c G3 h5 f3 y3 => ?_)
  · have fin := h0 c G3 h5 y3
    simp (disch := first | omega | exact cI _ | exact cR _ | exact cK | exact cU | exact cO _ | exact cL _) only [oS, uS.2, Nat.reduceAdd, Nat.reduceSub, Nat.reduceMul, Nat.reduceLeDiff, Nat.reduceEqDiff, Nat.add_sub_cancel, xS, gS, nL, nS, dS, mX24_does, zX24_does, fin]
  · have l3 := h5.1.1.1
    unfold RL0 at l3
    have fin := h1 c G3 h5 f3 y3
    simp (disch := first | omega | exact cI _ | exact cR _ | exact cK | exact cU | exact cO _ | exact cL _) only [oS, uS.2, Nat.reduceAdd, Nat.reduceSub, Nat.reduceMul, Nat.reduceLeDiff, Nat.reduceEqDiff, Nat.add_sub_cancel, xS, gS, nL, nS, dS, mX24_does, zX24_does, l3, fin]
theorem p_put {z y b c j : Nat} {e1 e2 : List En} (h : RU G r mA nm pl B) (hB : BV B kk) (hz : Gkd G z = 22) (hy : Gfr G 1124 z = some y) (hyk : Gkd G y = 17) (hj : Gfi G 81 y = nI j) (hj3 : j < 3) (hb : Gfr G 1120 y = some b) (hc : Gfr G 1125 z = some c) (hv : VAL r nm kk mA pl B G b e1) (hw : VAL r nm kk mA pl B G c e2) (hD : e1.length + e2.length + 8 ≤ D) (h1 : (evE B e1).1 ≠ 0 → FK r mA nm pl B G (evE B e1).1 Q) (h2 : (evE B e1).1 = 0 → (evE B e2).1 ≠ 0 → FK r mA nm pl B G (evE B e2).1 Q)
    (h3 : (evE B e1).1 = 0 → (evE B e2).1 = 0 → rowOf B (nI j) = NN → FK r mA nm pl B G 4 Q) (h4 : (evE B e1).1 = 0 → (evE B e2).1 = 0 → rowOf B (nI j) ≠ NN → inRow B (rowOf B (nI j)) (evE B e1).2 = false → FK r mA nm pl B G 3 Q)
    (h0 : (evE B e1).1 = 0 → (evE B e2).1 = 0 → rowOf B (nI j) ≠ NN → inRow B (rowOf B (nI j)) (evE B e1).2 = true → ∀ G', RU G' r mA nm pl (b2 B 15 (cellOf (rowOf B (nI j)) (evE B e1).2) (evE B e2).2) → YZ (rgb r) G G' → Q (.inl none) G') : XC xms D 227 [.ref z, .ref r, .ref (r + 18 + 4 * kk)] G Q := by
  have hB0 := hB
  obtain ⟨hcb, hB4, h10, hrow, hsz⟩ := hB
  have hc12 := hcb.2.2.2.2.2.2.1
  have l0 := h.1.1.1
  unfold RL0 at l0
  have er : rowOf B (nI j) = B.2 (20 + 4 * kk) j := by
    have e0 : 16 + 4 * B.1 10 = 20 + 4 * kk := by omega
    show B.2 (16 + 4 * B.1 10) (nI j).toNatClampNeg = _
    rw [n_clamp (by omega), e0]
  rw [er] at h0 h3 h4
  obtain ⟨mb, hx, hv⟩ := hv.e
  obtain ⟨mc, hx2, hw⟩ := hw.e
  obtain ⟨d, rfl⟩ : ∃ d, D = d + 1 := ⟨D - 1, by omega⟩
  rw [XC_s]
  simp (disch := first | omega | exact cI _ | exact cR _ | exact cK | exact cU | exact cO _ | exact cL _) only [oS, uS.2, Nat.reduceAdd, Nat.reduceSub, Nat.reduceMul, Nat.reduceLeDiff, Nat.reduceEqDiff, Nat.add_sub_cancel, xS, gS, nL, nS, dS, fX21_does_0, mX21_does, zX21_does, hz, hy, hyk, hb, hx]
  refine hv d _ (by omega) (fun k0 => ?_) (fun k0 G3 h3 f3 y3 => ?_)
  · simp (disch := first | omega | exact cI _ | exact cR _ | exact cK | exact cU | exact cO _ | exact cL _) only [oS, uS.2, Nat.reduceAdd, Nat.reduceSub, Nat.reduceMul, Nat.reduceLeDiff, Nat.reduceEqDiff, Nat.add_sub_cancel, xS, gS, nL, nS, dS, mX21_does, zX21_does, hz, hc, hx2]
    refine hw d _ (by omega) (fun k1 => ?_) (fun k1 G3 h3 f3 y3 => ?_)
    · simp (disch := first | omega | exact cI _ | exact cR _ | exact cK | exact cU | exact cO _ | exact cL _) only [oS, uS.2, Nat.reduceAdd, Nat.reduceSub, Nat.reduceMul, Nat.reduceLeDiff, Nat.reduceEqDiff, Nat.add_sub_cancel, xS, gS, nL, nS, dS, mX21_does, zX21_does, l0, hz, hy, hyk]
      refine k_cell (D := d) h hB0 hyk hj hj3 (by omega) (fun c1 G3 h5 f3 y3 => ?_) (fun n e hn c2 G3 h5 f3 y3 => ?_) (fun n e hn c2 hcl => ?_)
      · have l3 := h5.1.1.1
        unfold RL0 at l3
        have fin := h3 k0 k1 c1 G3 h5 f3 y3
        simp (disch := first | omega | exact cI _ | exact cR _ | exact cK | exact cU | exact cO _ | exact cL _) only [oS, uS.2, Nat.reduceAdd, Nat.reduceSub, Nat.reduceMul, Nat.reduceLeDiff, Nat.reduceEqDiff, Nat.add_sub_cancel, xS, gS, nL, nS, dS, mX21_does, zX21_does, l3, fin]
      · have hnb : n < 2147483648 := by omega
        have l3 := h5.1.1.1
        unfold RL0 at l3
        have fin := h4 k0 k1 (fun q => by rw [e, n_NN hnb] at q; exact q) (by rw [e]; exact c2) G3 h5 f3 y3
        simp (disch := first | omega | exact cI _ | exact cR _ | exact cK | exact cU | exact cO _ | exact cL _) only [oS, uS.2, Nat.reduceAdd, Nat.reduceSub, Nat.reduceMul, Nat.reduceLeDiff, Nat.reduceEqDiff, Nat.add_sub_cancel, xS, gS, nL, nS, dS, mX21_does, zX21_does, l3, fin]
      · have hnb : n < 2147483648 := by omega
        have fin := h0 k0 k1 (fun q => by rw [e, n_NN hnb] at q; exact q) (by rw [e]; exact c2) _ (h.ai (by decide)) (YZ.ai ⟨by omega, by omega⟩)
        rw [e] at fin
        generalize cellOf (nI n) (evE B e1).2 = w at hcl fin ⊢
        have hw1 : w < 3208 := by omega
        have hw2 : w < 2147483648 := by omega
        simp (disch := first | omega | exact cI _ | exact cR _ | exact cK | exact cU | exact cO _ | exact cL _) only [oS, uS.2, Nat.reduceAdd, Nat.reduceSub, Nat.reduceMul, Nat.reduceLeDiff, Nat.reduceEqDiff, Nat.add_sub_cancel, xS, gS, nL, nS, dS, mX21_does, zX21_does, l0, hw1, hw2, fin]
    · have l3 := h3.1.1.1
      unfold RL0 at l3
      have fin := h2 k0 k1 G3 h3 f3 y3
      simp (disch := first | omega | exact cI _ | exact cR _ | exact cK | exact cU | exact cO _ | exact cL _) only [oS, uS.2, Nat.reduceAdd, Nat.reduceSub, Nat.reduceMul, Nat.reduceLeDiff, Nat.reduceEqDiff, Nat.add_sub_cancel, xS, gS, nL, nS, dS, mX21_does, zX21_does, l3, fin]
  · have l3 := h3.1.1.1
    unfold RL0 at l3
    have fin := h1 k0 G3 h3 f3 y3
    simp (disch := first | omega | exact cI _ | exact cR _ | exact cK | exact cU | exact cO _ | exact cL _) only [oS, uS.2, Nat.reduceAdd, Nat.reduceSub, Nat.reduceMul, Nat.reduceLeDiff, Nat.reduceEqDiff, Nat.add_sub_cancel, xS, gS, nL, nS, dS, mX21_does, zX21_does, l3, fin]
end RUN
