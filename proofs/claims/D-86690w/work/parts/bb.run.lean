set_option maxRecDepth 100000
section RUN
variable {D r nm kk : Nat} {mA : Nat → Nat} {pl : Nat → Int32 → Int32} {B B' : Bk} {G G' : XG} {Q : (Option Value ⊕ Nat) → XG → Prop}
theorem VAL.e {a : Nat} {es : List En} (h : VAL r nm kk mA pl B G a es) : ∃ mb, xlo [(14, 205), (15, 207), (16, 209), (17, 211)] (Gkd G a) = some mb ∧ ∀ D Q, es.length + 6 ≤ D → ((evE B es).1 = 0 → Q (.inl (some (.int (evE B es).2))) G) → ((evE B es).1 ≠ 0 → FK r mA nm pl B G (evE B es).1 Q) → XC xms D mb [.ref a, .ref r, .ref (r + 18 + 4 * kk)] G Q := by
  obtain ⟨mb, k, v, hx, hev, hv⟩ := h
  refine ⟨mb, hx, fun D Q hD h0 h1 => hv D Q hD (fun k0 => ?_) (fun k0 => ?_)⟩
  · have e := hev.k
    rw [k0] at e hev
    have := h0 e
    rw [hev.v] at this
    exact this
  · have e := hev.k
    rw [e] at h1
    exact h1 k0
/-- one int of the top frame's vars or rows is put -/
theorem RU.aw (h : RU G r mA nm pl B) {o i : Nat} {v : Int32} (ho : 19 ≤ o ∧ o < 66 ∧ o % 4 ≠ 2) : RU (Sai G (r + o) i v) r mA nm pl (b2 B o i v) := by
  have y : YZ (rgn r) G (Sai G (r + o) i v) := YZ.ai ⟨by omega, by omega⟩
  obtain ⟨bb1, bb2, b3, b4⟩ := h.1
  refine h.yz y ⟨bb1.xz y, bb2, fun o' i' hv => ?_, fun k hk => ⟨?_, (b4 k hk).2⟩⟩ h.2.2.1
  · show (if r + o' = r + o ∧ i' = i then v else Gai G (r + o') i') = (if o' = o ∧ i' = i then v else B.2 o' i')
    by_cases q : o' = o ∧ i' = i
    · rw [if_pos q, if_pos ⟨by omega, q.2⟩]
    · rw [if_neg q, if_neg (fun z => q ⟨by omega, z.2⟩)]
      exact b3 o' i' hv
  · show Gfi G 35 (r + 18 + 4 * k) = (if 18 + 4 * k = o ∧ 0 = i then v else B.2 (18 + 4 * k) 0)
    rw [if_neg (by omega)]
    exact (b4 k hk).1
/-- only the book and the top frame's vars and rows are changed -/
def YV (r kk : Nat) (G G' : XG) : Prop := YZ (fun a => rgb r a ∨ a = r + 19 + 4 * kk ∨ a = r + 20 + 4 * kk) G G'
theorem YZ.yv (h : YZ (rgb r) G G') : YV r kk G G' := h.mono (fun _ q => .inl q)
theorem p_set {z b j : Nat} {es : List En} (h : RU G r mA nm pl B) (hB : BV B kk) (hz : Gkd G z = 21) (hj : Gfi G 85 z = nI j) (hj6 : j < 6) (hb : Gfr G 1123 z = some b) (hv : VAL r nm kk mA pl B G b es) (hD : es.length + 8 ≤ D) (h1 : (evE B es).1 ≠ 0 → FK r mA nm pl B G (evE B es).1 Q) (h0 : (evE B es).1 = 0 → ∀ G', RU G' r mA nm pl (b2 B (oVar B) j (evE B es).2) → YV r kk G G' → Q (.inl none) G') : XC xms D 225 [.ref z, .ref r, .ref (r + 18 + 4 * kk)] G Q := by
  obtain ⟨hc, h4, h10, -⟩ := hB
  have hk12 : kk < 12 := by have := hc.2.2.2.2.2.2.2.2.2.1; omega
  obtain ⟨q1, q2, q3, q4, q5, q6, q7, q8, q9, -⟩ := h.1.1.2 _ hk12
  obtain ⟨mb, hx, hv⟩ := hv.e
  have ov : oVar B = 19 + 4 * kk := by
    unfold oVar
    omega
  rw [ov] at h0
  obtain ⟨d, rfl⟩ : ∃ d, D = d + 1 := ⟨D - 1, by omega⟩
  rw [XC_s]
  simp (disch := first | omega | exact cI _ | exact cR _ | exact cK | exact cU | exact cO _ | exact cL _) only [oS, uS.2, Nat.reduceAdd, Nat.reduceSub, Nat.reduceMul, Nat.reduceLeDiff, Nat.reduceEqDiff, Nat.add_sub_cancel, xS, gS, nL, nS, dS, fX20_does_0, mX20_does, zX20_does, hz, hj, hb, q2, q3, hx]
  refine hv d _ (by omega) (fun k0 => ?_) (fun k0 G3 h3 f3 y3 => ?_)
  · have fin := h0 k0 (Sai G (r + 19 + 4 * kk) j (evE B es).2) (by
      have := h.aw (o := 19 + 4 * kk) (i := j) (v := (evE B es).2) ⟨by omega, by omega, by omega⟩
      rw [← Nat.add_assoc] at this
      exact this) (YZ.ai (.inr (.inl rfl)))
    simp (disch := first | omega | exact cI _ | exact cR _ | exact cK | exact cU | exact cO _ | exact cL _) only [oS, uS.2, Nat.reduceAdd, Nat.reduceSub, Nat.reduceMul, Nat.reduceLeDiff, Nat.reduceEqDiff, Nat.add_sub_cancel, xS, gS, nL, nS, dS, mX20_does, zX20_does, hz, hj, hj6, q2, q3, q6, q7, fin]
  · have l3 := h3.1.1.1
    unfold RL0 at l3
    have fin := h1 k0 G3 h3 f3 y3
    simp (disch := first | omega | exact cI _ | exact cR _ | exact cK | exact cU | exact cO _ | exact cL _) only [oS, uS.2, Nat.reduceAdd, Nat.reduceSub, Nat.reduceMul, Nat.reduceLeDiff, Nat.reduceEqDiff, Nat.add_sub_cancel, xS, gS, nL, nS, dS, mX20_does, zX20_does, l3, fin]
theorem p_same {z j : Nat} {v : Int32} (h : RU G r mA nm pl B) (hB : BV B kk) (hz : Gkd G z = 24) (hj : Gfi G 87 z = nI j) (hj3 : j < 3) (ho : Gfi G 88 z = NN ∧ v = NN ∨ ∃ i, Gfi G 88 z = nI i ∧ i < 3 ∧ v = B.2 (20 + 4 * kk) i) (hD : 1 ≤ D) (h0 : ∀ G', RU G' r mA nm pl (b2 B (oRow B) j v) → YV r kk G G' → Q (.inl none) G') : XC xms D 231 [.ref z, .ref r, .ref (r + 18 + 4 * kk)] G Q := by
  obtain ⟨hc, h4, h10, -⟩ := hB
  have hk12 : kk < 12 := by have := hc.2.2.2.2.2.2.2.2.2.1; omega
  obtain ⟨q1, q2, q3, q4, q5, q6, q7, q8, q9, -⟩ := h.1.1.2 _ hk12
  have ov : oRow B = 20 + 4 * kk := by
    unfold oRow
    omega
  rw [ov] at h0
  have fin := h0 (Sai G (r + 20 + 4 * kk) j v) (by
    have := h.aw (o := 20 + 4 * kk) (i := j) (v := v) ⟨by omega, by omega, by omega⟩
    rw [← Nat.add_assoc] at this
    exact this) (YZ.ai (.inr (.inr rfl)))
  obtain ⟨d, rfl⟩ : ∃ d, D = d + 1 := ⟨D - 1, by omega⟩
  rw [XC_s]
  rcases ho with ⟨e, rfl⟩ | ⟨i, e, hi, rfl⟩
  · simp (disch := first | omega | exact cI _ | exact cR _ | exact cK | exact cU | exact cO _ | exact cL _) only [oS, uS.2, Nat.reduceAdd, Nat.reduceSub, Nat.reduceMul, Nat.reduceLeDiff, Nat.reduceEqDiff, Nat.add_sub_cancel, xS, gS, nL, nS, dS, fX23_does_0, fX23_does_31, mX23_does, zX23_does, hz, hj, hj3, e, q2, q4, q8, q9, fin]
  · have er : Gai G (r + 20 + 4 * kk) i = B.2 (20 + 4 * kk) i := by
      have := h.1.2.2.1 (20 + 4 * kk) i (.inr (.inr (.inr (.inr (.inr (.inr (.inr (.inr (.inr ⟨by omega, by omega, .inr ⟨by omega, hi⟩⟩)))))))))
      rw [← this]
      congr 1
      omega
    simp (disch := first | omega | exact cI _ | exact cR _ | exact cK | exact cU | exact cO _ | exact cL _) only [oS, uS.2, Nat.reduceAdd, Nat.reduceSub, Nat.reduceMul, Nat.reduceLeDiff, Nat.reduceEqDiff, Nat.add_sub_cancel, xS, gS, nL, nS, dS, fX23_does_0, fX23_does_22, fX23_does_31, mX23_does, zX23_does, hz, hj, hj3, e, hi, q2, q4, q8, q9, er, fin]
theorem p_throw {z : Nat} {f : Value} (h : RU G r mA nm pl B) (hc : CB B) (h4 : B.1 4 < 401) (hz : Gkd G z = 30) (hf : f.category = 1) (hD : 4 ≤ D) (h1 : FK r mA nm pl B G (Gfi G 92 z) Q) : XC xms D 252 [.ref z, .ref r, .ref kk] G Q := by
  obtain ⟨d, rfl⟩ : ∃ d, D = d + 1 := ⟨D - 1, by omega⟩
  rw [XC_s]
  have l0 := h.1.1.1
  unfold RL0 at l0
  simp (disch := first | omega | exact cI _ | exact cR _ | exact cK | exact cU | exact cO _ | exact cL _) only [oS, uS.2, Nat.reduceAdd, Nat.reduceSub, Nat.reduceMul, Nat.reduceLeDiff, Nat.reduceEqDiff, Nat.add_sub_cancel, xS, gS, nL, nS, dS, fX29_does_0, mX29_does, zX29_does, l0, hz]
  refine k_fails (D := d) h hc h4 (by omega) (fun G3 h3 f3 y3 => ?_)
  have l3 := h3.1.1.1
  unfold RL0 at l3
  have fin := h1 G3 h3 f3 y3
  simp (disch := first | omega | exact cI _ | exact cR _ | exact cK | exact cU | exact cO _ | exact cL _) only [oS, uS.2, Nat.reduceAdd, Nat.reduceSub, Nat.reduceMul, Nat.reduceLeDiff, Nat.reduceEqDiff, Nat.add_sub_cancel, xS, gS, nL, nS, dS, mX29_does, zX29_does, l3, fin]
theorem p_result {z b : Nat} {es : List En} (h : RU G r mA nm pl B) (hk12 : kk < 12) (hz : Gkd G z = 26) (hb : Gfr G 1127 z = some b) (hv : VAL r nm kk mA pl B G b es) (hD : es.length + 8 ≤ D) (h1 : (evE B es).1 ≠ 0 → FK r mA nm pl B G (evE B es).1 Q) (h0 : (evE B es).1 = 0 → Q (.inl none) (Sfi G 34 (r + 18 + 4 * kk) (evE B es).2)) : XC xms D 238 [.ref z, .ref r, .ref (r + 18 + 4 * kk)] G Q := by
  obtain ⟨q1, q2, q3, q4, q5, q6, q7, q8, q9, -⟩ := h.1.1.2 _ hk12
  obtain ⟨mb, hx, hv⟩ := hv.e
  obtain ⟨d, rfl⟩ : ∃ d, D = d + 1 := ⟨D - 1, by omega⟩
  rw [XC_s]
  simp (disch := first | omega | exact cI _ | exact cR _ | exact cK | exact cU | exact cO _ | exact cL _) only [oS, uS.2, Nat.reduceAdd, Nat.reduceSub, Nat.reduceMul, Nat.reduceLeDiff, Nat.reduceEqDiff, Nat.add_sub_cancel, xS, gS, nL, nS, dS, fX25_does_0, mX25_does, zX25_does, hz, hb, q2, hx]
  refine hv d _ (by omega) (fun k0 => ?_) (fun k0 G3 h3 f3 y3 => ?_)
  · have fin := h0 k0
    simp (disch := first | omega | exact cI _ | exact cR _ | exact cK | exact cU | exact cO _ | exact cL _) only [oS, uS.2, Nat.reduceAdd, Nat.reduceSub, Nat.reduceMul, Nat.reduceLeDiff, Nat.reduceEqDiff, Nat.add_sub_cancel, xS, gS, nL, nS, dS, mX25_does, zX25_does, q2, fin]
  · have l3 := h3.1.1.1
    unfold RL0 at l3
    have fin := h1 k0 G3 h3 f3 y3
    simp (disch := first | omega | exact cI _ | exact cR _ | exact cK | exact cU | exact cO _ | exact cL _) only [oS, uS.2, Nat.reduceAdd, Nat.reduceSub, Nat.reduceMul, Nat.reduceLeDiff, Nat.reduceEqDiff, Nat.add_sub_cancel, xS, gS, nL, nS, dS, mX25_does, zX25_does, l3, fin]
theorem p_turns {z b : Nat} {es : List En} (hz : Gkd G z = 28) (hb : Gfr G 1132 z = some b) (hv : VAL r nm kk mA pl B G b es) (hD : es.length + 8 ≤ D) (h1 : (evE B es).1 ≠ 0 → FK r mA nm pl B G (evE B es).1 Q) (h0 : (evE B es).1 = 0 → Q (.inl (some (.int (evE B es).2))) G) : XC xms D 247 [.ref z, .ref r, .ref (r + 18 + 4 * kk)] G Q := by
  obtain ⟨mb, hx, hv⟩ := hv.e
  obtain ⟨d, rfl⟩ : ∃ d, D = d + 1 := ⟨D - 1, by omega⟩
  rw [XC_s]
  simp (disch := first | omega | exact cI _ | exact cR _ | exact cK | exact cU | exact cO _ | exact cL _) only [oS, uS.2, Nat.reduceAdd, Nat.reduceSub, Nat.reduceMul, Nat.reduceLeDiff, Nat.reduceEqDiff, Nat.add_sub_cancel, xS, gS, nL, nS, dS, fX27_turns_0, mX27_turns, zX27_turns, hz, hb, hx]
  refine hv d _ (by omega) (fun k0 => ?_) (fun k0 G3 h3 f3 y3 => ?_)
  · have fin := h0 k0
    simp (disch := first | omega | exact cI _ | exact cR _ | exact cK | exact cU | exact cO _ | exact cL _) only [oS, uS.2, Nat.reduceAdd, Nat.reduceSub, Nat.reduceMul, Nat.reduceLeDiff, Nat.reduceEqDiff, Nat.add_sub_cancel, xS, gS, nL, nS, dS, mX27_turns, zX27_turns, fin]
  · have l3 := h3.1.1.1
    unfold RL0 at l3
    have fin := h1 k0 G3 h3 f3 y3
    simp (disch := first | omega | exact cI _ | exact cR _ | exact cK | exact cU | exact cO _ | exact cL _) only [oS, uS.2, Nat.reduceAdd, Nat.reduceSub, Nat.reduceMul, Nat.reduceLeDiff, Nat.reduceEqDiff, Nat.add_sub_cancel, xS, gS, nL, nS, dS, mX27_turns, zX27_turns, l3, fin]
end RUN
