set_option maxRecDepth 100000
section RUN
variable {D r nm kk : Nat} {mA : Nat → Nat} {pl : Nat → Int32 → Int32} {B B' : Bk} {G G' : XG} {Q : (Option Value ⊕ Nat) → XG → Prop}
theorem z53 {d k a f : Nat} {w : Int32} (hk : k < 401) : ∀ m i G, m + i = 8 → RL G r → (∀ G', Zf (r + 15) (8 * k + i) (8 * k + 8) 0 G G' → XL xms d 229 80 [.ref a, .ref r, .ref f, .int w, .int (nI k), .int (nI 8)] [] G' Q) → XL xms d 229 53 [.ref a, .ref r, .ref f, .int w, .int (nI k), .int (nI i)] [] G Q := by
  intro m
  induction m with
  | zero =>
    intro i G hi hl hQ
    have e : i = 8 := by omega
    subst e
    have fin := hQ G Zf.refl
    rw [fX22_does_53]
    simp (disch := first | omega | exact cI _ | exact cR _ | exact cK | exact cU | exact cO _ | exact cL _) only [oS, uS.2, Nat.reduceAdd, Nat.reduceSub, Nat.reduceMul, Nat.reduceLeDiff, Nat.reduceEqDiff, Nat.add_sub_cancel, xS, gS, nL, nS, dS, mX22_does, zX22_does, fin]
  | succ m ih =>
    intro i G hi hl hQ
    have l0 := hl.1
    unfold RL0 at l0
    have i80 : i < 8 := by omega
    have hb : 8 * k + i < 3208 := by omega
    have hb2 : 8 * k + i < 2147483648 := by omega
    have ih' := ih (i + 1) (Sai G (r + 15) (8 * k + i) (nI 0)) (by omega) (hl.xz (P := fun b => b = r + 15) (YZ.ai rfl)) (fun G' hz => hQ G' (Zf.step hz (by omega)))
    rw [fX22_does_53]
    simp (disch := first | omega | exact cI _ | exact cR _ | exact cK | exact cU | exact cO _ | exact cL _) only [oS, uS.2, Nat.reduceAdd, Nat.reduceSub, Nat.reduceMul, Nat.reduceLeDiff, Nat.reduceEqDiff, Nat.add_sub_cancel, xS, gS, nL, nS, dS, mX22_does, zX22_does, l0, i80, hb, hb2, ih']
/-- a new row's book -/
def bNew (w : Int32) (j kk : Nat) (B : Bk) : Bk := (fun c => if c = 12 then B.1 12 + 1 else B.1 c, fun o i => if o = 14 ∧ i = B.1 12 then w else if o = 15 ∧ 8 * B.1 12 ≤ i ∧ i < 8 * B.1 12 + 8 then 0 else if o = 20 + 4 * kk ∧ i = j then nI (B.1 12) else B.2 o i)
theorem p_new {z b j : Nat} {es : List En} (h : RU G r mA nm pl B) (hB : BV B kk) (h12 : B.1 12 < 400) (hz : Gkd G z = 23) (hj : Gfi G 86 z = nI j) (hj3 : j < 3) (hb : Gfr G 1126 z = some b) (hzr : ¬ rgn r z) (hv : VAL r nm kk mA pl B G b es) (hD : es.length + 8 ≤ D) (h1 : (evE B es).1 ≠ 0 → FK r mA nm pl B G (evE B es).1 Q) (h5 : (evE B es).1 = 0 → ¬ (0 ≤ (evE B es).2 ∧ (evE B es).2 ≤ 8) → FK r mA nm pl B G 5 Q) (h0 : (evE B es).1 = 0 → (0 ≤ (evE B es).2 ∧ (evE B es).2 ≤ 8) → ∀ G', RU G' r mA nm pl (bNew (evE B es).2 j kk B) → YV r kk G G' → Q (.inl none) G') : XC xms D 229 [.ref z, .ref r, .ref (r + 18 + 4 * kk)] G Q := by
  have hB0 := hB
  obtain ⟨hc, h4, h10, -⟩ := hB
  have l0 := h.1.1.1
  unfold RL0 at l0
  have hk12 : kk < 12 := by have := hc.2.2.2.2.2.2.2.2.2.1; omega
  obtain ⟨mb, hx, hv⟩ := hv.e
  obtain ⟨d, rfl⟩ : ∃ d, D = d + 1 := ⟨D - 1, by omega⟩
  rw [XC_s]
  simp (disch := first | omega | exact cI _ | exact cR _ | exact cK | exact cU | exact cO _ | exact cL _) only [oS, uS.2, Nat.reduceAdd, Nat.reduceSub, Nat.reduceMul, Nat.reduceLeDiff, Nat.reduceEqDiff, Nat.add_sub_cancel, xS, gS, nL, nS, dS, fX22_does_0, mX22_does, zX22_does, hz, hb, hx]
  refine hv d _ (by omega) (fun k0 => ?_) (fun k0 G3 h3 f3 y3 => ?_)
  · have is : ∀ Q, XC xms d 3 [.int (evE B es).2, .int (nI 0), .int (nI 8)] G Q = Q (.inl (some (.int (if nI 0 ≤ (evE B es).2 ∧ (evE B es).2 ≤ nI 8 then nI 1 else nI 0)))) G := fun Q => s_isIn (by omega)
    by_cases c : nI 0 ≤ (evE B es).2 ∧ (evE B es).2 ≤ nI 8
    · have hq := h0 k0 c
      rw [if_pos c] at is
      generalize (evE B es).2 = w at hq is ⊢
      obtain ⟨G1, hG1⟩ : ∃ G1, G1 = Sai (Sfi G 27 r (nI (B.1 12 + 1))) (r + 14) (B.1 12) w := ⟨_, rfl⟩
      have e27 : Gfi G 27 r = nI (B.1 12) := h.1.2.1.2.2.2.2.2.2.2.2.2.1
      have y1 : YZ (rgb r) G G1 := by
        rw [hG1]
        exact (YZ.fi ⟨Nat.le_refl _, by omega⟩).trans (YZ.ai ⟨by omega, by omega⟩)
      have lp := z53 (d := d) (a := z) (f := r + 18 + 4 * kk) (w := w) (Q := Q) (k := B.1 12) (by omega) 8 0 G1 rfl (h.1.1.xz y1) (fun G2 hz2 => by
        have y2 : YZ (rgb r) G1 G2 := hz2.2.2.1.mono (fun a e => by rw [e]; exact ⟨by omega, by omega⟩)
        have y12 := y1.trans y2
        obtain ⟨q1, q2, q3, q4, q5, q6, q7, q8, q9, -⟩ := (h.1.1.xz y12).2 _ hk12
        have hz2k : Gkd G2 z = 23 := (congrFun y12.2.2.2.1 z).trans hz
        have hj2 : Gfi G2 86 z = nI j := (y12.big.2.2.2.2.2.2.2.2.1 86 z hzr).trans hj
        have y3 : YV r kk G2 (Sai G2 (r + 20 + 4 * kk) j (nI (B.1 12))) := YZ.ai (.inr (.inr rfl))
        have fin := hq (Sai G2 (r + 20 + 4 * kk) j (nI (B.1 12))) (by
          have yy : YZ (rgn r) G (Sai G2 (r + 20 + 4 * kk) j (nI (B.1 12))) := y12.big.trans (YZ.ai ⟨by omega, by omega⟩)
          obtain ⟨e1, e2, e3, e4, e5, e6, e7, e8, e9, e10, e11⟩ := h.1.2.1
          have f2 : ∀ x a, (x ≠ 27 ∨ a ≠ r) → Gfi G2 x a = Gfi G x a := fun x a q => (hz2.2.2.2 x a).trans (by
            rw [hG1]
            exact if_neg (fun e => by omega))
          have f27 : Gfi G2 27 r = nI (B.1 12 + 1) := (hz2.2.2.2 27 r).trans (by
            rw [hG1]
            exact Sfi_S)
          refine h.yz yy ⟨h.1.1.xz yy, ⟨(f2 21 r (.inl (by decide))).trans e1, (f2 22 r (.inl (by decide))).trans e2, (f2 23 r (.inl (by decide))).trans e3, (f2 24 r (.inl (by decide))).trans e4, (f2 25 r (.inl (by decide))).trans e5, (f2 18 r (.inl (by decide))).trans e6, (f2 19 r (.inl (by decide))).trans e7, (f2 17 r (.inl (by decide))).trans e8, (f2 20 r (.inl (by decide))).trans e9, f27, (f2 26 r (.inl (by decide))).trans e11⟩, fun o i hv => ?_, fun k hk => ⟨?_, ?_⟩⟩ (fun k hk => ?_)
          · show Gai (Sai G2 (r + 20 + 4 * kk) j (nI (B.1 12))) (r + o) i = (if o = 14 ∧ i = B.1 12 then w else if o = 15 ∧ 8 * B.1 12 ≤ i ∧ i < 8 * B.1 12 + 8 then 0 else if o = 20 + 4 * kk ∧ i = j then nI (B.1 12) else B.2 o i)
            by_cases c1 : o = 14 ∧ i = B.1 12
            · rw [if_pos c1, Sai_o (.inl (by omega)), c1.1, c1.2, hz2.2.2.1.2.2.2.2.2.2.2.2.2.1 (r + 14) _ (by omega), hG1]
              exact Sai_s
            rw [if_neg c1]
            by_cases c2 : o = 15 ∧ 8 * B.1 12 ≤ i ∧ i < 8 * B.1 12 + 8
            · rw [if_pos c2, Sai_o (.inl (by omega)), c2.1]
              exact hz2.1 i (by omega) (by omega)
            rw [if_neg c2]
            by_cases c3 : o = 20 + 4 * kk ∧ i = j
            · rw [if_pos c3, c3.1, c3.2, ← Nat.add_assoc]
              exact Sai_s
            rw [if_neg c3, Sai_o (by omega)]
            have hv' : vld B o i := vld_x hv (fun _ h => h) (fun _ _ h => h) (fun _ a b => ⟨a, by
              have e0 : (bNew w j kk B).1 (100 + i / 12) = B.1 (100 + i / 12) := if_neg (by omega)
              rw [← e0]
              exact b⟩) (fun _ h => h) (fun _ h => h) (fun o14 h => by
              have h : i < B.1 12 + 1 := h
              omega) (fun o15 h => by
              have h : i < 8 * (B.1 12 + 1) := h
              omega) (fun _ h => h)
            rw [← h.1.2.2.1 o i hv']
            by_cases c4 : o = 15
            · rw [c4, hz2.2.1 i (by omega), hG1]
              exact Sai_o (.inl (by omega))
            · rw [hz2.2.2.1.2.2.2.2.2.2.2.2.2.1 (r + o) i (by omega), hG1]
              exact Sai_o (by omega)
          · show Gfi G2 35 (r + 18 + 4 * k) = (if 18 + 4 * k = 14 ∧ 0 = B.1 12 then w else if 18 + 4 * k = 15 ∧ 8 * B.1 12 ≤ 0 ∧ 0 < 8 * B.1 12 + 8 then 0 else if 18 + 4 * k = 20 + 4 * kk ∧ 0 = j then nI (B.1 12) else B.2 (18 + 4 * k) 0)
            rw [if_neg (by omega), if_neg (by omega), if_neg (by omega), f2 35 _ (.inl (by decide))]
            exact (h.1.2.2.2 k hk).1
          · have e0 : (bNew w j kk B).1 (600 + k) = B.1 (600 + k) := if_neg (by omega)
            rw [e0, yy.1]
            exact (h.1.2.2.2 k hk).2
          · have e0 : (bNew w j kk B).1 (600 + k) = B.1 (600 + k) := if_neg (by omega)
            rw [e0]
            exact h.2.2.1 k hk) (y12.yv.trans y3)
        simp (disch := first | omega | exact cI _ | exact cR _ | exact cK | exact cU | exact cO _ | exact cL _) only [oS, uS.2, Nat.reduceAdd, Nat.reduceSub, Nat.reduceMul, Nat.reduceLeDiff, Nat.reduceEqDiff, Nat.add_sub_cancel, xS, gS, nL, nS, dS, fX22_does_80, mX22_does, zX22_does, hz2k, hj2, hj3, q2, q4, q8, q9, fin])
      rw [hG1] at lp
      have h12a : B.1 12 < 401 := by omega
      simp (disch := first | omega | exact cI _ | exact cR _ | exact cK | exact cU | exact cO _ | exact cL _) only [oS, uS.2, Nat.reduceAdd, Nat.reduceSub, Nat.reduceMul, Nat.reduceLeDiff, Nat.reduceEqDiff, Nat.add_sub_cancel, xS, gS, nL, nS, dS, fX22_does_26, mX22_does, zX22_does, l0, e27, h12a, is, lp]
    · have hq := h5 k0 c
      rw [if_neg c] at is
      simp (disch := first | omega | exact cI _ | exact cR _ | exact cK | exact cU | exact cO _ | exact cL _) only [oS, uS.2, Nat.reduceAdd, Nat.reduceSub, Nat.reduceMul, Nat.reduceLeDiff, Nat.reduceEqDiff, Nat.add_sub_cancel, xS, gS, nL, nS, dS, mX22_does, zX22_does, l0, is]
      refine k_fails (D := d) h hc h4 (by omega) (fun G3 h3 f3 y3 => ?_)
      have l3 := h3.1.1.1
      unfold RL0 at l3
      have fin := hq G3 h3 f3 y3
      simp (disch := first | omega | exact cI _ | exact cR _ | exact cK | exact cU | exact cO _ | exact cL _) only [oS, uS.2, Nat.reduceAdd, Nat.reduceSub, Nat.reduceMul, Nat.reduceLeDiff, Nat.reduceEqDiff, Nat.add_sub_cancel, xS, gS, nL, nS, dS, mX22_does, zX22_does, l3, fin]
  · have l3 := h3.1.1.1
    unfold RL0 at l3
    have fin := h1 k0 G3 h3 f3 y3
    simp (disch := first | omega | exact cI _ | exact cR _ | exact cK | exact cU | exact cO _ | exact cL _) only [oS, uS.2, Nat.reduceAdd, Nat.reduceSub, Nat.reduceMul, Nat.reduceLeDiff, Nat.reduceEqDiff, Nat.add_sub_cancel, xS, gS, nL, nS, dS, mX22_does, zX22_does, l3, fin]
end RUN
