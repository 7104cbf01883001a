set_option maxRecDepth 100000
section RUN
variable {D r nm : Nat} {mA : Nat → Nat} {pl : Nat → Int32 → Int32} {B B' : Bk} {G G' : XG} {Q : (Option Value ⊕ Nat) → XG → Prop}
/-- chains of what is suppressed -/
def CH (B : Bk) : Prop := ∀ f, f < B.1 4 → vN B f (B.2 5 f) ∧ vN B f (B.2 6 f)
theorem Iv.ch {x3 x4 x5 x6 x12 : Nat} {B : Bk} (h : Iv x3 x4 x5 x6 x12 B) : CH B := fun f hf => (h.2.1 f hf).2
/-- one int of the book is put -/
theorem RU.ai (h : RU G r mA nm pl B) {o i : Nat} {v : Int32} (ho : o < 18) : RU (Sai G (r + o) i v) r mA nm pl (b2 B o i v) := by
  have y : YZ (rgb r) G (Sai G (r + o) i v) := YZ.ai ⟨by omega, by omega⟩
  obtain ⟨bb1, bb2, b3, b4⟩ := h.1
  refine h.fr y rfl (fun _ _ => rfl) (fun k hk => if_neg (by omega)) bb2 (fun o' i' hv => ?_)
  show (if r + o' = r + o ∧ i' = i then v else Gai G (r + o') i') = (if o' = o ∧ i' = i then v else B.2 o' i')
  by_cases q : o' = o ∧ i' = i
  · rw [if_pos q, if_pos ⟨by omega, q.2⟩]
  · rw [if_neg q, if_neg (fun z => q ⟨by omega, z.2⟩)]
    exact b3 o' i' hv
theorem l_sup {d f : Nat} {g : Int32} (h : RU G r mA nm pl B) (hc : CB B) (hch : CH B) : ∀ n k, k < B.1 4 → B.1 4 - k ≤ n + 1 → XL xms d 89 26 [.ref r, .int (nI f), .int g, .int (nI k)] [] G Q = Q (.inl none) (Sai G (r + 6) (lst B n k) g) := by
  have l0 := h.1.1.1
  unfold RL0 at l0
  have b3 := h.1.2.2.1
  have c4 := hc.2.2.2.1
  intro n
  induction n with
  | zero =>
    intro k hk hn
    have g6 : Gai G (r + 6) k = NN := by
      rw [b3 6 k (.inr (.inl ⟨by omega, by omega, hk⟩))]
      rcases (hch k hk).2 with e | ⟨x, e, x1, x2⟩
      · exact e
      · omega
    have k1 : k < 401 := by omega
    rw [fX5_suppresses_26]
    simp (disch := first | omega | exact cI _ | exact cR _ | exact cK | exact cU | exact cO _ | exact cL _) only [oS, uS.2, Nat.reduceAdd, Nat.reduceSub, Nat.reduceMul, Nat.reduceLeDiff, Nat.reduceEqDiff, Nat.add_sub_cancel, xS, gS, nL, nS, dS, fX5_suppresses_47, mX5_suppresses, zX5_suppresses, l0, g6, k1, lst]
  | succ n ih =>
    intro k hk hn
    have e6 : Gai G (r + 6) k = B.2 6 k := b3 6 k (.inr (.inl ⟨by omega, by omega, hk⟩))
    have k1 : k < 401 := by omega
    rw [fX5_suppresses_26]
    unfold lst
    rcases (hch k hk).2 with e | ⟨x, e, x1, x2⟩
    · rw [if_pos e]
      rw [e] at e6
      simp (disch := first | omega | exact cI _ | exact cR _ | exact cK | exact cU | exact cO _ | exact cL _) only [oS, uS.2, Nat.reduceAdd, Nat.reduceSub, Nat.reduceMul, Nat.reduceLeDiff, Nat.reduceEqDiff, Nat.add_sub_cancel, xS, gS, nL, nS, dS, fX5_suppresses_47, mX5_suppresses, zX5_suppresses, l0, e6, k1]
    · have hx : x < 2147483648 := by omega
      have e7 : (B.2 6 k).toNatClampNeg = x := by rw [e]; exact n_clamp hx
      rw [if_neg (by rw [e, n_NN hx]; exact id), e7]
      rw [e] at e6
      have ih' := ih x x2 (by omega)
      simp (disch := first | omega | exact cI _ | exact cR _ | exact cK | exact cU | exact cO _ | exact cL _) only [oS, uS.2, Nat.reduceAdd, Nat.reduceSub, Nat.reduceMul, Nat.reduceLeDiff, Nat.reduceEqDiff, Nat.add_sub_cancel, xS, gS, nL, nS, dS, mX5_suppresses, zX5_suppresses, l0, e6, k1, hx, ih']
theorem k_suppresses {f : Nat} {g : Int32} (h : RU G r mA nm pl B) (hc : CB B) (hch : CH B) (hf : f < B.1 4) (hD : 1 ≤ D) (h1 : ∀ G', RU G' r mA nm pl (bSup f g B) → YZ (rgb r) G G' → Q (.inl none) G') : XC xms D 89 [.ref r, .int (nI f), .int g] G Q := by
  obtain ⟨d, rfl⟩ : ∃ d, D = d + 1 := ⟨D - 1, by omega⟩
  have l0 := h.1.1.1
  unfold RL0 at l0
  have b3 := h.1.2.2.1
  have c4 := hc.2.2.2.1
  have e5 : Gai G (r + 5) f = B.2 5 f := b3 5 f (.inr (.inl ⟨by omega, by omega, hf⟩))
  have k1 : f < 401 := by omega
  unfold bSup at h1
  rw [XC_s]
  rcases (hch f hf).1 with e | ⟨x, e, x1, x2⟩
  · rw [if_pos e] at h1
    have fin := h1 _ (h.ai (by decide)) (YZ.ai ⟨by omega, by omega⟩)
    rw [e] at e5
    simp (disch := first | omega | exact cI _ | exact cR _ | exact cK | exact cU | exact cO _ | exact cL _) only [oS, uS.2, Nat.reduceAdd, Nat.reduceSub, Nat.reduceMul, Nat.reduceLeDiff, Nat.reduceEqDiff, Nat.add_sub_cancel, xS, gS, nL, nS, dS, fX5_suppresses_0, mX5_suppresses, zX5_suppresses, l0, e5, k1, fin]
  · have hx : x < 2147483648 := by omega
    have e7 : (B.2 5 f).toNatClampNeg = x := by rw [e]; exact n_clamp hx
    rw [if_neg (by rw [e, n_NN hx]; exact id), e7] at h1
    have fin := h1 _ (h.ai (by decide)) (YZ.ai ⟨by omega, by omega⟩)
    rw [e] at e5
    have lp := l_sup (Q := Q) (d := d) (f := f) (g := g) h hc hch (B.1 4) x x2 (by omega)
    rw [← lp] at fin
    simp (disch := first | omega | exact cI _ | exact cR _ | exact cK | exact cU | exact cO _ | exact cL _) only [oS, uS.2, Nat.reduceAdd, Nat.reduceSub, Nat.reduceMul, Nat.reduceLeDiff, Nat.reduceEqDiff, Nat.add_sub_cancel, xS, gS, nL, nS, dS, fX5_suppresses_0, fX5_suppresses_19, mX5_suppresses, zX5_suppresses, l0, e5, k1, hx, fin]
/-- a mark -/
theorem k_marks {s : Nat} {v : Int32} (h : RU G r mA nm pl B) (hc : CB B) (h3 : B.1 3 < 400) (h4 : B.1 4 < 401) (hs : s < 80) (hD : 4 ≤ D)
    (h0 : pl (7 * s) ((bPass (7 * s) B).2 12 (7 * s)) = NN → ∀ G', RU G' r mA nm pl (b1 (b2 (bPass (7 * s) B) 2 ((bPass (7 * s) B).1 3) v) 3 ((bPass (7 * s) B).1 3 + 1)) → YZ (rgb r) G G' → Q (.inl none) G')
    (h1 : pl (7 * s) ((bPass (7 * s) B).2 12 (7 * s)) ≠ NN → ∀ G', RU G' r mA nm pl (bMakes (pl (7 * s) ((bPass (7 * s) B).2 12 (7 * s))) NN (bPass (7 * s) B)) → Gfi G' 33 (r + 16) = nI ((bPass (7 * s) B).1 4) → YZ (rgb r) G G' → Q (.inr (r + 16)) G') : XC xms D 90 [.ref r, .int (nI s), .int v] G Q := by
  obtain ⟨d, rfl⟩ : ∃ d, D = d + 1 + 1 + 1 + 1 := ⟨D - 4, by omega⟩
  have l0 := h.1.1.1
  unfold RL0 at l0
  rw [XC_s]
  simp (disch := first | omega | exact cI _ | exact cR _ | exact cK | exact cU | exact cO _ | exact cL _) only [oS, uS.2, Nat.reduceAdd, Nat.reduceSub, Nat.reduceMul, Nat.reduceLeDiff, Nat.reduceEqDiff, Nat.add_sub_cancel, xS, gS, nL, nS, dS, fX5_marks_0, mX5_marks, zX5_marks, l0]
  refine k_passes (j := 0) h hc hs (by decide) (by omega) (fun G1 h2 y1 => ?_)
  have l1 := h2.1.1.1
  unfold RL0 at l1
  have e21 : Gfi G1 21 r = nI ((bPass (7 * s) B).1 3) := h2.1.2.1.1
  have e3 : (bPass (7 * s) B).1 3 = B.1 3 := bPass_1 (by decide)
  simp only [Nat.add_zero] at h2 ⊢
  by_cases c : pl (7 * s) ((bPass (7 * s) B).2 12 (7 * s)) = NN
  · have k3 : (bPass (7 * s) B).1 3 < 400 := by omega
    obtain ⟨G2, hG2⟩ : ∃ G2, G2 = Sfi (Sai G1 (r + 2) ((bPass (7 * s) B).1 3) v) 21 r (nI ((bPass (7 * s) B).1 3 + 1)) := ⟨_, rfl⟩
    have y2 : YZ (rgb r) G1 G2 := by
      rw [hG2]
      exact (YZ.ai ⟨by omega, by omega⟩).trans (YZ.fi ⟨by omega, by omega⟩)
    have h2a := h2.ai (o := 2) (i := (bPass (7 * s) B).1 3) (v := v) (by decide)
    have fin := h0 c G2 (by
      obtain ⟨e1, e2, e3, e4, e5, e6, e7, e8, e9, e10, e11⟩ := h2.1.2.1
      have fo : ∀ x, x ≠ 21 → Gfi G2 x r = Gfi G1 x r := fun x hx => by
        rw [hG2]
        exact Sfi_o hx
      refine h2.fr y2 rfl (fun k _ => if_neg (by omega)) (fun k _ => if_neg (by omega)) ⟨by rw [hG2]; exact Sfi_S, (fo 22 (by decide)).trans e2, (fo 23 (by decide)).trans e3, (fo 24 (by decide)).trans e4, (fo 25 (by decide)).trans e5, (fo 18 (by decide)).trans e6, (fo 19 (by decide)).trans e7, (fo 17 (by decide)).trans e8, (fo 20 (by decide)).trans e9, (fo 27 (by decide)).trans e10, (fo 26 (by decide)).trans e11⟩ (fun o i hv => ?_)
      rw [hG2]
      show (if r + o = r + 2 ∧ i = (bPass (7 * s) B).1 3 then v else Gai G1 (r + o) i) = (if o = 2 ∧ i = (bPass (7 * s) B).1 3 then v else (bPass (7 * s) B).2 o i)
      by_cases q : o = 2 ∧ i = (bPass (7 * s) B).1 3
      · rw [if_pos q, if_pos ⟨by omega, q.2⟩]
      · rw [if_neg q, if_neg (fun z => q ⟨by omega, z.2⟩)]
        exact h2.1.2.2.1 o i (vld_x hv (fun o2 h => by
          have h : i < (bPass (7 * s) B).1 3 + 1 := h
          omega) (fun _ _ h => h) (fun _ a b => ⟨a, by
          have e0 : (b1 (b2 (bPass (7 * s) B) 2 ((bPass (7 * s) B).1 3) v) 3 ((bPass (7 * s) B).1 3 + 1)).1 (100 + i / 12) = (bPass (7 * s) B).1 (100 + i / 12) := if_neg (by omega)
          rw [← e0]
          exact b⟩) (fun _ h => h) (fun _ h => h) (fun _ h => h) (fun _ h => h) (fun _ h => h))) (y1.trans y2)
    rw [hG2] at fin
    simp (disch := first | omega | exact cI _ | exact cR _ | exact cK | exact cU | exact cO _ | exact cL _) only [oS, uS.2, Nat.reduceAdd, Nat.reduceSub, Nat.reduceMul, Nat.reduceLeDiff, Nat.reduceEqDiff, Nat.add_sub_cancel, xS, gS, nL, nS, dS, fX5_marks_19, mX5_marks, zX5_marks, l1, e21, c, k3, fin]
  · have cf : (pl (7 * s) ((bPass (7 * s) B).2 12 (7 * s)) = NN) = False := eq_false c
    have e4 : (bPass (7 * s) B).1 4 = B.1 4 := bPass_1 (by decide)
    simp (disch := first | omega | exact cI _ | exact cR _ | exact cK | exact cU | exact cO _ | exact cL _) only [oS, uS.2, Nat.reduceAdd, Nat.reduceSub, Nat.reduceMul, Nat.reduceLeDiff, Nat.reduceEqDiff, Nat.add_sub_cancel, xS, gS, nL, nS, dS, mX5_marks, zX5_marks, l1, cf]
    refine k_fails (D := d + 3) h2 hc.pass (by omega) (by omega) (fun G3 h3 f3 y3 => ?_)
    have l3 := h3.1.1.1
    unfold RL0 at l3
    have fin := h1 c G3 h3 f3 (y1.trans y3)
    simp (disch := first | omega | exact cI _ | exact cR _ | exact cK | exact cU | exact cO _ | exact cL _) only [oS, uS.2, Nat.reduceAdd, Nat.reduceSub, Nat.reduceMul, Nat.reduceLeDiff, Nat.reduceEqDiff, Nat.add_sub_cancel, xS, gS, nL, nS, dS, mX5_marks, zX5_marks, l3, fin]
theorem s_lastMark (h : RU G r mA nm pl B) (hc : CB B) (hD : 1 ≤ D) : XC xms D 91 [.ref r] G Q = Q (.inl (some (.int (if B.1 3 = 0 then NN else B.2 2 (B.1 3 - 1))))) G := by
  obtain ⟨d, rfl⟩ : ∃ d, D = d + 1 := ⟨D - 1, by omega⟩
  have l0 := h.1.1.1
  unfold RL0 at l0
  have e := h.1.2.1.1
  have c3 := hc.2.2.1
  rw [XC_s]
  by_cases c : B.1 3 = 0
  · rw [if_pos c]
    rw [c] at e
    simp (disch := first | omega | exact cI _ | exact cR _ | exact cK | exact cU | exact cO _ | exact cL _) only [oS, uS.2, Nat.reduceAdd, Nat.reduceSub, Nat.reduceMul, Nat.reduceLeDiff, Nat.reduceEqDiff, Nat.add_sub_cancel, xS, gS, nL, nS, dS, fX5_lastMark_0, fX5_lastMark_23, mX5_lastMark, zX5_lastMark, l0, e]
  · rw [if_neg c]
    have g : Gai G (r + 2) (B.1 3 - 1) = B.2 2 (B.1 3 - 1) := h.1.2.2.1 2 _ (.inl ⟨rfl, by omega⟩)
    simp (disch := first | omega | exact cI _ | exact cR _ | exact cK | exact cU | exact cO _ | exact cL _) only [oS, uS.2, Nat.reduceAdd, Nat.reduceSub, Nat.reduceMul, Nat.reduceLeDiff, Nat.reduceEqDiff, Nat.add_sub_cancel, xS, gS, nL, nS, dS, fX5_lastMark_0, fX5_lastMark_12, fX5_lastMark_23, mX5_lastMark, zX5_lastMark, l0, e, c, g]
end RUN
