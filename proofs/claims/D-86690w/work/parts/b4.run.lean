set_option maxRecDepth 100000
section RUN
variable {D r nm : Nat} {mA : Nat → Nat} {pl : Nat → Int32 → Int32} {B B' : Bk} {G G' : XG} {Q : (Option Value ⊕ Nat) → XG → Prop}
/-- what closing comes to -/
def oCl (r : Nat) (mA : Nat → Nat) (nm : Nat) (pl : Nat → Int32 → Int32) (G : XG) (q : Rs) (z : Option Value ⊕ Nat) (G' : XG) : Prop := RU G' r mA nm pl q.2.2 ∧ YZ (rgb r) G G' ∧ (q.1 = 5 ∧ z = .inr (r + 17) ∨ q.1 ≠ 5 ∧ z = .inl (some (.int (if q.1 = 4 then q.2.1 else NN))))
theorem n_m1 {m : Nat} {x : Int32} (h : x = nI (m + 1) - 1) : x = nI m := by
  rw [h]
  exact n_sub (b := 1) (Nat.le_add_left 1 m)
theorem l_closes {d s k n : Nat} {sl : Nat → Int32} {w5 : Int32} (hp : vPl pl) (hs : s < 80) (hk : k < 12) (hd : 4 ≤ d) (hn : n ≤ 3) : ∀ m p v B G x w8 w9, m ≤ n → x = nI m - 1 → RU G r mA nm pl B → Iv 0 0 0 0 0 B → (∀ i, i < m → Gai G (r + 21 + 4 * k) (8 * s + 4 + i) = sl (8 * s + 4 + i)) → (p = 4 → vK B v) → p ≠ 5 → (∀ z G', oCl r mA nm pl G (cCl pl s sl m p v B) z G' → Q z G') → XL xms d 88 9 [.ref r, .int (nI s), .int (nI n), .ref (r + 21 + 4 * k), .int (nI (8 * s + 4)), .int w5, .int (if p = 4 then v else NN), .int x, w8, w9] [] G Q := by
  intro m
  induction m with
  | zero =>
    intro p v B G x w8 w9 hi hx h hI hsl hv hp5 hQ
    have l0 := h.1.1.1
    unfold RL0 at l0
    have e : (x < nI 0) = True := by
      rw [hx]
      exact eq_true (by decide)
    have fin := hQ (.inl (some (.int (if p = 4 then v else NN)))) G ⟨h, YZ.refl, .inr ⟨hp5, rfl⟩⟩
    rw [fX5_closes_9]
    generalize (if p = 4 then v else NN) = ff at fin ⊢
    simp (disch := first | omega | exact cI _ | exact cR _ | exact cK | exact cU | exact cO _ | exact cL _) only [oS, uS.2, Nat.reduceAdd, Nat.reduceSub, Nat.reduceMul, Nat.reduceLeDiff, Nat.reduceEqDiff, Nat.add_sub_cancel, xS, gS, nL, nS, dS, fX5_closes_100, mX5_closes, zX5_closes, l0, e, fin]
  | succ m ih =>
    intro p v B G x w8 w9 hi hx h hI hsl hv hp5 hQ
    have l0 := h.1.1.1
    unfold RL0 at l0
    have hx' := n_m1 hx
    subst hx'
    have hm : m < 2147483648 := by omega
    have e : (nI m < nI 0) = False := by
      rw [n_lt hm (by decide)]
      exact eq_false (Nat.not_lt_zero m)
    have hcb := hI.cb
    rw [fX5_closes_9]
    obtain ⟨ff, hff⟩ : ∃ ff, ff = if p = 4 then v else NN := ⟨_, rfl⟩
    rw [← hff]
    simp (disch := first | omega | exact cI _ | exact cR _ | exact cK | exact cU | exact cO _ | exact cL _) only [oS, uS.2, Nat.reduceAdd, Nat.reduceSub, Nat.reduceMul, Nat.reduceLeDiff, Nat.reduceEqDiff, Nat.add_sub_cancel, xS, gS, nL, nS, dS, mX5_closes, zX5_closes, l0, e]
    refine k_step h hcb (by omega) (fun sp => ?_) (fun G1 h1 y1 ns => ?_)
    · have fin := hQ (.inr (r + 17)) G (by
        have e : cCl pl s sl (m + 1) p v B = (5, 0, B) := if_pos sp
        rw [e]
        exact ⟨h, YZ.refl, .inl ⟨rfl, rfl⟩⟩)
      simp (disch := first | omega | exact cI _ | exact cR _ | exact cK | exact cU | exact cO _ | exact cL _) only [oS, uS.2, Nat.reduceAdd, Nat.reduceSub, Nat.reduceMul, Nat.reduceLeDiff, Nat.reduceEqDiff, Nat.add_sub_cancel, xS, gS, nL, nS, dS, mX5_closes, zX5_closes, l0, fin]
    have l1 := h1.1.1.1
    unfold RL0 at l1
    have I1 := hI.stp (by rw [ns]; decide)
    have f24 : Gfi G1 24 r = nI ((bStp B).1 6) := h1.1.2.1.2.2.2.1
    have g1 : Gai G1 (r + 21 + 4 * k) (8 * s + 4 + m) = sl (8 * s + 4 + m) := (y1.2.2.2.2.2.2.2.2.2.1 _ _ (fun q => by have := q.2; omega)).trans (hsl m (Nat.lt_succ_self m))
    have w1 := (h1.1.1.2 k hk).2.2.2.2.2.2.2.2.2
    have w1a : Gkd G1 (r + 21 + 4 * k) = 100 := w1.1
    have w1b : Gln G1 (r + 21 + 4 * k) = 640 := w1.2
    have hi8 : 8 * s + 4 + m < 640 := by omega
    have i6 : (bStp B).1 6 < 400 := by have := I1.1; omega
    have h2 := h1.c6 (v := sl (8 * s + 4 + m))
    have y2 : YZ (rgb r) G1 (Sfi (Sai G1 (r + 10) ((bStp B).1 6) (sl (8 * s + 4 + m))) 24 r (nI ((bStp B).1 6 + 1))) := (YZ.ai ⟨by omega, by omega⟩).trans (YZ.fi ⟨by omega, by omega⟩)
    simp (disch := first | omega | exact cI _ | exact cR _ | exact cK | exact cU | exact cO _ | exact cL _) only [oS, uS.2, Nat.reduceAdd, Nat.reduceSub, Nat.reduceMul, Nat.reduceLeDiff, Nat.reduceEqDiff, Nat.add_sub_cancel, xS, gS, nL, nS, dS, mX5_closes, zX5_closes, l1, f24, g1, w1a, w1b, hi8, i6, hm]
    have y02 := y1.trans y2
    generalize Sfi (Sai G1 (r + 10) ((bStp B).1 6) (sl (8 * s + 4 + m))) 24 r (nI ((bStp B).1 6 + 1)) = G2 at h2 y02 ⊢
    have I2 : Iv 1 1 1 0 1 (b1 (b2 (bStp B) 10 ((bStp B).1 6) (sl (8 * s + 4 + m))) 6 ((bStp B).1 6 + 1)) := (I1.s2 (o := 10) (i := (bStp B).1 6) (v := sl (8 * s + 4 + m)) (by omega)).s6
    refine k_passes (s := s) (j := 4 + m) h2 I2.z.cb hs (by omega) (by omega) (fun G3 h3 y3 => ?_)
    rw [← Nat.add_assoc] at h3 ⊢
    have l3 := h3.1.1.1
    unfold RL0 at l3
    have I3 : Iv 1 1 1 0 1 (bPass (7 * s + 4 + m) (b1 (b2 (bStp B) 10 ((bStp B).1 6) (sl (8 * s + 4 + m))) 6 ((bStp B).1 6 + 1))) := I2.pass
    have e4 : (bPass (7 * s + 4 + m) (b1 (b2 (bStp B) 10 ((bStp B).1 6) (sl (8 * s + 4 + m))) 6 ((bStp B).1 6 + 1))).1 4 = B.1 4 := bPass_4
    have eu : cCl pl s sl (m + 1) p v B = (let B2 := bPass (7 * s + 4 + m) (b1 (b2 (bStp B) 10 ((bStp B).1 6) (sl (8 * s + 4 + m))) 6 ((bStp B).1 6 + 1))
      if pl (7 * s + 4 + m) (B2.2 12 (7 * s + 4 + m)) = NN then cCl pl s sl m p v B2
      else if p = 4 then cCl pl s sl m 4 v (bSup v.toNatClampNeg (nI (B2.1 4)) (bMakes (pl (7 * s + 4 + m) (B2.2 12 (7 * s + 4 + m))) NN B2))
      else cCl pl s sl m 4 (nI (B2.1 4)) (bMakes (pl (7 * s + 4 + m) (B2.2 12 (7 * s + 4 + m))) NN B2)) := if_neg (by rw [ns]; decide)
    rw [eu] at hQ
    dsimp only at hQ
    have y13 := y02.trans y3
    generalize bPass (7 * s + 4 + m) (b1 (b2 (bStp B) 10 ((bStp B).1 6) (sl (8 * s + 4 + m))) 6 ((bStp B).1 6 + 1)) = B2 at h3 I3 e4 hQ ⊢
    obtain ⟨c, hc⟩ : ∃ c, c = pl (7 * s + 4 + m) (B2.2 12 (7 * s + 4 + m)) := ⟨_, rfl⟩
    have hd' : c = NN ∨ vD c := by rw [hc]; exact hp _ _
    rw [← hc] at hQ ⊢
    have hsl3 : ∀ G', YZ (rgb r) G3 G' → ∀ i, i < m → Gai G' (r + 21 + 4 * k) (8 * s + 4 + i) = sl (8 * s + 4 + i) := fun G' y i hi => ((y13.trans y).2.2.2.2.2.2.2.2.2.1 _ _ (fun q => by have := q.2; omega)).trans (hsl i (by omega))
    have e1 : nI m + N1 = nI m - 1 := by
      rw [Int32.sub_eq_add_neg]
      rfl
    have hgo : ∀ p' v' B3 G' w8 w9, RU G' r mA nm pl B3 → Iv 0 0 0 0 0 B3 → YZ (rgb r) G3 G' → (p' = 4 → vK B3 v') → p' ≠ 5 → (∀ z G'', oCl r mA nm pl G (cCl pl s sl m p' v' B3) z G'' → Q z G'') → XL xms d 88 9 [.ref r, .int (nI s), .int (nI n), .ref (r + 21 + 4 * k), .int (nI (8 * s + 4)), .int w5, .int (if p' = 4 then v' else NN), .int (nI m + N1), w8, w9] [] G' Q := fun p' v' B3 G' w8 w9 a1 a2 a3 a4 a5 a6 => ih p' v' B3 G' _ w8 w9 (by omega) e1 a1 a2 (hsl3 G' a3) a4 a5 (fun z G'' hz => a6 z G'' ⟨hz.1, (y13.trans a3).trans hz.2.1, hz.2.2⟩)
    have hc4 := I3.1
    by_cases hcN : c = NN
    · rw [if_pos hcN] at hQ
      have g := hgo p v B2 G3 (.int c) w9 h3 I3.z YZ.refl (fun e => (hv e).mono (by omega)) hp5 hQ
      rw [← hff] at g
      rw [hcN] at g ⊢
      simp (disch := first | omega | exact cI _ | exact cR _ | exact cK | exact cU | exact cO _ | exact cL _) only [oS, uS.2, Nat.reduceAdd, Nat.reduceSub, Nat.reduceMul, Nat.reduceLeDiff, Nat.reduceEqDiff, Nat.add_sub_cancel, xS, gS, nL, nS, dS, fX5_closes_94, mX5_closes, zX5_closes, l3, g]
    · rw [if_neg hcN] at hQ
      have hcf : (c = NN) = False := eq_false hcN
      have hdc := hd'.resolve_left hcN
      simp (disch := first | omega | exact cI _ | exact cR _ | exact cK | exact cU | exact cO _ | exact cL _) only [oS, uS.2, Nat.reduceAdd, Nat.reduceSub, Nat.reduceMul, Nat.reduceLeDiff, Nat.reduceEqDiff, Nat.add_sub_cancel, xS, gS, nL, nS, dS, mX5_closes, zX5_closes, l3, hcf]
      refine k_makes (D := d) h3 I3.z.cb (by omega) (by omega) (fun G4 h4 y4 => ?_)
      have l4 := h4.1.1.1
      unfold RL0 at l4
      have m1 := I3.makes (c := NN) hdc
      by_cases hp4 : p = 4
      · rw [if_pos hp4] at hQ
        obtain ⟨f, hvf, hf⟩ := hv hp4
        rw [if_pos hp4] at hff
        rw [hvf] at hff hQ
        have hfb : f < 2147483648 := by omega
        rw [n_clamp hfb] at hQ
        have hffN : (ff = NN) = False := by rw [hff]; exact n_NN hfb
        have m2 : Iv 1 0 1 0 1 (bSup f (nI (B2.1 4)) (bMakes c NN B2)) := by
          refine m1.1.sup (by rw [m1.2]) (by omega) (fun x hx => ?_)
          have r5 : ∀ o, 3 ≤ o → o ≤ 8 → (bMakes c NN B2).2 o x = B2.2 o x := by
            intro o h1 h2
            simp only [bMakes]
            rw [if_neg (by omega), if_neg (by omega)]
          rw [r5 5 (by omega) (by omega), r5 6 (by omega) (by omega)]
          exact ⟨(I3.2.1 x hx).2.1, (I3.2.1 x hx).2.2⟩
        simp (disch := first | omega | exact cI _ | exact cR _ | exact cK | exact cU | exact cO _ | exact cL _) only [oS, uS.2, Nat.reduceAdd, Nat.reduceSub, Nat.reduceMul, Nat.reduceLeDiff, Nat.reduceEqDiff, Nat.add_sub_cancel, xS, gS, nL, nS, dS, fX5_closes_86, mX5_closes, zX5_closes, l4, hffN]
        rw [hff]
        refine k_suppresses (D := d) (f := f) h4 m1.1.z.cb m1.1.ch (by rw [m1.2]; omega) (by omega) (fun G5 h5 y5 => ?_)
        have l5 := h5.1.1.1
        unfold RL0 at l5
        have g := hgo 4 (nI f) _ G5 (.int c) (.int (nI (B2.1 4))) h5 m2.z (y4.trans y5) (fun _ => ⟨f, rfl, by rw [bSup_c, m1.2]; omega⟩) (by decide) hQ
        rw [if_pos rfl] at g
        simp (disch := first | omega | exact cI _ | exact cR _ | exact cK | exact cU | exact cO _ | exact cL _) only [oS, uS.2, Nat.reduceAdd, Nat.reduceSub, Nat.reduceMul, Nat.reduceLeDiff, Nat.reduceEqDiff, Nat.add_sub_cancel, xS, gS, nL, nS, dS, fX5_closes_94, mX5_closes, zX5_closes, l5, g]
      · rw [if_neg hp4] at hQ
        rw [if_neg hp4] at hff
        have g := hgo 4 (nI (B2.1 4)) _ G4 (.int c) (.int (nI (B2.1 4))) h4 m1.1.z y4 (fun _ => ⟨B2.1 4, rfl, by rw [m1.2]; omega⟩) (by decide) hQ
        rw [if_pos rfl] at g
        rw [hff]
        simp (disch := first | omega | exact cI _ | exact cR _ | exact cK | exact cU | exact cO _ | exact cL _) only [oS, uS.2, Nat.reduceAdd, Nat.reduceSub, Nat.reduceMul, Nat.reduceLeDiff, Nat.reduceEqDiff, Nat.add_sub_cancel, xS, gS, nL, nS, dS, fX5_closes_94, mX5_closes, zX5_closes, l4, g]
theorem k_closes {s k n p : Nat} {v : Int32} {sl : Nat → Int32} (hp : vPl pl) (hs : s < 80) (hk : k < 12) (hD : 5 ≤ D) (hn : n ≤ 3) (h : RU G r mA nm pl B) (hI : Iv 0 0 0 0 0 B) (hsl : ∀ i, i < n → Gai G (r + 21 + 4 * k) (8 * s + 4 + i) = sl (8 * s + 4 + i)) (hv : p = 4 → vK B v) (hp5 : p ≠ 5) (hQ : ∀ z G', oCl r mA nm pl G (cCl pl s sl n p v B) z G' → Q z G') : XC xms D 88 [.ref r, .int (nI s), .int (nI n), .ref (r + 21 + 4 * k), .int (nI (8 * s + 4)), .int (if p = 4 then v else NN)] G Q := by
  obtain ⟨d, rfl⟩ : ∃ d, D = d + 1 := ⟨D - 1, by omega⟩
  have lp := fun w5 => l_closes (d := d) (w5 := w5) (Q := Q) hp hs hk (by omega) hn n p v B G _ xjk xjk (Nat.le_refl _) rfl h hI hsl hv hp5 hQ
  rw [XC_s]
  generalize (if p = 4 then v else NN) = ff at lp ⊢
  have lp' := lp ff
  have eI : (1 : Int32) = nI 1 := rfl
  rw [eI] at lp'
  simp (disch := first | omega | exact cI _ | exact cR _ | exact cK | exact cU | exact cO _ | exact cL _) only [oS, uS.2, Nat.reduceAdd, Nat.reduceSub, Nat.reduceMul, Nat.reduceLeDiff, Nat.reduceEqDiff, Nat.add_sub_cancel, xS, gS, nL, nS, dS, fX5_closes_0, mX5_closes, zX5_closes, lp']
end RUN
