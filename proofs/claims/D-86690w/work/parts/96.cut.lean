set_option maxRecDepth 100000
def tkH (G : XG) (S j : Nat) (t : Tok) : Prop := Gai G (S + 2) j = nI t.1 ∧ Gai G (S + 3) j = nI t.2.1 ∧ (t.1 ≠ 1 → Gai G (S + 4) j = nI t.2.2.1)
theorem tk_next {bf : Nat → Nat} {n p : Nat} (hp : p ≤ n) (hb : ∀ i, i < n → bf i < 256) : p ≤ (tkA bf n p).2.2.2 ∧ (tkA bf n p).2.2.2 ≤ n ∧ ((tkA bf n p).1 ≠ 0 → p + 1 ≤ (tkA bf n p).2.2.2) ∧ (tkA bf n p).1 < 256 ∧ (tkA bf n p).2.1 = p := by
  unfold tkA
  by_cases c0 : n ≤ p
  · rw [if_pos c0]
    exact ⟨Nat.le_refl _, hp, fun h => absurd rfl h, by show 0 < 256; omega, rfl⟩
  rw [if_neg c0]
  have hpn : p < n := by omega
  have ebz : bz bf n p = bf p := if_pos hpn
  have b256 := hb p hpn
  by_cases cl : 97 ≤ bf p ∧ bf p ≤ 122
  · rw [if_pos cl]
    obtain ⟨b1, b2, b3⟩ := lgo_b (bf := bf) (n := n) (n - p) p
    have be : p < lgo bf n (n - p) p := by
      obtain ⟨f, hf⟩ : ∃ f, n - p = f + 1 := ⟨n - p - 1, by omega⟩
      rw [hf]
      unfold lgo
      rw [ebz, if_pos cl]
      have := (lgo_b (bf := bf) (n := n) f (p + 1)).1
      omega
    dsimp only
    split
    · obtain ⟨c1, c2, c3⟩ := dgo_b (bf := bf) (n := n) (n - lgo bf n (n - p) p) (lgo bf n (n - p) p)
      refine ⟨by show p ≤ dgo bf n _ _; omega, c2 (b2 hp), fun _ => by show p + 1 ≤ dgo bf n _ _; omega, ?_, rfl⟩
      show (if 2 < _ then 1 else if 1 < _ then 1 else nmK (bf p)) < 256
      unfold nmK
      repeat' split
      all_goals omega
    · split
      · exact ⟨b1, b2 hp, fun _ => be, by show 2 < 256; omega, rfl⟩
      · exact ⟨b1, b2 hp, fun _ => be, by show 1 < 256; omega, rfl⟩
  rw [if_neg cl]
  by_cases cd : 48 ≤ bf p ∧ bf p ≤ 57
  · rw [if_pos cd]
    obtain ⟨b1, b2, b3⟩ := dgo_b (bf := bf) (n := n) (n - p) p
    have be : p < dgo bf n (n - p) p := by
      obtain ⟨f, hf⟩ : ∃ f, n - p = f + 1 := ⟨n - p - 1, by omega⟩
      rw [hf]
      unfold dgo
      rw [ebz, if_pos cd]
      have := (dgo_b (bf := bf) (n := n) f (p + 1)).1
      omega
    refine ⟨b1, b2 hp, fun _ => be, ?_, rfl⟩
    show (if 4 < _ then 1 else 7) < 256
    split <;> omega
  · rw [if_neg cd]
    refine ⟨Nat.le_succ p, hpn, fun _ => Nat.le_refl _, ?_, rfl⟩
    show (if isSg (bf p) = true then bf p else 1) < 256
    split <;> omega
section CUT2
variable {d S n W : Nat} {wa : Nat → Nat} {bf : Nat → Nat} {G : XG} {Q : (Option Value ⊕ Nat) → XG → Prop}
theorem c_cut (hm : SL G S) (ht : ST G S n bf) (hwd : WD G W wa) (hq : ∀ G' J, YI (sP S) G G' → (tok bf n J).1 ≤ 1 → (∀ j, j < J → 1 < (tok bf n j).1) → J ≤ n → (∀ j, j ≤ J → tkH G' S j (tok bf n j)) → Gfi G' 2 S = nI 0 → Q (.inl none) G') : XC xms (d + 1 + 1 + 1 + 1) 31 [.ref S] G Q := by
  have h1000 := ht.2.1
  have hb : ∀ i, i < n → bf i < 256 := fun i hi => (ht.2.2 i hi).2
  have lp : ∀ f a j (G1 : XG) (x2 x3 x4 : Value), n - a < f → a ≤ n → j ≤ a → YI (sP S) G G1 → Gfi G1 2 S = nI n → (∀ i, Gai G1 (S + 1) i = Gai G (S + 1) i) → Gfi G1 4 S = nI a → Gfi G1 3 S = nI j → tps bf n j = sgo bf n n a → (∀ i, i < j → 1 < (tok bf n i).1 ∧ tkH G1 S i (tok bf n i)) → XL xms (d + 1 + 1 + 1) 31 12 [.ref S, .int (nI 0), x2, x3, x4] [] G1 Q := by
    intro f
    induction f with
    | zero => intro a j G1 x2 x3 x4 h; omega
    | succ f ih =>
      intro a j G1 x2 x3 x4 hf han hja y1 g2 gt g4 g3 hps htk
      have hm1 : SL G1 S := hm.yi y1
      have ht1 : ST G1 S n bf := ⟨g2, h1000, fun i hi => by rw [gt i]; exact ht.2.2 i hi⟩
      have hwd1 : WD G1 W wa := by
        obtain ⟨w1, w2, w3, w4⟩ := hwd
        refine ⟨by rw [y1.2.2.2.2.2.1]; exact w1, by rw [y1.2.2.2.1]; exact w2, by rw [y1.2.2.2.2.1]; exact w3, fun k hk => by rw [y1.2.2.1, y1.2.2.2.1]; exact w4 k hk⟩
      rw [fX1_cut_12]
      simp (disch := first | omega | exact cI _ | exact cR _ | exact cK | exact cU | exact cO _ | exact cL _) only [oS, uS.2, Nat.reduceAdd, Nat.reduceSub, Nat.reduceMul, Nat.reduceLeDiff, Nat.reduceEqDiff, Nat.add_sub_cancel, xS, gS, nL, nS, dS, mX1_cut, zX1_cut, hm1.1]
      have l0 := c_skip (d := d + 1 + 1 + 1) (x2 := x2) (x3 := x3) (x4 := x4) (Q := Q) hm1 ht1 n a (by omega) han
      rw [Sfi_i g4] at l0
      rw [l0]
      obtain ⟨b1, b2⟩ := sgo_b (bf := bf) (n := n) n a
      have b2 := b2 han
      have hm2 : SL (Sfi G1 4 S (nI (sgo bf n n a))) S := hm1
      have ht2 : ST (Sfi G1 4 S (nI (sgo bf n n a))) S n bf := ht1
      have hwd2 : WD (Sfi G1 4 S (nI (sgo bf n n a))) W wa := hwd1
      have et : tok bf n j = tkA bf n (sgo bf n n a) := by unfold tok; rw [hps]
      obtain ⟨n1, n2, n3, n4, n5⟩ := tk_next b2 hb
      refine c_tok hm2 ht2 hwd2 (m := j) (if_pos ⟨rfl, rfl⟩) (by simp (disch := first | omega | exact cI _ | exact cR _ | exact cK | exact cU | exact cO _ | exact cL _) only [uS, Nat.reduceAdd, Nat.reduceSub, Nat.reduceMul, Nat.reduceLeDiff, Nat.reduceEqDiff, Nat.add_sub_cancel, gS, nL, nS, dS, g3]) (by omega) b2 (fun G' y2 y3 y4 hap => ?_)
      rw [← et] at hap n1 n2 n3 n4 n5
      obtain ⟨p1, p2, p3, p4, p5, p6, p7, p8, p9⟩ := hap
      have y2' : YI (sP S) G G' := (y1.trans (YI.fi (show sP S S from ⟨by omega, by omega⟩))).trans p1
      have hm3 := hm.yi y2'
      have htk' : ∀ i, i < j + 1 → tkH G' S i (tok bf n i) := by
        intro i hi
        by_cases e : i = j
        · subst e
          exact ⟨p7, p8, p9⟩
        · obtain ⟨q1, q2, q3⟩ := p6 i (by omega)
          obtain ⟨r1, r2, r3⟩ := (htk i (by omega)).2
          exact ⟨q1.trans r1, q2.trans r2, fun h => q3.trans (r3 h)⟩
      have hm3' := hm3
      unfold SL at hm3'
      rw [fX1_cut_285]
      by_cases k1 : (tok bf n j).1 ≤ 1
      · simp (disch := first | omega | exact cI _ | exact cR _ | exact cK | exact cU | exact cO _ | exact cL _) only [oS, uS.2, Nat.reduceAdd, Nat.reduceSub, Nat.reduceMul, Nat.reduceLeDiff, Nat.reduceEqDiff, Nat.add_sub_cancel, xS, gS, nL, nS, dS, fX1_cut_304, fX1_cut_305, mX1_cut, zX1_cut, hm3', p4, p7, k1]
        rw [fX1_cut_12]
        simp (disch := first | omega | exact cI _ | exact cR _ | exact cK | exact cU | exact cO _ | exact cL _) only [oS, uS.2, Nat.reduceAdd, Nat.reduceSub, Nat.reduceMul, Nat.reduceLeDiff, Nat.reduceEqDiff, Nat.add_sub_cancel, xS, gS, nL, nS, dS, fX1_cut_309, mX1_cut, zX1_cut, hm3.1]
        refine hq _ j (y2'.trans (YI.fi (show sP S S from ⟨by omega, by omega⟩))) k1 (fun i hi => (htk i hi).1) (by omega) (fun i hi => htk' i (by omega)) ?_
        simp (disch := first | omega | exact cI _ | exact cR _ | exact cK | exact cU | exact cO _ | exact cL _) only [uS, Nat.reduceAdd, Nat.reduceSub, Nat.reduceMul, Nat.reduceLeDiff, Nat.reduceEqDiff, Nat.add_sub_cancel, gS, nL, nS, dS, p4]
      · simp (disch := first | omega | exact cI _ | exact cR _ | exact cK | exact cU | exact cO _ | exact cL _) only [oS, uS.2, Nat.reduceAdd, Nat.reduceSub, Nat.reduceMul, Nat.reduceLeDiff, Nat.reduceEqDiff, Nat.add_sub_cancel, xS, gS, nL, nS, dS, fX1_cut_304, fX1_cut_305, mX1_cut, zX1_cut, hm3', p4, p7, k1]
        have n3 := n3 (by omega)
        refine ih (tok bf n j).2.2.2 (j + 1) G' _ _ _ (by omega) n2 (by omega) y2' ?_ (fun i => (p5 i).trans (gt i)) p3 p4 rfl (fun i hi => ⟨?_, htk' i hi⟩)
        · rw [p2]
          simp (disch := first | omega | exact cI _ | exact cR _ | exact cK | exact cU | exact cO _ | exact cL _) only [uS, Nat.reduceAdd, Nat.reduceSub, Nat.reduceMul, Nat.reduceLeDiff, Nat.reduceEqDiff, Nat.add_sub_cancel, gS, nL, nS, dS, g2]
        · by_cases e : i = j
          · rw [e]; omega
          · exact (htk i (by omega)).1
  rw [XC_s]
  simp (disch := first | omega | exact cI _ | exact cR _ | exact cK | exact cU | exact cO _ | exact cL _) only [oS, uS.2, Nat.reduceAdd, Nat.reduceSub, Nat.reduceMul, Nat.reduceLeDiff, Nat.reduceEqDiff, Nat.add_sub_cancel, xS, gS, nL, nS, dS, fX1_cut_0, mX1_cut, zX1_cut, hm.1]
  refine lp (n + 1) 0 0 _ _ _ _ (by omega) (by omega) (by omega) ((YI.fi (show sP S S from ⟨by omega, by omega⟩)).trans (YI.fi (show sP S S from ⟨by omega, by omega⟩))) ?_ (fun i => rfl) ?_ ?_ rfl (fun i hi => absurd hi (Nat.not_lt_zero i))
  · simp (disch := first | omega | exact cI _ | exact cR _ | exact cK | exact cU | exact cO _ | exact cL _) only [uS, Nat.reduceAdd, Nat.reduceSub, Nat.reduceMul, Nat.reduceLeDiff, Nat.reduceEqDiff, Nat.add_sub_cancel, gS, nL, nS, dS, ht.1]
  · simp (disch := first | omega | exact cI _ | exact cR _ | exact cK | exact cU | exact cO _ | exact cL _) only [uS, Nat.reduceAdd, Nat.reduceSub, Nat.reduceMul, Nat.reduceLeDiff, Nat.reduceEqDiff, Nat.add_sub_cancel, gS, nL, nS, dS, hm.1]
  · simp (disch := first | omega | exact cI _ | exact cR _ | exact cK | exact cU | exact cO _ | exact cL _) only [uS, Nat.reduceAdd, Nat.reduceSub, Nat.reduceMul, Nat.reduceLeDiff, Nat.reduceEqDiff, Nat.add_sub_cancel, gS, nL, nS, dS, hm.1]
end CUT2
