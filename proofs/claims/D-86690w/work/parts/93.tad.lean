set_option maxRecDepth 100000
theorem sgo_b {bf : Nat → Nat} {n : Nat} : ∀ (f a : Nat), a ≤ sgo bf n f a ∧ (a ≤ n → sgo bf n f a ≤ n) := by
  intro f
  induction f with
  | zero => intro a; exact ⟨Nat.le_refl _, fun h => h⟩
  | succ f ih =>
    intro a
    unfold sgo
    split
    · next h =>
      obtain ⟨i1, i2⟩ := ih (a + 1)
      exact ⟨by omega, fun _ => i2 h.1⟩
    · exact ⟨Nat.le_refl _, fun h => h⟩
section TAD
variable {d M n : Nat} {bf : Nat → Nat} {G : XG} {Q : (Option Value ⊕ Nat) → XG → Prop}
theorem t_skip (hm : MA G M) (ht : TX G M n bf) : ∀ f a, n ≤ a + f → a ≤ n → XL xms d 102 0 [.ref M] [] (Sfi G 39 M (nI a)) Q = XL xms d 102 52 [.ref M] [] (Sfi G 39 M (nI (sgo bf n f a))) Q := by
  have h1000 := ht.2.1
  obtain ⟨h1, -, h3⟩ := ht
  unfold MA at hm
  intro f
  induction f with
  | zero =>
    intro a h2 h4
    have e : a = n := by omega
    subst e
    rw [fX9_advance_0]
    simp (disch := first | omega | exact cI _ | exact cR _ | exact cK | exact cU | exact cO _ | exact cL _) only [oS, uS.2, Nat.reduceAdd, Nat.reduceSub, Nat.reduceMul, Nat.reduceLeDiff, Nat.reduceEqDiff, Nat.add_sub_cancel, xS, gS, nL, nS, dS, fX9_advance_39, mX9_advance, zX9_advance, hm, h1, sgo]
  | succ f ih =>
    intro a h2 h4
    rw [fX9_advance_0]
    unfold sgo
    by_cases c : a < n
    · obtain ⟨e1, e2⟩ := h3 a c
      have s1 := propext (sx_32 (bf a) e2)
      have s2 := propext (sx_10 (bf a) e2)
      have ih' := ih (a + 1) (by omega) (by omega)
      by_cases c32 : bf a = 32
      · rw [if_pos ⟨c, Or.inl c32⟩, ← ih']
        have t1 : (sx (bf a) = nI 32) = True := eq_true ((sx_32 (bf a) e2).mpr c32)
        simp (disch := first | omega | exact cI _ | exact cR _ | exact cK | exact cU | exact cO _ | exact cL _) only [oS, uS.2, Nat.reduceAdd, Nat.reduceSub, Nat.reduceMul, Nat.reduceLeDiff, Nat.reduceEqDiff, Nat.add_sub_cancel, xS, gS, nL, nS, dS, fX9_advance_39, mX9_advance, zX9_advance, hm, h1, e1, t1, Sfi_s]
      · by_cases c10 : bf a = 10
        · rw [if_pos ⟨c, Or.inr c10⟩, ← ih']
          have t1 : (sx (bf a) = nI 32) = False := eq_false (fun q => c32 ((sx_32 (bf a) e2).mp q))
          have t2 : (sx (bf a) = nI 10) = True := eq_true ((sx_10 (bf a) e2).mpr c10)
          simp (disch := first | omega | exact cI _ | exact cR _ | exact cK | exact cU | exact cO _ | exact cL _) only [oS, uS.2, Nat.reduceAdd, Nat.reduceSub, Nat.reduceMul, Nat.reduceLeDiff, Nat.reduceEqDiff, Nat.add_sub_cancel, xS, gS, nL, nS, dS, fX9_advance_39, mX9_advance, zX9_advance, hm, h1, e1, t1, t2, Sfi_s]
        · rw [if_neg (by omega)]
          simp (disch := first | omega | exact cI _ | exact cR _ | exact cK | exact cU | exact cO _ | exact cL _) only [oS, uS.2, Nat.reduceAdd, Nat.reduceSub, Nat.reduceMul, Nat.reduceLeDiff, Nat.reduceEqDiff, Nat.add_sub_cancel, xS, gS, nL, nS, dS, fX9_advance_39, mX9_advance, zX9_advance, hm, h1, e1, s1, s2, c32, c10]
    · have e : a = n := by omega
      subst e
      rw [if_neg (by omega)]
      simp (disch := first | omega | exact cI _ | exact cR _ | exact cK | exact cU | exact cO _ | exact cL _) only [oS, uS.2, Nat.reduceAdd, Nat.reduceSub, Nat.reduceMul, Nat.reduceLeDiff, Nat.reduceEqDiff, Nat.add_sub_cancel, xS, gS, nL, nS, dS, fX9_advance_39, mX9_advance, zX9_advance, hm, h1]
theorem t_advance {a : Nat} (hm : MA G M) (ht : TX G M n bf) (hw : WL G M) (ha : Gfi G 39 M = nI a) (han : a ≤ n) (hq : ∀ G', YF M G G' → Gfi G' 39 M = nI (tkA bf n (sgo bf n n a)).2.2.2 → tokR (tkA bf n (sgo bf n n a)) (Gfi G' 40 M) (Gfi G' 42 M) (Gfi G' 43 M) → Gfi G' 41 M = nI (tkA bf n (sgo bf n n a)).2.1 → Q (.inl none) G') : XC xms (d + 1 + 1 + 1 + 1 + 1) 102 [.ref M] G Q := by
  have h1000 := ht.2.1
  have h256 : ∀ i, bz bf n i < 256 := fun i => bz_lt (fun i hi => (ht.2.2 i hi).2)
  have l0 := t_skip (d := d + 1 + 1 + 1 + 1) (Q := Q) hm ht n a (by omega) han
  rw [Sfi_i ha] at l0
  rw [XC_s]
  simp (disch := first | omega | exact cI _ | exact cR _ | exact cK | exact cU | exact cO _ | exact cL _) only [oS, uS.2, Nat.reduceAdd, Nat.reduceSub, Nat.reduceMul, Nat.reduceLeDiff, Nat.reduceEqDiff, Nat.add_sub_cancel, xS, gS, nL, nS, dS, mX9_advance, zX9_advance, hm.1]
  rw [l0]
  obtain ⟨b1, b2⟩ := sgo_b (bf := bf) (n := n) n a
  have b2 := b2 han
  generalize sgo bf n n a = p at *
  have hm' : MA (Sfi G 39 M (nI p)) M := hm
  have ht1 : Gfi (Sfi G 39 M (nI p)) 38 M = nI n := ht.1
  have ha' : Gfi (Sfi G 39 M (nI p)) 39 M = nI p := if_pos ⟨rfl, rfl⟩
  have y1 : YF M G (Sfi (Sfi G 39 M (nI p)) 41 M (nI p)) := (YF.refl.fi (by omega)).fi (by omega)
  have hm2 : MA (Sfi (Sfi G 39 M (nI p)) 41 M (nI p)) M := hm
  have ht2 : TX (Sfi (Sfi G 39 M (nI p)) 41 M (nI p)) M n bf := ht
  have hw2 : WL (Sfi (Sfi G 39 M (nI p)) 41 M (nI p)) M := hw
  have ha2 : Gfi (Sfi (Sfi G 39 M (nI p)) 41 M (nI p)) 39 M = nI p := by simp (disch := first | omega | exact cI _ | exact cR _ | exact cK | exact cU | exact cO _ | exact cL _) only [uS, Nat.reduceAdd, Nat.reduceSub, Nat.reduceMul, Nat.reduceLeDiff, Nat.reduceEqDiff, Nat.add_sub_cancel, gS, nL, nS, dS, ha']
  by_cases c0 : n ≤ p
  · have et : tkA bf n p = (0, p, 0, p) := by unfold tkA; rw [if_pos c0]
    rw [et] at hq
    simp (disch := first | omega | exact cI _ | exact cR _ | exact cK | exact cU | exact cO _ | exact cL _) only [oS, uS.2, Nat.reduceAdd, Nat.reduceSub, Nat.reduceMul, Nat.reduceLeDiff, Nat.reduceEqDiff, Nat.add_sub_cancel, xS, gS, nL, nS, dS, fX9_advance_52, fX9_advance_173, mX9_advance, zX9_advance, hm.1, ht1, ha', c0]
    refine hq _ (y1.fi (by omega)) ?_ ?_ ?_
    · simp (disch := first | omega | exact cI _ | exact cR _ | exact cK | exact cU | exact cO _ | exact cL _) only [uS, Nat.reduceAdd, Nat.reduceSub, Nat.reduceMul, Nat.reduceLeDiff, Nat.reduceEqDiff, Nat.add_sub_cancel, gS, nL, nS, dS, ha2]
    · rw [tokR_0]
      simp (disch := first | omega | exact cI _ | exact cR _ | exact cK | exact cU | exact cO _ | exact cL _) only [uS, Nat.reduceAdd, Nat.reduceSub, Nat.reduceMul, Nat.reduceLeDiff, Nat.reduceEqDiff, Nat.add_sub_cancel, gS, nL, nS, dS, ha2]
    · simp (disch := first | omega | exact cI _ | exact cR _ | exact cK | exact cU | exact cO _ | exact cL _) only [uS, Nat.reduceAdd, Nat.reduceSub, Nat.reduceMul, Nat.reduceLeDiff, Nat.reduceEqDiff, Nat.add_sub_cancel, gS, nL, nS, dS, ha2]
  have hp : p < n := by omega
  have ebz : bz bf n p = bf p := if_pos hp
  by_cases cl : 97 ≤ bf p ∧ bf p ≤ 122
  · have el : tkA bf n p = tkA bf n p := rfl
    have key : XC xms (d + 1 + 1 + 1 + 1) 105 [.ref M] (Sfi (Sfi G 39 M (nI p)) 41 M (nI p)) (fun o G' => o = .inl none ∧ Q (.inl none) G') := t_word hm2 ht2 hw2 ha2 hp cl (fun G' g1 g2 g3 g4 => ⟨rfl, hq G' (y1.trans g1) g2 g3 (by
      rw [g4]
      have : (tkA bf n p).2.1 = p := by
        unfold tkA
        rw [if_neg c0, if_pos cl]
        dsimp only
        split
        · rfl
        · split <;> rfl
      rw [this]
      simp (disch := first | omega | exact cI _ | exact cR _ | exact cK | exact cU | exact cO _ | exact cL _) only [uS, Nat.reduceAdd, Nat.reduceSub, Nat.reduceMul, Nat.reduceLeDiff, Nat.reduceEqDiff, Nat.add_sub_cancel, gS, nL, nS, dS, ha'])⟩)
    simp (disch := first | omega | exact cI _ | exact cR _ | exact cK | exact cU | exact cO _ | exact cL _) only [oS, uS.2, Nat.reduceAdd, Nat.reduceSub, Nat.reduceMul, Nat.reduceLeDiff, Nat.reduceEqDiff, Nat.add_sub_cancel, xS, gS, nL, nS, dS, fX9_advance_52, fX9_advance_79, mX9_advance, zX9_advance, t_isLetter hm2 ht2 (show p < 2000 by omega), hm.1, ht1, ha', ha2, c0, ebz, cl]
    refine key.mono (fun o G' h => ?_)
    obtain ⟨rfl, h⟩ := h
    simp (disch := first | omega | exact cI _ | exact cR _ | exact cK | exact cU | exact cO _ | exact cL _) only [oS, uS.2, Nat.reduceAdd, Nat.reduceSub, Nat.reduceMul, Nat.reduceLeDiff, Nat.reduceEqDiff, Nat.add_sub_cancel, xS, gS, nL, nS, dS, fX9_advance_173, mX9_advance, zX9_advance, hm.1]
    exact h
  by_cases cd : 48 ≤ bf p ∧ bf p ≤ 57
  · have et : tkA bf n p = (if 4 < dgo bf n (n - p) p - p then 1 else 7, p, dva bf n p (min 4 (dgo bf n (n - p) p - p)), dgo bf n (n - p) p) := by
      unfold tkA
      rw [if_neg c0, if_neg cl, if_pos cd]
    obtain ⟨c1, c2, c3⟩ := dgo_b (bf := bf) (n := n) (n - p) p
    have c2 := c2 b2
    have d4 := dva_lt (n := n) (a := p) h256 (min 4 (dgo bf n (n - p) p - p)) (by omega)
    rw [et] at hq
    by_cases h5 : dgo bf n (n - p) p - p < 5
    · rw [if_neg (by omega)] at hq
      simp (disch := first | omega | exact cI _ | exact cR _ | exact cK | exact cU | exact cO _ | exact cL _) only [oS, uS.2, Nat.reduceAdd, Nat.reduceSub, Nat.reduceMul, Nat.reduceLeDiff, Nat.reduceEqDiff, Nat.add_sub_cancel, xS, gS, nL, nS, dS, fX9_advance_52, fX9_advance_79, fX9_advance_97, fX9_advance_121, fX9_advance_122, fX9_advance_173, mX9_advance, zX9_advance, t_isLetter hm2 ht2 (show p < 2000 by omega), t_isDigit hm2 ht2 (show p < 2000 by omega), t_digits hm2 ht2 ha2 b2, hm.1, ht1, ha', ha2, c0, ebz, cl, cd, h5]
      refine hq _ (((y1.fi (by omega)).fi (by omega)).fi (by omega)) ?_ ?_ ?_
      · simp (disch := first | omega | exact cI _ | exact cR _ | exact cK | exact cU | exact cO _ | exact cL _) only [uS, Nat.reduceAdd, Nat.reduceSub, Nat.reduceMul, Nat.reduceLeDiff, Nat.reduceEqDiff, Nat.add_sub_cancel, gS, nL, nS, dS, ha2]
      · rw [tokR_7]
        exact ⟨by simp (disch := first | omega | exact cI _ | exact cR _ | exact cK | exact cU | exact cO _ | exact cL _) only [uS, Nat.reduceAdd, Nat.reduceSub, Nat.reduceMul, Nat.reduceLeDiff, Nat.reduceEqDiff, Nat.add_sub_cancel, gS, nL, nS, dS, ha2], by simp (disch := first | omega | exact cI _ | exact cR _ | exact cK | exact cU | exact cO _ | exact cL _) only [uS, Nat.reduceAdd, Nat.reduceSub, Nat.reduceMul, Nat.reduceLeDiff, Nat.reduceEqDiff, Nat.add_sub_cancel, gS, nL, nS, dS, ha2], d4⟩
      · simp (disch := first | omega | exact cI _ | exact cR _ | exact cK | exact cU | exact cO _ | exact cL _) only [uS, Nat.reduceAdd, Nat.reduceSub, Nat.reduceMul, Nat.reduceLeDiff, Nat.reduceEqDiff, Nat.add_sub_cancel, gS, nL, nS, dS, ha2]
    · rw [if_pos (by omega)] at hq
      simp (disch := first | omega | exact cI _ | exact cR _ | exact cK | exact cU | exact cO _ | exact cL _) only [oS, uS.2, Nat.reduceAdd, Nat.reduceSub, Nat.reduceMul, Nat.reduceLeDiff, Nat.reduceEqDiff, Nat.add_sub_cancel, xS, gS, nL, nS, dS, fX9_advance_52, fX9_advance_79, fX9_advance_97, fX9_advance_121, fX9_advance_122, fX9_advance_173, mX9_advance, zX9_advance, t_isLetter hm2 ht2 (show p < 2000 by omega), t_isDigit hm2 ht2 (show p < 2000 by omega), t_digits hm2 ht2 ha2 b2, hm.1, ht1, ha', ha2, c0, ebz, cl, cd, h5]
      refine hq _ (((y1.fi (by omega)).fi (by omega)).fi (by omega)) ?_ ?_ ?_
      · simp (disch := first | omega | exact cI _ | exact cR _ | exact cK | exact cU | exact cO _ | exact cL _) only [uS, Nat.reduceAdd, Nat.reduceSub, Nat.reduceMul, Nat.reduceLeDiff, Nat.reduceEqDiff, Nat.add_sub_cancel, gS, nL, nS, dS, ha2]
      · rw [tokR_1]
        exact Or.inl (by simp (disch := first | omega | exact cI _ | exact cR _ | exact cK | exact cU | exact cO _ | exact cL _) only [uS, Nat.reduceAdd, Nat.reduceSub, Nat.reduceMul, Nat.reduceLeDiff, Nat.reduceEqDiff, Nat.add_sub_cancel, gS, nL, nS, dS, ha2])
      · simp (disch := first | omega | exact cI _ | exact cR _ | exact cK | exact cU | exact cO _ | exact cL _) only [uS, Nat.reduceAdd, Nat.reduceSub, Nat.reduceMul, Nat.reduceLeDiff, Nat.reduceEqDiff, Nat.add_sub_cancel, gS, nL, nS, dS, ha2]
  · have et : tkA bf n p = (if isSg (bf p) = true then bf p else 1, p, 0, p + 1) := by
      unfold tkA
      rw [if_neg c0, if_neg cl, if_neg cd]
    rw [et] at hq
    have b256 := (ht.2.2 p hp).2
    have hm3 : ∀ v, MA (Sfi (Sfi (Sfi G 39 M (nI p)) 41 M (nI p)) 40 M v) M := fun _ => hm
    have ht3 : ∀ v, TX (Sfi (Sfi (Sfi G 39 M (nI p)) 41 M (nI p)) 40 M v) M n bf := fun _ => ht
    by_cases hs : isSg (bf p) = true
    · rw [if_pos hs] at hq
      have hs8 : 8 ≤ bf p := by unfold isSg at hs; simp at hs; omega
      simp (disch := first | omega | exact cI _ | exact cR _ | exact cK | exact cU | exact cO _ | exact cL _) only [oS, uS.2, Nat.reduceAdd, Nat.reduceSub, Nat.reduceMul, Nat.reduceLeDiff, Nat.reduceEqDiff, Nat.add_sub_cancel, xS, gS, nL, nS, dS, fX9_advance_52, fX9_advance_79, fX9_advance_97, fX9_advance_128, fX9_advance_147, fX9_advance_148, fX9_advance_173, mX9_advance, zX9_advance, t_isLetter hm2 ht2 (show p < 2000 by omega), t_isDigit hm2 ht2 (show p < 2000 by omega), t_byteAt hm2 ht2 (show p < 2000 by omega), t_byteAt (hm3 _) (ht3 _) (show p < 2000 by omega), t_isSg b256, hm.1, ht1, ha', ha2, c0, ebz, cl, cd, hs]
      refine hq _ (((y1.fi (by omega)).fi (by omega)).fi (by omega)) ?_ ?_ ?_
      · simp (disch := first | omega | exact cI _ | exact cR _ | exact cK | exact cU | exact cO _ | exact cL _) only [uS, Nat.reduceAdd, Nat.reduceSub, Nat.reduceMul, Nat.reduceLeDiff, Nat.reduceEqDiff, Nat.add_sub_cancel, gS, nL, nS, dS, ha2]
      · rw [tokR_s hs8]
        exact ⟨by simp (disch := first | omega | exact cI _ | exact cR _ | exact cK | exact cU | exact cO _ | exact cL _) only [uS, Nat.reduceAdd, Nat.reduceSub, Nat.reduceMul, Nat.reduceLeDiff, Nat.reduceEqDiff, Nat.add_sub_cancel, gS, nL, nS, dS, ha2], by simp (disch := first | omega | exact cI _ | exact cR _ | exact cK | exact cU | exact cO _ | exact cL _) only [uS, Nat.reduceAdd, Nat.reduceSub, Nat.reduceMul, Nat.reduceLeDiff, Nat.reduceEqDiff, Nat.add_sub_cancel, gS, nL, nS, dS, ha2], b256⟩
      · simp (disch := first | omega | exact cI _ | exact cR _ | exact cK | exact cU | exact cO _ | exact cL _) only [uS, Nat.reduceAdd, Nat.reduceSub, Nat.reduceMul, Nat.reduceLeDiff, Nat.reduceEqDiff, Nat.add_sub_cancel, gS, nL, nS, dS, ha2]
    · rw [if_neg hs] at hq
      simp (disch := first | omega | exact cI _ | exact cR _ | exact cK | exact cU | exact cO _ | exact cL _) only [oS, uS.2, Nat.reduceAdd, Nat.reduceSub, Nat.reduceMul, Nat.reduceLeDiff, Nat.reduceEqDiff, Nat.add_sub_cancel, xS, gS, nL, nS, dS, fX9_advance_52, fX9_advance_79, fX9_advance_97, fX9_advance_128, fX9_advance_147, fX9_advance_148, fX9_advance_173, mX9_advance, zX9_advance, t_isLetter hm2 ht2 (show p < 2000 by omega), t_isDigit hm2 ht2 (show p < 2000 by omega), t_byteAt hm2 ht2 (show p < 2000 by omega), t_byteAt (hm3 _) (ht3 _) (show p < 2000 by omega), t_isSg b256, hm.1, ht1, ha', ha2, c0, ebz, cl, cd, hs]
      refine hq _ (((y1.fi (by omega)).fi (by omega)).fi (by omega)) ?_ ?_ ?_
      · simp (disch := first | omega | exact cI _ | exact cR _ | exact cK | exact cU | exact cO _ | exact cL _) only [uS, Nat.reduceAdd, Nat.reduceSub, Nat.reduceMul, Nat.reduceLeDiff, Nat.reduceEqDiff, Nat.add_sub_cancel, gS, nL, nS, dS, ha2]
      · rw [tokR_1]
        exact Or.inl (by simp (disch := first | omega | exact cI _ | exact cR _ | exact cK | exact cU | exact cO _ | exact cL _) only [uS, Nat.reduceAdd, Nat.reduceSub, Nat.reduceMul, Nat.reduceLeDiff, Nat.reduceEqDiff, Nat.add_sub_cancel, gS, nL, nS, dS, ha2])
      · simp (disch := first | omega | exact cI _ | exact cR _ | exact cK | exact cU | exact cO _ | exact cL _) only [uS, Nat.reduceAdd, Nat.reduceSub, Nat.reduceMul, Nat.reduceLeDiff, Nat.reduceEqDiff, Nat.add_sub_cancel, gS, nL, nS, dS, ha2]
end TAD
