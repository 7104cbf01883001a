set_option maxRecDepth 100000
/-- the scanner's cells -/
def sP (S a : Nat) : Prop := S ≤ a ∧ a < S + 5
theorem SL.yi {P : Nat → Prop} {G G' : XG} {S : Nat} (h : SL G S) (k : YI P G G') : SL G' S := by
  unfold SL at *
  rw [k.1, k.2.2.2.1, k.2.2.2.2.1]
  exact h
/-- a token more -/
def AP (G G' : XG) (S m : Nat) (t : Tok) : Prop := YI (sP S) G G' ∧ Gfi G' 2 S = Gfi G 2 S ∧ Gfi G' 4 S = nI t.2.2.2 ∧ Gfi G' 3 S = nI (m + 1) ∧ (∀ i, Gai G' (S + 1) i = Gai G (S + 1) i) ∧ (∀ i, i < m → Gai G' (S + 2) i = Gai G (S + 2) i ∧ Gai G' (S + 3) i = Gai G (S + 3) i ∧ Gai G' (S + 4) i = Gai G (S + 4) i) ∧ Gai G' (S + 2) m = nI t.1 ∧ Gai G' (S + 3) m = nI t.2.1 ∧ (t.1 ≠ 1 → Gai G' (S + 4) m = nI t.2.2.1)
theorem scA_y {G : XG} {S m : Nat} {k p v : Int32} : YI (sP S) G (scA G S m k p v) := by
  unfold scA
  exact (((YI.ai (show sP S (S + 2) from ⟨by omega, by omega⟩)).trans (YI.ai (show sP S (S + 3) from ⟨by omega, by omega⟩))).trans (YI.ai (show sP S (S + 4) from ⟨by omega, by omega⟩))).trans (YI.fi (show sP S S from ⟨by omega, by omega⟩))
theorem scA_ap {G : XG} {S m : Nat} {t : Tok} {v : Int32} (h : t.1 ≠ 1 → v = nI t.2.2.1) : AP G (scA (Sfi G 4 S (nI t.2.2.2)) S m (nI t.1) (nI t.2.1) v) S m t := by
  have y : YI (sP S) G (scA (Sfi G 4 S (nI t.2.2.2)) S m (nI t.1) (nI t.2.1) v) := (YI.fi (show sP S S from ⟨by omega, by omega⟩)).trans scA_y
  refine ⟨y, ?_, ?_, ?_, fun i => ?_, fun i hi => ⟨?_, ?_, ?_⟩, ?_, ?_, fun h1 => ?_⟩ <;> unfold scA
  · simp (disch := first | omega | exact cI _ | exact cR _ | exact cK | exact cU | exact cO _ | exact cL _) only [uS, Nat.reduceAdd, Nat.reduceSub, Nat.reduceMul, Nat.reduceLeDiff, Nat.reduceEqDiff, Nat.add_sub_cancel, gS, nL, nS, dS, Nat.add_left_cancel_iff]
  · simp (disch := first | omega | exact cI _ | exact cR _ | exact cK | exact cU | exact cO _ | exact cL _) only [uS, Nat.reduceAdd, Nat.reduceSub, Nat.reduceMul, Nat.reduceLeDiff, Nat.reduceEqDiff, Nat.add_sub_cancel, gS, nL, nS, dS, Nat.add_left_cancel_iff]
  · simp (disch := first | omega | exact cI _ | exact cR _ | exact cK | exact cU | exact cO _ | exact cL _) only [uS, Nat.reduceAdd, Nat.reduceSub, Nat.reduceMul, Nat.reduceLeDiff, Nat.reduceEqDiff, Nat.add_sub_cancel, gS, nL, nS, dS, Nat.add_left_cancel_iff]
  · simp (disch := first | omega | exact cI _ | exact cR _ | exact cK | exact cU | exact cO _ | exact cL _) only [uS, Nat.reduceAdd, Nat.reduceSub, Nat.reduceMul, Nat.reduceLeDiff, Nat.reduceEqDiff, Nat.add_sub_cancel, gS, nL, nS, dS, Nat.add_left_cancel_iff]
  · simp (disch := first | omega | exact cI _ | exact cR _ | exact cK | exact cU | exact cO _ | exact cL _) only [uS, Nat.reduceAdd, Nat.reduceSub, Nat.reduceMul, Nat.reduceLeDiff, Nat.reduceEqDiff, Nat.add_sub_cancel, gS, nL, nS, dS, Nat.add_left_cancel_iff]
  · simp (disch := first | omega | exact cI _ | exact cR _ | exact cK | exact cU | exact cO _ | exact cL _) only [uS, Nat.reduceAdd, Nat.reduceSub, Nat.reduceMul, Nat.reduceLeDiff, Nat.reduceEqDiff, Nat.add_sub_cancel, gS, nL, nS, dS, Nat.add_left_cancel_iff]
  · simp (disch := first | omega | exact cI _ | exact cR _ | exact cK | exact cU | exact cO _ | exact cL _) only [uS, Nat.reduceAdd, Nat.reduceSub, Nat.reduceMul, Nat.reduceLeDiff, Nat.reduceEqDiff, Nat.add_sub_cancel, gS, nL, nS, dS, Nat.add_left_cancel_iff]
  · simp (disch := first | omega | exact cI _ | exact cR _ | exact cK | exact cU | exact cO _ | exact cL _) only [uS, Nat.reduceAdd, Nat.reduceSub, Nat.reduceMul, Nat.reduceLeDiff, Nat.reduceEqDiff, Nat.add_sub_cancel, gS, nL, nS, dS, Nat.add_left_cancel_iff]
  · simp (disch := first | omega | exact cI _ | exact cR _ | exact cK | exact cU | exact cO _ | exact cL _) only [uS, Nat.reduceAdd, Nat.reduceSub, Nat.reduceMul, Nat.reduceLeDiff, Nat.reduceEqDiff, Nat.add_sub_cancel, gS, nL, nS, dS, Nat.add_left_cancel_iff]
  · simp (disch := first | omega | exact cI _ | exact cR _ | exact cK | exact cU | exact cO _ | exact cL _) only [uS, Nat.reduceAdd, Nat.reduceSub, Nat.reduceMul, Nat.reduceLeDiff, Nat.reduceEqDiff, Nat.add_sub_cancel, gS, nL, nS, dS, Nat.add_left_cancel_iff]
    exact h h1
section CUT
variable {d S n W : Nat} {wa : Nat → Nat} {bf : Nat → Nat} {G : XG} {Q : (Option Value ⊕ Nat) → XG → Prop}
theorem c_skip {x2 x3 x4 : Value} (hm : SL G S) (ht : ST G S n bf) : ∀ f a, n ≤ a + f → a ≤ n → XL xms d 31 16 [.ref S, .int (nI 0), x2, x3, x4] [] (Sfi G 4 S (nI a)) Q = XL xms d 31 68 [.ref S, .int (nI 0), x2, x3, x4] [] (Sfi G 4 S (nI (sgo bf n f a))) Q := by
  have h1000 := ht.2.1
  obtain ⟨h1, -, h3⟩ := ht
  unfold SL at hm
  intro f
  induction f with
  | zero =>
    intro a h2 h4
    have e : a = n := by omega
    subst e
    rw [fX1_cut_16]
    simp (disch := first | omega | exact cI _ | exact cR _ | exact cK | exact cU | exact cO _ | exact cL _) only [oS, uS.2, Nat.reduceAdd, Nat.reduceSub, Nat.reduceMul, Nat.reduceLeDiff, Nat.reduceEqDiff, Nat.add_sub_cancel, xS, gS, nL, nS, dS, mX1_cut, zX1_cut, hm, h1, sgo]
  | succ f ih =>
    intro a h2 h4
    rw [fX1_cut_16]
    unfold sgo
    by_cases c : a < n
    · obtain ⟨e1, e2⟩ := h3 a c
      have s1 := propext (sx_32 (bf a) e2)
      have s2 := propext (sx_10 (bf a) e2)
      have ih' := ih (a + 1) (by omega) (by omega)
      by_cases c32 : bf a = 32
      · rw [if_pos ⟨c, Or.inl c32⟩, ← ih']
        have t1 : (sx (bf a) = nI 32) = True := eq_true ((sx_32 (bf a) e2).mpr c32)
        simp (disch := first | omega | exact cI _ | exact cR _ | exact cK | exact cU | exact cO _ | exact cL _) only [oS, uS.2, Nat.reduceAdd, Nat.reduceSub, Nat.reduceMul, Nat.reduceLeDiff, Nat.reduceEqDiff, Nat.add_sub_cancel, xS, gS, nL, nS, dS, fX1_cut_55, mX1_cut, zX1_cut, hm, h1, e1, t1, Sfi_s]
      · by_cases c10 : bf a = 10
        · rw [if_pos ⟨c, Or.inr c10⟩, ← ih']
          have t1 : (sx (bf a) = nI 32) = False := eq_false (fun q => c32 ((sx_32 (bf a) e2).mp q))
          have t2 : (sx (bf a) = nI 10) = True := eq_true ((sx_10 (bf a) e2).mpr c10)
          simp (disch := first | omega | exact cI _ | exact cR _ | exact cK | exact cU | exact cO _ | exact cL _) only [oS, uS.2, Nat.reduceAdd, Nat.reduceSub, Nat.reduceMul, Nat.reduceLeDiff, Nat.reduceEqDiff, Nat.add_sub_cancel, xS, gS, nL, nS, dS, fX1_cut_55, mX1_cut, zX1_cut, hm, h1, e1, t1, t2, Sfi_s]
        · rw [if_neg (by omega)]
          simp (disch := first | omega | exact cI _ | exact cR _ | exact cK | exact cU | exact cO _ | exact cL _) only [oS, uS.2, Nat.reduceAdd, Nat.reduceSub, Nat.reduceMul, Nat.reduceLeDiff, Nat.reduceEqDiff, Nat.add_sub_cancel, xS, gS, nL, nS, dS, fX1_cut_55, mX1_cut, zX1_cut, hm, h1, e1, s1, s2, c32, c10]
    · have e : a = n := by omega
      subst e
      rw [if_neg (by omega)]
      simp (disch := first | omega | exact cI _ | exact cR _ | exact cK | exact cU | exact cO _ | exact cL _) only [oS, uS.2, Nat.reduceAdd, Nat.reduceSub, Nat.reduceMul, Nat.reduceLeDiff, Nat.reduceEqDiff, Nat.add_sub_cancel, xS, gS, nL, nS, dS, fX1_cut_55, mX1_cut, zX1_cut, hm, h1]
theorem c_tok {p m : Nat} {x2 x3 x4 : Value} (hm : SL G S) (ht : ST G S n bf) (hwd : WD G W wa) (ha : Gfi G 4 S = nI p) (h3 : Gfi G 3 S = nI m) (hmb : m < 1001) (hp : p ≤ n) (hq : ∀ G' y2 y3 y4, AP G G' S m (tkA bf n p) → XL xms (d + 1 + 1 + 1) 31 285 [.ref S, .int (nI 0), y2, y3, y4] [] G' Q) : XL xms (d + 1 + 1 + 1) 31 68 [.ref S, .int (nI 0), x2, x3, x4] [] G Q := by
  have h1000 := ht.2.1
  have h256 : ∀ i, bz bf n i < 256 := fun i => bz_lt (fun i hi => (ht.2.2 i hi).2)
  have hm1 := hm.1
  have h2 := ht.1
  rw [fX1_cut_68]
  by_cases c0 : p = n
  · subst c0
    have et : tkA bf p p = (0, p, 0, p) := by unfold tkA; rw [if_pos (Nat.le_refl p)]
    have e0 : bz bf p p = 0 := bz_out (Nat.le_refl p)
    have hq0 := fun y2 y3 y4 => hq (scA G S m (nI 0) (nI p) (nI 0)) y2 y3 y4 (by
      have := scA_ap (G := G) (S := S) (m := m) (t := (0, p, 0, p)) (v := nI 0) (fun _ => rfl)
      rw [Sfi_i ha] at this
      rw [et]
      exact this)
    simp (disch := first | omega | exact cI _ | exact cR _ | exact cK | exact cU | exact cO _ | exact cL _) only [oS, uS.2, Nat.reduceAdd, Nat.reduceSub, Nat.reduceMul, Nat.reduceLeDiff, Nat.reduceEqDiff, Nat.add_sub_cancel, xS, gS, nL, nS, dS, fX1_cut_101, mX1_cut, zX1_cut, c_byteAt hm ht (show p < 2000 by omega), c_add hm h3 hmb, hm1, ha, h2]
    exact hq0 _ _ _
  have hpn : p < n := by omega
  have ebz : bz bf n p = bf p := if_pos hpn
  have b256 : bf p < 256 := (ht.2.2 p hpn).2
  by_cases cl : 97 ≤ bf p ∧ bf p ≤ 122
  · have e1 : (tkA bf n p).2.1 = p := by
      unfold tkA
      rw [if_neg (by omega), if_pos cl]
      dsimp only
      split
      · rfl
      · split <;> rfl
    have key : XC xms (d + 1 + 1 + 1) 35 [.ref S] G (fun o G' => o = .inl none ∧ AP G G' S m (tkA bf n p)) := c_word hm ht hwd ha h3 hmb hpn cl (fun v hv => ⟨rfl, by
      have := scA_ap (G := G) (S := S) (m := m) (t := tkA bf n p) (v := v) hv
      rw [e1] at this
      exact this⟩)
    simp (disch := first | omega | exact cI _ | exact cR _ | exact cK | exact cU | exact cO _ | exact cL _) only [oS, uS.2, Nat.reduceAdd, Nat.reduceSub, Nat.reduceMul, Nat.reduceLeDiff, Nat.reduceEqDiff, Nat.add_sub_cancel, xS, gS, nL, nS, dS, fX1_cut_101, mX1_cut, zX1_cut, c_byteAt hm ht (show p < 2000 by omega), c_isLetter b256, hm1, ha, h2, c0, ebz, cl]
    refine key.mono (fun o G' h => ?_)
    obtain ⟨rfl, h⟩ := h
    simp (disch := first | omega | exact cI _ | exact cR _ | exact cK | exact cU | exact cO _ | exact cL _) only [oS, uS.2, Nat.reduceAdd, Nat.reduceSub, Nat.reduceMul, Nat.reduceLeDiff, Nat.reduceEqDiff, Nat.add_sub_cancel, xS, gS, nL, nS, dS, mX1_cut, zX1_cut, hm1]
    exact hq _ _ _ _ h
  by_cases cd : 48 ≤ bf p ∧ bf p ≤ 57
  · have et : tkA bf n p = (if 4 < dgo bf n (n - p) p - p then 1 else 7, p, dva bf n p (min 4 (dgo bf n (n - p) p - p)), dgo bf n (n - p) p) := by
      unfold tkA
      rw [if_neg (by omega), if_neg cl, if_pos cd]
    obtain ⟨c1, c2, c3⟩ := dgo_b (bf := bf) (n := n) (n - p) p
    have c2 := c2 hp
    have d4 := dva_lt (n := n) (a := p) h256 (min 4 (dgo bf n (n - p) p - p)) (by omega)
    have hm2 : SL (Sfi G 4 S (nI (dgo bf n (n - p) p))) S := hm
    have h32 : Gfi (Sfi G 4 S (nI (dgo bf n (n - p) p))) 3 S = nI m := by simp (disch := first | omega | exact cI _ | exact cR _ | exact cK | exact cU | exact cO _ | exact cL _) only [uS, Nat.reduceAdd, Nat.reduceSub, Nat.reduceMul, Nat.reduceLeDiff, Nat.reduceEqDiff, Nat.add_sub_cancel, gS, nL, nS, dS, h3]
    by_cases h5 : 4 < dgo bf n (n - p) p - p
    · rw [if_pos h5] at et
      have hq0 := fun y2 y3 y4 => hq (scA (Sfi G 4 S (nI (dgo bf n (n - p) p))) S m (nI 1) (nI p) N1) y2 y3 y4 (by
        rw [et]
        exact scA_ap (t := (1, p, dva bf n p (min 4 (dgo bf n (n - p) p - p)), dgo bf n (n - p) p)) (fun q => absurd rfl q))
      simp (disch := first | omega | exact cI _ | exact cR _ | exact cK | exact cU | exact cO _ | exact cL _) only [oS, uS.2, Nat.reduceAdd, Nat.reduceSub, Nat.reduceMul, Nat.reduceLeDiff, Nat.reduceEqDiff, Nat.add_sub_cancel, xS, gS, nL, nS, dS, fX1_cut_101, fX1_cut_115, fX1_cut_144, fX1_cut_146, mX1_cut, zX1_cut, c_byteAt hm ht (show p < 2000 by omega), c_isLetter b256, c_isDigit b256, c_digits hm ht ha hp (show 4 ≤ 4 by omega), c_add hm2 h32 hmb, hm1, ha, h2, c0, ebz, cl, cd, h5]
      exact hq0 _ _ _
    · rw [if_neg h5] at et
      have hq0 := fun y2 y3 y4 => hq (scA (Sfi G 4 S (nI (dgo bf n (n - p) p))) S m (nI 7) (nI p) (nI (dva bf n p (min 4 (dgo bf n (n - p) p - p))))) y2 y3 y4 (by
        rw [et]
        exact scA_ap (t := (7, p, dva bf n p (min 4 (dgo bf n (n - p) p - p)), dgo bf n (n - p) p)) (fun _ => rfl))
      simp (disch := first | omega | exact cI _ | exact cR _ | exact cK | exact cU | exact cO _ | exact cL _) only [oS, uS.2, Nat.reduceAdd, Nat.reduceSub, Nat.reduceMul, Nat.reduceLeDiff, Nat.reduceEqDiff, Nat.add_sub_cancel, xS, gS, nL, nS, dS, fX1_cut_101, fX1_cut_115, fX1_cut_144, fX1_cut_146, mX1_cut, zX1_cut, c_byteAt hm ht (show p < 2000 by omega), c_isLetter b256, c_isDigit b256, c_digits hm ht ha hp (show 4 ≤ 4 by omega), c_add hm2 h32 hmb, hm1, ha, h2, c0, ebz, cl, cd, h5]
      exact hq0 _ _ _
  · have et : tkA bf n p = (if isSg (bf p) = true then bf p else 1, p, 0, p + 1) := by
      unfold tkA
      rw [if_neg (by omega), if_neg cl, if_neg cd]
    have hcm : ∀ k, Sfi (scA G S m k (nI p) (nI 0)) 4 S (nI (p + 1)) = scA (Sfi G 4 S (nI (p + 1))) S m k (nI p) (nI 0) := by
      intro k
      unfold scA
      rw [Sfi_c (by decide)]
      rfl
    have ha4 : ∀ k, Gfi (scA G S m k (nI p) (nI 0)) 4 S = nI p := by
      intro k
      unfold scA
      simp (disch := first | omega | exact cI _ | exact cR _ | exact cK | exact cU | exact cO _ | exact cL _) only [uS, Nat.reduceAdd, Nat.reduceSub, Nat.reduceMul, Nat.reduceLeDiff, Nat.reduceEqDiff, Nat.add_sub_cancel, gS, nL, nS, dS, ha]
    have hk4 : ∀ k, Gkd (scA G S m k (nI p) (nI 0)) = Gkd G := fun _ => rfl
    by_cases hs : isSg (bf p) = true
    · rw [if_pos hs] at et
      have hq0 := fun y2 y3 y4 => hq (scA (Sfi G 4 S (nI (p + 1))) S m (nI (bf p)) (nI p) (nI 0)) y2 y3 y4 (by
        rw [et]
        exact scA_ap (t := (bf p, p, 0, p + 1)) (fun _ => rfl))
      have hor : bf p = 43 ∨ bf p = 45 ∨ bf p = 42 ∨ bf p = 47 ∨ bf p = 37 ∨ bf p = 40 ∨ bf p = 41 ∨ bf p = 91 ∨ bf p = 93 ∨ bf p = 123 ∨ bf p = 125 ∨ bf p = 61 ∨ bf p = 60 ∨ bf p = 62 ∨ bf p = 44 ∨ bf p = 59 := by
        unfold isSg at hs
        simp at hs
        omega
      rcases hor with e9 | e9 | e9 | e9 | e9 | e9 | e9 | e9 | e9 | e9 | e9 | e9 | e9 | e9 | e9 | e9 <;> (rw [e9] at b256; simp (disch := first | omega | exact cI _ | exact cR _ | exact cK | exact cU | exact cO _ | exact cL _) only [oS, uS.2, Nat.reduceAdd, Nat.reduceSub, Nat.reduceMul, Nat.reduceLeDiff, Nat.reduceEqDiff, Nat.add_sub_cancel, xS, gS, nL, nS, dS, fX1_cut_101, fX1_cut_115, fX1_cut_155, fX1_cut_251, fX1_cut_255, fX1_cut_256, fX1_cut_266, fX1_cut_267, mX1_cut, zX1_cut, c_byteAt hm ht (show p < 2000 by omega), c_isLetter b256, c_isDigit b256, c_add hm h3 hmb, hm1, ha, h2, c0, ebz, cl, cd, e9, ha4, hk4, hcm]; rw [e9] at hq0; exact hq0 _ _ _)
    · rw [if_neg hs] at et
      have hq0 := fun y2 y3 y4 => hq (scA (Sfi G 4 S (nI (p + 1))) S m (nI 1) (nI p) (nI 0)) y2 y3 y4 (by
        rw [et]
        exact scA_ap (t := (1, p, 0, p + 1)) (fun q => absurd rfl q))
      have hor : ¬ bf p = 43 ∧ ¬ bf p = 45 ∧ ¬ bf p = 42 ∧ ¬ bf p = 47 ∧ ¬ bf p = 37 ∧ ¬ bf p = 40 ∧ ¬ bf p = 41 ∧ ¬ bf p = 91 ∧ ¬ bf p = 93 ∧ ¬ bf p = 123 ∧ ¬ bf p = 125 ∧ ¬ bf p = 61 ∧ ¬ bf p = 60 ∧ ¬ bf p = 62 ∧ ¬ bf p = 44 ∧ ¬ bf p = 59 := by
        unfold isSg at hs
        simp at hs
        omega
      obtain ⟨h43, h45, h42, h47, h37, h40, h41, h91, h93, h123, h125, h61, h60, h62, h44, h59⟩ := hor
      simp (disch := first | omega | exact cI _ | exact cR _ | exact cK | exact cU | exact cO _ | exact cL _) only [oS, uS.2, Nat.reduceAdd, Nat.reduceSub, Nat.reduceMul, Nat.reduceLeDiff, Nat.reduceEqDiff, Nat.add_sub_cancel, xS, gS, nL, nS, dS, fX1_cut_101, fX1_cut_115, fX1_cut_155, fX1_cut_251, fX1_cut_255, fX1_cut_256, fX1_cut_266, fX1_cut_267, mX1_cut, zX1_cut, c_byteAt hm ht (show p < 2000 by omega), c_isLetter b256, c_isDigit b256, c_add hm h3 hmb, hm1, ha, h2, c0, ebz, cl, cd, h43, h45, h42, h47, h37, h40, h41, h91, h93, h123, h125, h61, h60, h62, h44, h59, ha4, hk4, hcm]
      exact hq0 _ _ _
end CUT
