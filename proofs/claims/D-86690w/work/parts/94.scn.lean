set_option maxRecDepth 100000
/-! the scanner S: text S + 1, kinds S + 2, places S + 3, values S + 4; the words W -/
def SL (G : XG) (S : Nat) : Prop := Gkd G S = 2 ∧ Gfr G 1010 S = some (S + 1) ∧ Gkd G (S + 1) = 101 ∧ Gln G (S + 1) = 1000 ∧ Gfr G 1011 S = some (S + 2) ∧ Gkd G (S + 2) = 100 ∧ Gln G (S + 2) = 1001 ∧ Gfr G 1012 S = some (S + 3) ∧ Gkd G (S + 3) = 100 ∧ Gln G (S + 3) = 1001 ∧ Gfr G 1013 S = some (S + 4) ∧ Gkd G (S + 4) = 100 ∧ Gln G (S + 4) = 1001
def ST (G : XG) (S n : Nat) (bf : Nat → Nat) : Prop := Gfi G 2 S = nI n ∧ n ≤ 1000 ∧ ∀ i, i < n → Gai G (S + 1) i = sx (bf i) ∧ bf i < 256
def WD (G : XG) (W : Nat) (wa : Nat → Nat) : Prop := Gsv G 0 = .ref W ∧ Gkd G W = 209 ∧ Gln G W = 21 ∧ ∀ k, k < 21 → Gar G W k = some (wa k) ∧ Gkd G (wa k) = 300 + k
def wlt (w i : Nat) : Nat := ((xsby w).getD i 0).toNatClampNeg
theorem wlt_c : ∀ w, w < 21 → ∀ k, k < xsln w → (xsby w).getD k 0 = nI (wlt w k) ∧ wlt w k < 128 ∧ 97 ≤ wlt w k ∧ wlt w k ≤ 122 := by decide +kernel
theorem wln_c : ∀ w, w < 21 → xsln w ≤ 12 ∧ wcs.getD w 0 = cdv (wlt w) 100 0 (xsln w) := by decide +kernel
/-- letters and codes -/
theorem cdv_inj {bf bg : Nat → Nat} {n m p q : Nat} : ∀ (k l : Nat), (∀ i, i < k → 97 ≤ bz bf n (p + i) ∧ bz bf n (p + i) ≤ 122) → (∀ i, i < l → 97 ≤ bz bg m (q + i) ∧ bz bg m (q + i) ≤ 122) → cdv bf n p k = cdv bg m q l → k = l ∧ ∀ i, i < k → bz bf n (p + i) = bz bg m (q + i) := by
  intro k
  induction k with
  | zero =>
    intro l _ hl h
    cases l with
    | zero => exact ⟨rfl, fun i hi => absurd hi (Nat.not_lt_zero i)⟩
    | succ l =>
      have h1 := hl l (Nat.lt_succ_self _)
      have h : 0 = cdv bg m q l * 32 + (bz bg m (q + l) - 96) := h
      omega
  | succ k ih =>
    intro l hk hl h
    have h2 := hk k (Nat.lt_succ_self _)
    cases l with
    | zero =>
      have h : cdv bf n p k * 32 + (bz bf n (p + k) - 96) = 0 := h
      omega
    | succ l =>
      have h1 := hl l (Nat.lt_succ_self _)
      have h : cdv bf n p k * 32 + (bz bf n (p + k) - 96) = cdv bg m q l * 32 + (bz bg m (q + l) - 96) := h
      have e1 : bz bf n (p + k) = bz bg m (q + l) := by omega
      have e2 : cdv bf n p k = cdv bg m q l := by omega
      obtain ⟨i1, i2⟩ := ih l (fun i hi => hk i (by omega)) (fun i hi => hl i (by omega)) e2
      subst i1
      refine ⟨rfl, fun i hi => ?_⟩
      by_cases e : i = k
      · rw [e]; exact e1
      · exact i2 i (by omega)
theorem cdv_cg {bf bg : Nat → Nat} {n m p q : Nat} : ∀ (k : Nat), (∀ i, i < k → bz bf n (p + i) = bz bg m (q + i)) → cdv bf n p k = cdv bg m q k := by
  intro k
  induction k with
  | zero => intro _; rfl
  | succ k ih =>
    intro h
    show cdv bf n p k * 32 + (bz bf n (p + k) - 96) = cdv bg m q k * 32 + (bz bg m (q + k) - 96)
    rw [ih (fun i hi => h i (by omega)), h k (Nat.lt_succ_self _)]
theorem word_w {bf : Nat → Nat} {n p K w : Nat} (hw : w < 21) (hl : ∀ i, i < K → 97 ≤ bz bf n (p + i) ∧ bz bf n (p + i) ≤ 122) : (xsln w = K ∧ ∀ i, i < K → wlt w i = bz bf n (p + i)) ↔ (K ≤ 12 ∧ cdv bf n p K = wcs.getD w 0) := by
  obtain ⟨l1, l2⟩ := wln_c w hw
  have hb : ∀ i, i < xsln w → bz (wlt w) 100 (0 + i) = wlt w i := fun i hi => by rw [Nat.zero_add]; exact if_pos (by omega)
  constructor
  · rintro ⟨rfl, h⟩
    refine ⟨l1, ?_⟩
    rw [l2]
    exact cdv_cg _ (fun i hi => by rw [hb i hi, h i hi])
  · rintro ⟨h1, h2⟩
    rw [l2] at h2
    obtain ⟨i1, i2⟩ := cdv_inj K (xsln w) hl (fun i hi => by rw [hb i hi]; exact (wlt_c w hw i hi).2.2) h2
    subst i1
    exact ⟨rfl, fun i hi => by rw [i2 i hi, hb i hi]⟩
section SCN
variable {d S n W : Nat} {wa : Nat → Nat} {bf : Nat → Nat} {G : XG} {Q : (Option Value ⊕ Nat) → XG → Prop}
theorem c_byteAt {i : Nat} (hm : SL G S) (ht : ST G S n bf) (hi : i < 2000) : XC xms (d + 1) 32 [.ref S, .int (nI i)] G Q = Q (.inl (some (.int (nI (bz bf n i))))) G := by
  obtain ⟨h1, h2, h3⟩ := ht
  unfold SL at hm
  unfold bz
  by_cases c : i < n
  · obtain ⟨e1, e2⟩ := h3 i c
    have e3 := sx_and (bf i) e2
    rw [if_pos c, XC_s]
    simp (disch := first | omega | exact cI _ | exact cR _ | exact cK | exact cU | exact cO _ | exact cL _) only [oS, uS.2, Nat.reduceAdd, Nat.reduceSub, Nat.reduceMul, Nat.reduceLeDiff, Nat.reduceEqDiff, Nat.add_sub_cancel, xS, gS, nL, nS, dS, FX1_byteAt, mX1_byteAt, zX1_byteAt, hm, h1, e1, e3]
  · rw [if_neg c, XC_s]
    simp (disch := first | omega | exact cI _ | exact cR _ | exact cK | exact cU | exact cO _ | exact cL _) only [oS, uS.2, Nat.reduceAdd, Nat.reduceSub, Nat.reduceMul, Nat.reduceLeDiff, Nat.reduceEqDiff, Nat.add_sub_cancel, xS, gS, nL, nS, dS, FX1_byteAt, mX1_byteAt, zX1_byteAt, hm, h1]
theorem c_isLetter {c : Nat} (hc : c < 256) : XC xms (d + 1) 34 [.int (nI c)] G Q = Q (.inl (some (.int (if 97 ≤ c ∧ c ≤ 122 then nI 1 else nI 0)))) G := by
  rw [XC_s]
  simp (disch := first | omega | exact cI _ | exact cR _ | exact cK | exact cU | exact cO _ | exact cL _) only [oS, uS.2, Nat.reduceAdd, Nat.reduceSub, Nat.reduceMul, Nat.reduceLeDiff, Nat.reduceEqDiff, Nat.add_sub_cancel, xS, gS, nL, nS, dS, FX1_isLetter, mX1_isLetter, zX1_isLetter]
  by_cases c1 : c < 97 <;> by_cases c2 : 122 < c <;> simp [c1, c2] <;> (try rw [if_neg (by omega)]) <;> (try rw [if_pos (by omega)])
theorem c_isDigit {c : Nat} (hc : c < 256) : XC xms (d + 1) 36 [.int (nI c)] G Q = Q (.inl (some (.int (if 48 ≤ c ∧ c ≤ 57 then nI 1 else nI 0)))) G := by
  rw [XC_s]
  simp (disch := first | omega | exact cI _ | exact cR _ | exact cK | exact cU | exact cO _ | exact cL _) only [oS, uS.2, Nat.reduceAdd, Nat.reduceSub, Nat.reduceMul, Nat.reduceLeDiff, Nat.reduceEqDiff, Nat.add_sub_cancel, xS, gS, nL, nS, dS, FX1_isDigit, mX1_isDigit, zX1_isDigit]
  by_cases c1 : c < 48 <;> by_cases c2 : 57 < c <;> simp [c1, c2] <;> (try rw [if_neg (by omega)]) <;> (try rw [if_pos (by omega)])
/-- a token is added -/
def scA (G : XG) (S m : Nat) (k p v : Int32) : XG := Sfi (Sai (Sai (Sai G (S + 2) m k) (S + 3) m p) (S + 4) m v) 3 S (nI (m + 1))
theorem c_add {m : Nat} {k p v : Int32} (hm : SL G S) (h3 : Gfi G 3 S = nI m) (hb : m < 1001) : XC xms (d + 1) 33 [.ref S, .int k, .int p, .int v] G Q = Q (.inl none) (scA G S m k p v) := by
  unfold SL at hm
  unfold scA
  rw [XC_s]
  simp (disch := first | omega | exact cI _ | exact cR _ | exact cK | exact cU | exact cO _ | exact cL _) only [oS, uS.2, Nat.reduceAdd, Nat.reduceSub, Nat.reduceMul, Nat.reduceLeDiff, Nat.reduceEqDiff, Nat.add_sub_cancel, xS, gS, nL, nS, dS, FX1_add, mX1_add, zX1_add, hm, h3]
theorem c_digits {a mo : Nat} (hm : SL G S) (ht : ST G S n bf) (ha : Gfi G 4 S = nI a) (han : a ≤ n) (hmo : mo ≤ 4) : XC xms (d + 1 + 1) 37 [.ref S, .int (nI mo)] G Q = Q (.inl (some (.int (if mo < dgo bf n (n - a) a - a then N1 else nI (dva bf n a (min mo (dgo bf n (n - a) a - a))))))) (Sfi G 4 S (nI (dgo bf n (n - a) a))) := by
  have h1000 := ht.2.1
  have h256 : ∀ i, bz bf n i < 256 := fun i => bz_lt (fun i hi => (ht.2.2 i hi).2)
  have lp : ∀ f k, a + k + f = n → XL xms (d + 1) 37 7 [.ref S, .int (nI mo), .int (nI a), .int (nI (dva bf n a (min mo k)))] [] (Sfi G 4 S (nI (a + k))) Q = Q (.inl (some (.int (if mo < dgo bf n f (a + k) - a then N1 else nI (dva bf n a (min mo (dgo bf n f (a + k) - a))))))) (Sfi G 4 S (nI (dgo bf n f (a + k)))) := by
    intro f
    induction f with
    | zero =>
      intro k hk
      have hm' : SL (Sfi G 4 S (nI (a + k))) S := hm
      have ht' : ST (Sfi G 4 S (nI (a + k))) S n bf := ht
      have e : bz bf n (a + k) = 0 := bz_out (by omega)
      rw [fX1_digits_7]
      by_cases c9 : mo < k
      · simp (disch := first | omega | exact cI _ | exact cR _ | exact cK | exact cU | exact cO _ | exact cL _) only [oS, uS.2, Nat.reduceAdd, Nat.reduceSub, Nat.reduceMul, Nat.reduceLeDiff, Nat.reduceEqDiff, Nat.add_sub_cancel, xS, gS, nL, nS, dS, FX1_digits, mX1_digits, zX1_digits, c_byteAt hm' ht' (show a + k < 2000 by omega), c_isDigit (show 0 < 256 by omega), hm.1, e, dgo, Nat.add_sub_cancel_left, c9]
      · simp (disch := first | omega | exact cI _ | exact cR _ | exact cK | exact cU | exact cO _ | exact cL _) only [oS, uS.2, Nat.reduceAdd, Nat.reduceSub, Nat.reduceMul, Nat.reduceLeDiff, Nat.reduceEqDiff, Nat.add_sub_cancel, xS, gS, nL, nS, dS, FX1_digits, mX1_digits, zX1_digits, c_byteAt hm' ht' (show a + k < 2000 by omega), c_isDigit (show 0 < 256 by omega), hm.1, e, dgo, Nat.add_sub_cancel_left, c9]
    | succ f ih =>
      intro k hk
      have hm' : SL (Sfi G 4 S (nI (a + k))) S := hm
      have ht' : ST (Sfi G 4 S (nI (a + k))) S n bf := ht
      have e := h256 (a + k)
      have ih' := ih (k + 1) (by omega)
      rw [fX1_digits_7]
      by_cases c : 48 ≤ bz bf n (a + k) ∧ bz bf n (a + k) ≤ 57
      · by_cases k4 : k < mo
        · have d4 := dva_lt (n := n) (a := a) h256 k (by omega)
          have m1 : min mo k = k := by omega
          have m2 : min mo (k + 1) = k + 1 := by omega
          rw [m1]
          rw [m2] at ih'
          simp (disch := first | omega | exact cI _ | exact cR _ | exact cK | exact cU | exact cO _ | exact cL _) only [oS, uS.2, Nat.reduceAdd, Nat.reduceSub, Nat.reduceMul, Nat.reduceLeDiff, Nat.reduceEqDiff, Nat.add_sub_cancel, xS, gS, nL, nS, dS, FX1_digits, mX1_digits, zX1_digits, c_byteAt hm' ht' (show a + k < 2000 by omega), c_isDigit e, hm.1, c, dgo, Nat.add_sub_cancel_left, k4, Sfi_s]
          rw [show 10 * dva bf n a k + bz bf n (a + k) - 48 = dva bf n a (k + 1) from by show _ = 10 * dva bf n a k + (bz bf n (a + k) - 48); omega]
          exact ih'
        · have m2 : min mo (k + 1) = min mo k := by omega
          rw [m2] at ih'
          simp (disch := first | omega | exact cI _ | exact cR _ | exact cK | exact cU | exact cO _ | exact cL _) only [oS, uS.2, Nat.reduceAdd, Nat.reduceSub, Nat.reduceMul, Nat.reduceLeDiff, Nat.reduceEqDiff, Nat.add_sub_cancel, xS, gS, nL, nS, dS, FX1_digits, mX1_digits, zX1_digits, c_byteAt hm' ht' (show a + k < 2000 by omega), c_isDigit e, hm.1, c, dgo, Nat.add_sub_cancel_left, k4, Sfi_s]
          exact ih'
      · by_cases c9 : mo < k
        · simp (disch := first | omega | exact cI _ | exact cR _ | exact cK | exact cU | exact cO _ | exact cL _) only [oS, uS.2, Nat.reduceAdd, Nat.reduceSub, Nat.reduceMul, Nat.reduceLeDiff, Nat.reduceEqDiff, Nat.add_sub_cancel, xS, gS, nL, nS, dS, FX1_digits, mX1_digits, zX1_digits, c_byteAt hm' ht' (show a + k < 2000 by omega), c_isDigit e, hm.1, c, dgo, Nat.add_sub_cancel_left, c9]
        · simp (disch := first | omega | exact cI _ | exact cR _ | exact cK | exact cU | exact cO _ | exact cL _) only [oS, uS.2, Nat.reduceAdd, Nat.reduceSub, Nat.reduceMul, Nat.reduceLeDiff, Nat.reduceEqDiff, Nat.add_sub_cancel, xS, gS, nL, nS, dS, FX1_digits, mX1_digits, zX1_digits, c_byteAt hm' ht' (show a + k < 2000 by omega), c_isDigit e, hm.1, c, dgo, Nat.add_sub_cancel_left, c9]
  have l0 := lp (n - a) 0 (by omega)
  rw [XC_s]
  simp (disch := first | omega | exact cI _ | exact cR _ | exact cK | exact cU | exact cO _ | exact cL _) only [oS, uS.2, Nat.reduceAdd, Nat.reduceSub, Nat.reduceMul, Nat.reduceLeDiff, Nat.reduceEqDiff, Nat.add_sub_cancel, xS, gS, nL, nS, dS, FX1_digits, mX1_digits, zX1_digits, hm.1, ha]
  have e0 : min mo 0 = 0 := by omega
  have e1 : dva bf n a 0 = 0 := rfl
  simp only [e0, e1, Nat.add_zero, Sfi_i ha] at l0
  exact l0
theorem c_is {p e w t : Nat} (hm : SL G S) (ht : ST G S n bf) (he : Gfi G 4 S = nI e) (hen : e ≤ n) (hpe : p ≤ e) (hw : w < 21) (hk : Gkd G t = 300 + w) (hl : ∀ i, i < e - p → 97 ≤ bz bf n (p + i) ∧ bz bf n (p + i) ≤ 122) : XC xms (d + 1) 38 [.ref S, .ref t, .int (nI p)] G Q = Q (.inl (some (.int (if e - p ≤ 12 ∧ cdv bf n p (e - p) = wcs.getD w 0 then nI 1 else nI 0)))) G := by
  have h1000 := ht.2.1
  have hww := word_w (w := w) hw hl
  obtain ⟨l1, l2⟩ := wln_c w hw
  have hlc := wlt_c w hw
  have ht3 := ht.2.2
  unfold SL at hm
  have e300 : 300 + w - 300 = w := by omega
  by_cases hlen : xsln w = e - p
  · have lp : ∀ f k, k + f = e - p → (∀ i, i < k → wlt w i = bz bf n (p + i)) → XL xms d 38 22 [.ref S, .ref t, .int (nI p), .int (nI 1), .int (nI k)] [] G Q = Q (.inl (some (.int (if e - p ≤ 12 ∧ cdv bf n p (e - p) = wcs.getD w 0 then nI 1 else nI 0)))) G := by
      intro f
      induction f with
      | zero =>
        intro k hk' hmt
        have ek : k = e - p := by omega
        rw [if_pos (hww.mp ⟨hlen, fun i hi => hmt i (by omega)⟩), fX1_is_22]
        simp (disch := first | omega | exact cI _ | exact cR _ | exact cK | exact cU | exact cO _ | exact cL _) only [oS, uS.2, Nat.reduceAdd, Nat.reduceSub, Nat.reduceMul, Nat.reduceLeDiff, Nat.reduceEqDiff, Nat.add_sub_cancel, xS, gS, nL, nS, dS, fX1_is_67, mX1_is, zX1_is, hm, he, hk, ek]
      | succ f ih =>
        intro k hk' hmt
        have ih' := ih (k + 1) (by omega)
        obtain ⟨w1, w2, w3, w4⟩ := hlc k (by omega)
        have w1 : (xsby w).getD k (nI 0) = nI (wlt w k) := w1
        obtain ⟨t1, t2⟩ := ht3 (p + k) (by omega)
        have t3 := sx_c (bf (p + k)) t2 (wlt w k) w2
        have ebz : bz bf n (p + k) = bf (p + k) := if_pos (by omega)
        rw [fX1_is_22]
        by_cases c : wlt w k = bf (p + k)
        · have t4 : (nI (wlt w k) = sx (bf (p + k))) = True := eq_true (t3.mpr c)
          rw [← ih' (fun i hi => by
            by_cases ei : i = k
            · rw [ei, ebz]; exact c
            · exact hmt i (by omega))]
          simp (disch := first | omega | exact cI _ | exact cR _ | exact cK | exact cU | exact cO _ | exact cL _) only [oS, uS.2, Nat.reduceAdd, Nat.reduceSub, Nat.reduceMul, Nat.reduceLeDiff, Nat.reduceEqDiff, Nat.add_sub_cancel, xS, gS, nL, nS, dS, fX1_is_59, fX1_is_60, fX1_is_67, mX1_is, zX1_is, hm, he, hk, e300, hlen, w1, t1, t4]
        · have t4 : (nI (wlt w k) = sx (bf (p + k))) = False := eq_false (fun q => c (t3.mp q))
          rw [if_neg (fun q => c (by rw [← ebz]; exact (hww.mpr q).2 k (by omega)))]
          simp (disch := first | omega | exact cI _ | exact cR _ | exact cK | exact cU | exact cO _ | exact cL _) only [oS, uS.2, Nat.reduceAdd, Nat.reduceSub, Nat.reduceMul, Nat.reduceLeDiff, Nat.reduceEqDiff, Nat.add_sub_cancel, xS, gS, nL, nS, dS, fX1_is_59, fX1_is_60, fX1_is_67, mX1_is, zX1_is, hm, he, hk, e300, hlen, w1, t1, t4]
          rw [fX1_is_22]
          by_cases ck : k + 1 < e - p
          · simp (disch := first | omega | exact cI _ | exact cR _ | exact cK | exact cU | exact cO _ | exact cL _) only [oS, uS.2, Nat.reduceAdd, Nat.reduceSub, Nat.reduceMul, Nat.reduceLeDiff, Nat.reduceEqDiff, Nat.add_sub_cancel, xS, gS, nL, nS, dS, fX1_is_67, mX1_is, zX1_is, hm, he, ck]
          · simp (disch := first | omega | exact cI _ | exact cR _ | exact cK | exact cU | exact cO _ | exact cL _) only [oS, uS.2, Nat.reduceAdd, Nat.reduceSub, Nat.reduceMul, Nat.reduceLeDiff, Nat.reduceEqDiff, Nat.add_sub_cancel, xS, gS, nL, nS, dS, fX1_is_67, mX1_is, zX1_is, hm, he, ck]
    have l0 := lp (e - p) 0 (by omega) (fun i hi => absurd hi (Nat.not_lt_zero i))
    rw [XC_s]
    simp (disch := first | omega | exact cI _ | exact cR _ | exact cK | exact cU | exact cO _ | exact cL _) only [oS, uS.2, Nat.reduceAdd, Nat.reduceSub, Nat.reduceMul, Nat.reduceLeDiff, Nat.reduceEqDiff, Nat.add_sub_cancel, xS, gS, nL, nS, dS, fX1_is_0, fX1_is_17, fX1_is_18, mX1_is, zX1_is, hm, he, hk, e300, hlen]
    have e12 : e - p ≤ 12 := by omega
    simp only [e12, true_and] at l0
    exact l0
  · rw [if_neg (fun q => hlen (hww.mpr q).1), XC_s]
    simp (disch := first | omega | exact cI _ | exact cR _ | exact cK | exact cU | exact cO _ | exact cL _) only [oS, uS.2, Nat.reduceAdd, Nat.reduceSub, Nat.reduceMul, Nat.reduceLeDiff, Nat.reduceEqDiff, Nat.add_sub_cancel, xS, gS, nL, nS, dS, fX1_is_0, fX1_is_17, fX1_is_18, mX1_is, zX1_is, hm, he, hk, e300, hlen]
    rw [fX1_is_22]
    by_cases ck : 0 < e - p
    · simp (disch := first | omega | exact cI _ | exact cR _ | exact cK | exact cU | exact cO _ | exact cL _) only [oS, uS.2, Nat.reduceAdd, Nat.reduceSub, Nat.reduceMul, Nat.reduceLeDiff, Nat.reduceEqDiff, Nat.add_sub_cancel, xS, gS, nL, nS, dS, fX1_is_67, mX1_is, zX1_is, hm, he, ck]
    · simp (disch := first | omega | exact cI _ | exact cR _ | exact cK | exact cU | exact cO _ | exact cL _) only [oS, uS.2, Nat.reduceAdd, Nat.reduceSub, Nat.reduceMul, Nat.reduceLeDiff, Nat.reduceEqDiff, Nat.add_sub_cancel, xS, gS, nL, nS, dS, fX1_is_67, mX1_is, zX1_is, hm, he, ck]
theorem drop_w : ∀ k, k < 21 → wcs.drop k = wcs.getD k 0 :: wcs.drop (k + 1) := by decide +kernel
theorem c_word1 {p : Nat} (hm : SL G S) (ht : ST G S n bf) : ∀ f k, p + k + f = n → XL xms (d + 1) 35 5 [.ref S, .int (nI p), xjk, xjk, xjk] [] (Sfi G 4 S (nI (p + k))) Q = XL xms (d + 1) 35 32 [.ref S, .int (nI p), xjk, xjk, xjk] [] (Sfi G 4 S (nI (lgo bf n f (p + k)))) Q := by
  have h1000 := ht.2.1
  intro f
  induction f with
  | zero =>
    intro k hk
    have hm' : SL (Sfi G 4 S (nI (p + k))) S := hm
    have ht' : ST (Sfi G 4 S (nI (p + k))) S n bf := ht
    have e : bz bf n (p + k) = 0 := bz_out (by omega)
    rw [fX1_word_5]
    simp (disch := first | omega | exact cI _ | exact cR _ | exact cK | exact cU | exact cO _ | exact cL _) only [oS, uS.2, Nat.reduceAdd, Nat.reduceSub, Nat.reduceMul, Nat.reduceLeDiff, Nat.reduceEqDiff, Nat.add_sub_cancel, xS, gS, nL, nS, dS, mX1_word, zX1_word, c_byteAt hm' ht' (show p + k < 2000 by omega), c_isLetter (show 0 < 256 by omega), hm.1, e, lgo]
  | succ f ih =>
    intro k hk
    have hm' : SL (Sfi G 4 S (nI (p + k))) S := hm
    have ht' : ST (Sfi G 4 S (nI (p + k))) S n bf := ht
    have b256 := bz_lt (i := p + k) (fun i hi => (ht.2.2 i hi).2)
    have ih' := ih (k + 1) (by omega)
    rw [fX1_word_5]
    by_cases c : 97 ≤ bz bf n (p + k) ∧ bz bf n (p + k) ≤ 122
    · simp (disch := first | omega | exact cI _ | exact cR _ | exact cK | exact cU | exact cO _ | exact cL _) only [oS, uS.2, Nat.reduceAdd, Nat.reduceSub, Nat.reduceMul, Nat.reduceLeDiff, Nat.reduceEqDiff, Nat.add_sub_cancel, xS, gS, nL, nS, dS, mX1_word, zX1_word, c_byteAt hm' ht' (show p + k < 2000 by omega), c_isLetter b256, hm.1, c, lgo, Sfi_s]
      exact ih'
    · simp (disch := first | omega | exact cI _ | exact cR _ | exact cK | exact cU | exact cO _ | exact cL _) only [oS, uS.2, Nat.reduceAdd, Nat.reduceSub, Nat.reduceMul, Nat.reduceLeDiff, Nat.reduceEqDiff, Nat.add_sub_cancel, xS, gS, nL, nS, dS, mX1_word, zX1_word, c_byteAt hm' ht' (show p + k < 2000 by omega), c_isLetter b256, hm.1, c, lgo]
/-- words, from the k-th on -/
theorem c_word2 {p e m : Nat} (hm : SL G S) (ht : ST G S n bf) (hwd : WD G W wa) (he : Gfi G 4 S = nI e) (h3 : Gfi G 3 S = nI m) (hmb : m < 1001) (hen : e ≤ n) (hpe : p ≤ e) (hl : ∀ i, i < e - p → 97 ≤ bz bf n (p + i) ∧ bz bf n (p + i) ≤ 122) : ∀ f k, k + f = 21 → XL xms (d + 1) 35 136 [.ref S, .int (nI p), .int (nI k), xjk, xjk] [] G Q = Q (.inl none) (match (if e - p ≤ 12 then wix (wcs.drop k) (cdv bf n p (e - p)) k else none) with
    | some w => scA G S m (nI 2) (nI p) (nI w)
    | none => scA G S m (nI 1) (nI p) (nI 0)) := by
  obtain ⟨d1, d2, d3, d4⟩ := hwd
  have hm1 := hm.1
  intro f
  induction f with
  | zero =>
    intro k hk
    have ek : k = 21 := by omega
    subst ek
    have ew : (if e - p ≤ 12 then wix (wcs.drop 21) (cdv bf n p (e - p)) 21 else none) = none := by split <;> rfl
    rw [ew, fX1_word_136]
    simp (disch := first | omega | exact cI _ | exact cR _ | exact cK | exact cU | exact cO _ | exact cL _) only [oS, uS.2, Nat.reduceAdd, Nat.reduceSub, Nat.reduceMul, Nat.reduceLeDiff, Nat.reduceEqDiff, Nat.add_sub_cancel, xS, gS, nL, nS, dS, fX1_word_171, mX1_word, zX1_word, c_add hm h3 hmb, hm1, d1, d2, d3]
  | succ f ih =>
    intro k hk
    have ih' := ih (k + 1) (by omega)
    obtain ⟨g1, g2⟩ := d4 k (by omega)
    have his := fun Q => c_is (d := d - 1) (Q := Q) hm ht he hen hpe (show k < 21 by omega) g2 hl
    rw [fX1_word_136, drop_w k (by omega)]
    by_cases c : e - p ≤ 12 ∧ cdv bf n p (e - p) = wcs.getD k 0
    · have ew : (if e - p ≤ 12 then wix (wcs.getD k 0 :: wcs.drop (k + 1)) (cdv bf n p (e - p)) k else none) = some k := by
        rw [if_pos c.1]
        unfold wix
        rw [if_pos c.2]
      rw [ew]
      simp (disch := first | omega | exact cI _ | exact cR _ | exact cK | exact cU | exact cO _ | exact cL _) only [oS, uS.2, Nat.reduceAdd, Nat.reduceSub, Nat.reduceMul, Nat.reduceLeDiff, Nat.reduceEqDiff, Nat.add_sub_cancel, xS, gS, nL, nS, dS, fX1_word_165, mX1_word, zX1_word, c_is hm ht he hen hpe (show k < 21 by omega) g2 hl, c_add hm h3 hmb, hm1, d1, d2, d3, g1, c]
    · have ew : (if e - p ≤ 12 then wix (wcs.getD k 0 :: wcs.drop (k + 1)) (cdv bf n p (e - p)) k else none) = (if e - p ≤ 12 then wix (wcs.drop (k + 1)) (cdv bf n p (e - p)) (k + 1) else none) := by
        by_cases c12 : e - p ≤ 12
        · rw [if_pos c12, if_pos c12]
          conv => lhs; unfold wix
          rw [if_neg (fun q => c ⟨c12, q⟩)]
        · rw [if_neg c12, if_neg c12]
      rw [ew, ← ih']
      simp (disch := first | omega | exact cI _ | exact cR _ | exact cK | exact cU | exact cO _ | exact cL _) only [oS, uS.2, Nat.reduceAdd, Nat.reduceSub, Nat.reduceMul, Nat.reduceLeDiff, Nat.reduceEqDiff, Nat.add_sub_cancel, xS, gS, nL, nS, dS, fX1_word_165, mX1_word, zX1_word, c_is hm ht he hen hpe (show k < 21 by omega) g2 hl, hm1, d1, d2, d3, g1, c]
theorem c_word {p m : Nat} (hm : SL G S) (ht : ST G S n bf) (hwd : WD G W wa) (ha : Gfi G 4 S = nI p) (h3 : Gfi G 3 S = nI m) (hmb : m < 1001) (hp : p < n) (hl : 97 ≤ bf p ∧ bf p ≤ 122) (hq : ∀ v, ((tkA bf n p).1 ≠ 1 → v = nI (tkA bf n p).2.2.1) → Q (.inl none) (scA (Sfi G 4 S (nI (tkA bf n p).2.2.2)) S m (nI (tkA bf n p).1) (nI p) v)) : XC xms (d + 1 + 1 + 1) 35 [.ref S] G Q := by
  have h1000 := ht.2.1
  have h256 : ∀ i, bz bf n i < 256 := fun i => bz_lt (fun i hi => (ht.2.2 i hi).2)
  have ebz : bz bf n p = bf p := if_pos hp
  have hm1 := hm.1
  have l0 := c_word1 (d := d + 1) (p := p) (Q := Q) hm ht (n - p) 0 (by omega)
  simp only [Nat.add_zero, Sfi_i ha] at l0
  obtain ⟨b1, b2, b3⟩ := lgo_b (bf := bf) (n := n) (n - p) p
  have b2 := b2 (by omega)
  have hall : ∀ f a, (∀ i, a ≤ i → i < lgo bf n f a → 97 ≤ bz bf n i ∧ bz bf n i ≤ 122) := by
    intro f
    induction f with
    | zero => intro a i h1 h2; unfold lgo at h2; omega
    | succ f ih =>
      intro a i h1 h2
      unfold lgo at h2
      split at h2
      · next h =>
        by_cases e : i = a
        · rw [e]; exact h
        · exact ih (a + 1) i (by omega) h2
      · omega
  have hall := hall (n - p) p
  have htk : tkA bf n p = (if 48 ≤ bz bf n (lgo bf n (n - p) p) ∧ bz bf n (lgo bf n (n - p) p) ≤ 57 then
      (if 2 < dgo bf n (n - lgo bf n (n - p) p) (lgo bf n (n - p) p) - lgo bf n (n - p) p then 1 else if 1 < lgo bf n (n - p) p - p then 1 else nmK (bf p), p, dva bf n (lgo bf n (n - p) p) (min 2 (dgo bf n (n - lgo bf n (n - p) p) (lgo bf n (n - p) p) - lgo bf n (n - p) p)), dgo bf n (n - lgo bf n (n - p) p) (lgo bf n (n - p) p))
    else match (if lgo bf n (n - p) p - p ≤ 12 then wix wcs (cdv bf n p (lgo bf n (n - p) p - p)) 0 else none) with
      | some w => (2, p, w, lgo bf n (n - p) p)
      | none => (1, p, 0, lgo bf n (n - p) p)) := by
    unfold tkA
    rw [if_neg (by omega), if_pos hl]
    rfl
  generalize lgo bf n (n - p) p = e at *
  rw [htk] at hq
  rw [XC_s]
  simp (disch := first | omega | exact cI _ | exact cR _ | exact cK | exact cU | exact cO _ | exact cL _) only [oS, uS.2, Nat.reduceAdd, Nat.reduceSub, Nat.reduceMul, Nat.reduceLeDiff, Nat.reduceEqDiff, Nat.add_sub_cancel, xS, gS, nL, nS, dS, fX1_word_0, mX1_word, zX1_word, hm1, ha]
  rw [l0]
  have hm' : SL (Sfi G 4 S (nI e)) S := hm
  have ht' : ST (Sfi G 4 S (nI e)) S n bf := ht
  have hwd' : WD (Sfi G 4 S (nI e)) W wa := hwd
  have ha' : Gfi (Sfi G 4 S (nI e)) 4 S = nI e := if_pos ⟨rfl, rfl⟩
  have h3' : Gfi (Sfi G 4 S (nI e)) 3 S = nI m := by simp (disch := first | omega | exact cI _ | exact cR _ | exact cK | exact cU | exact cO _ | exact cL _) only [uS, Nat.reduceAdd, Nat.reduceSub, Nat.reduceMul, Nat.reduceLeDiff, Nat.reduceEqDiff, Nat.add_sub_cancel, gS, nL, nS, dS, h3]
  have be := h256 e
  have bp := h256 p
  rw [fX1_word_32]
  by_cases c : 48 ≤ bz bf n e ∧ bz bf n e ≤ 57
  · rw [if_pos c] at hq
    obtain ⟨c1, c2, c3⟩ := dgo_b (bf := bf) (n := n) (n - e) e
    have c2 := c2 b2
    have d4 := dva_lt (n := n) (a := e) h256
    have hm2 : SL (Sfi (Sfi G 4 S (nI e)) 4 S (nI (dgo bf n (n - e) e))) S := hm
    have h32 : Gfi (Sfi (Sfi G 4 S (nI e)) 4 S (nI (dgo bf n (n - e) e))) 3 S = nI m := by simp (disch := first | omega | exact cI _ | exact cR _ | exact cK | exact cU | exact cO _ | exact cL _) only [uS, Nat.reduceAdd, Nat.reduceSub, Nat.reduceMul, Nat.reduceLeDiff, Nat.reduceEqDiff, Nat.add_sub_cancel, gS, nL, nS, dS, h3]
    have fin : ∀ kd, kd = (if 1 < e - p then 1 else nmK (bf p)) → XL xms (d + 1 + 1) 35 108 [.ref S, .int (nI p), .int (nI (bz bf n p)), xjk, xjk] [.int (nI kd)] (Sfi G 4 S (nI e)) Q := by
      intro kd hkd
      have kl : kd < 7 := by rw [hkd]; unfold nmK; repeat' split
                             all_goals omega
      by_cases f3 : 2 < dgo bf n (n - e) e - e
      · rw [if_pos f3] at hq
        simp (disch := first | omega | exact cI _ | exact cR _ | exact cK | exact cU | exact cO _ | exact cL _) only [oS, uS.2, Nat.reduceAdd, Nat.reduceSub, Nat.reduceMul, Nat.reduceLeDiff, Nat.reduceEqDiff, Nat.add_sub_cancel, xS, gS, nL, nS, dS, fX1_word_108, fX1_word_126, fX1_word_127, mX1_word, zX1_word, c_digits hm' ht' ha' b2 (show 2 ≤ 4 by omega), c_add hm2 h32 hmb, hm1, f3]
        have := hq N1 (fun q => absurd rfl q)
        rw [Sfi_s]
        exact this
      · rw [if_neg f3, ← hkd] at hq
        have d5 := d4 (min 2 (dgo bf n (n - e) e - e)) (by omega)
        simp (disch := first | omega | exact cI _ | exact cR _ | exact cK | exact cU | exact cO _ | exact cL _) only [oS, uS.2, Nat.reduceAdd, Nat.reduceSub, Nat.reduceMul, Nat.reduceLeDiff, Nat.reduceEqDiff, Nat.add_sub_cancel, xS, gS, nL, nS, dS, fX1_word_108, fX1_word_126, fX1_word_127, mX1_word, zX1_word, c_digits hm' ht' ha' b2 (show 2 ≤ 4 by omega), c_add hm2 h32 hmb, hm1, f3]
        have := hq (nI (dva bf n e (min 2 (dgo bf n (n - e) e - e)))) (fun _ => rfl)
        rw [Sfi_s]
        exact this
    by_cases e1 : 1 < e - p
    · have f1 := fin 1 (by rw [if_pos e1])
      simp (disch := first | omega | exact cI _ | exact cR _ | exact cK | exact cU | exact cO _ | exact cL _) only [oS, uS.2, Nat.reduceAdd, Nat.reduceSub, Nat.reduceMul, Nat.reduceLeDiff, Nat.reduceEqDiff, Nat.add_sub_cancel, xS, gS, nL, nS, dS, fX1_word_66, fX1_word_76, fX1_word_86, fX1_word_96, fX1_word_107, mX1_word, zX1_word, c_byteAt hm' ht' (show e < 2000 by omega), c_byteAt hm' ht' (show p < 2000 by omega), c_isDigit be, hm1, ha', c, e1]
      exact f1
    · rw [if_neg e1] at fin
      by_cases q1 : bf p = 107
      · have f1 := fin 3 (by unfold nmK; rw [if_pos q1])
        rw [ebz] at f1
        simp (disch := first | omega | exact cI _ | exact cR _ | exact cK | exact cU | exact cO _ | exact cL _) only [oS, uS.2, Nat.reduceAdd, Nat.reduceSub, Nat.reduceMul, Nat.reduceLeDiff, Nat.reduceEqDiff, Nat.add_sub_cancel, xS, gS, nL, nS, dS, fX1_word_66, fX1_word_76, fX1_word_86, fX1_word_96, fX1_word_107, mX1_word, zX1_word, c_byteAt hm' ht' (show e < 2000 by omega), c_byteAt hm' ht' (show p < 2000 by omega), c_isDigit be, hm1, ha', c, e1, ebz, q1]
        rw [q1] at f1
        exact f1
      by_cases q2 : bf p = 109
      · have f1 := fin 4 (by unfold nmK; rw [if_neg q1, if_pos q2])
        rw [ebz] at f1
        simp (disch := first | omega | exact cI _ | exact cR _ | exact cK | exact cU | exact cO _ | exact cL _) only [oS, uS.2, Nat.reduceAdd, Nat.reduceSub, Nat.reduceMul, Nat.reduceLeDiff, Nat.reduceEqDiff, Nat.add_sub_cancel, xS, gS, nL, nS, dS, fX1_word_66, fX1_word_76, fX1_word_86, fX1_word_96, fX1_word_107, mX1_word, zX1_word, c_byteAt hm' ht' (show e < 2000 by omega), c_byteAt hm' ht' (show p < 2000 by omega), c_isDigit be, hm1, ha', c, e1, ebz, q2]
        rw [q2] at f1
        exact f1
      by_cases q3 : bf p = 118
      · have f1 := fin 5 (by unfold nmK; rw [if_neg q1, if_neg q2, if_pos q3])
        rw [ebz] at f1
        simp (disch := first | omega | exact cI _ | exact cR _ | exact cK | exact cU | exact cO _ | exact cL _) only [oS, uS.2, Nat.reduceAdd, Nat.reduceSub, Nat.reduceMul, Nat.reduceLeDiff, Nat.reduceEqDiff, Nat.add_sub_cancel, xS, gS, nL, nS, dS, fX1_word_66, fX1_word_76, fX1_word_86, fX1_word_96, fX1_word_107, mX1_word, zX1_word, c_byteAt hm' ht' (show e < 2000 by omega), c_byteAt hm' ht' (show p < 2000 by omega), c_isDigit be, hm1, ha', c, e1, ebz, q3]
        rw [q3] at f1
        exact f1
      by_cases q4 : bf p = 114
      · have f1 := fin 6 (by unfold nmK; rw [if_neg q1, if_neg q2, if_neg q3, if_pos q4])
        rw [ebz] at f1
        simp (disch := first | omega | exact cI _ | exact cR _ | exact cK | exact cU | exact cO _ | exact cL _) only [oS, uS.2, Nat.reduceAdd, Nat.reduceSub, Nat.reduceMul, Nat.reduceLeDiff, Nat.reduceEqDiff, Nat.add_sub_cancel, xS, gS, nL, nS, dS, fX1_word_66, fX1_word_76, fX1_word_86, fX1_word_96, fX1_word_107, mX1_word, zX1_word, c_byteAt hm' ht' (show e < 2000 by omega), c_byteAt hm' ht' (show p < 2000 by omega), c_isDigit be, hm1, ha', c, e1, ebz, q4]
        rw [q4] at f1
        exact f1
      · have f1 := fin 1 (by unfold nmK; rw [if_neg q1, if_neg q2, if_neg q3, if_neg q4])
        rw [ebz] at f1 bp
        simp (disch := first | omega | exact cI _ | exact cR _ | exact cK | exact cU | exact cO _ | exact cL _) only [oS, uS.2, Nat.reduceAdd, Nat.reduceSub, Nat.reduceMul, Nat.reduceLeDiff, Nat.reduceEqDiff, Nat.add_sub_cancel, xS, gS, nL, nS, dS, fX1_word_66, fX1_word_76, fX1_word_86, fX1_word_96, fX1_word_107, mX1_word, zX1_word, c_byteAt hm' ht' (show e < 2000 by omega), c_byteAt hm' ht' (show p < 2000 by omega), c_isDigit be, hm1, ha', c, e1, ebz, q1, q2, q3, q4]
        exact f1
  · rw [if_neg c] at hq
    have w2 := c_word2 (d := d + 1) (Q := Q) hm' ht' hwd' ha' h3' hmb b2 b1 (fun i hi => hall (p + i) (by omega) (by omega)) 21 0 (by omega)
    have e0 : wcs.drop 0 = wcs := rfl
    rw [e0] at w2
    simp (disch := first | omega | exact cI _ | exact cR _ | exact cK | exact cU | exact cO _ | exact cL _) only [oS, uS.2, Nat.reduceAdd, Nat.reduceSub, Nat.reduceMul, Nat.reduceLeDiff, Nat.reduceEqDiff, Nat.add_sub_cancel, xS, gS, nL, nS, dS, fX1_word_134, mX1_word, zX1_word, c_byteAt hm' ht' (show e < 2000 by omega), c_isDigit be, hm1, ha', c]
    rw [w2]
    cases hx : (if e - p ≤ 12 then wix wcs (cdv bf n p (e - p)) 0 else none) with
    | some w =>
      rw [hx] at hq
      exact hq (nI w) (fun _ => rfl)
    | none =>
      rw [hx] at hq
      exact hq (nI 0) (fun _ => rfl)
end SCN
