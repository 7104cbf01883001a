set_option maxRecDepth 100000
/-! only the fields 39 .. 43 of M change: where the text is read, the token -/
def YF (M : Nat) (G G' : XG) : Prop := G'.2 = G.2 ∧ ∀ g a, ¬ (a = M ∧ 39 ≤ g ∧ g ≤ 43) → Gfi G' g a = Gfi G g a
theorem YF.refl {M : Nat} {G : XG} : YF M G G := ⟨rfl, fun _ _ _ => rfl⟩
theorem YF.trans {M : Nat} {G G' G'' : XG} (h : YF M G G') (k : YF M G' G'') : YF M G G'' := ⟨k.1.trans h.1, fun g a q => (k.2 g a q).trans (h.2 g a q)⟩
theorem YF.fi {M g : Nat} {G G' : XG} {v : Int32} (h : YF M G G') (hg : 39 ≤ g ∧ g ≤ 43) : YF M G (Sfi G' g M v) := ⟨h.1, fun x y q => by
  show (if x = g ∧ y = M then v else Gfi G' x y) = _
  rw [if_neg (by omega)]
  exact h.2 x y q⟩
theorem YF.ma {M : Nat} {G G' : XG} (h : YF M G G') (hm : MA G M) : MA G' M := by
  have e1 : Gfr G' = Gfr G := by show G'.2.1 = G.2.1; rw [h.1]
  have e2 : Gkd G' = Gkd G := by show G'.2.2.2.2.2.1 = G.2.2.2.2.2.1; rw [h.1]
  have e3 : Gln G' = Gln G := by show G'.2.2.2.2.2.2.1 = G.2.2.2.2.2.2.1; rw [h.1]
  unfold MA at *
  rw [e1, e2, e3]
  exact hm
theorem YF.ai {M : Nat} {G G' : XG} (h : YF M G G') : Gai G' = Gai G := by show G'.2.2.1 = G.2.2.1; rw [h.1]
theorem YF.al {M : Nat} {G G' : XG} (h : YF M G G') : Gal G' = Gal G := by show G'.2.2.2.1 = G.2.2.2.1; rw [h.1]
theorem YF.tx {M n : Nat} {bf : Nat → Nat} {G G' : XG} (h : YF M G G') (ht : TX G M n bf) : TX G' M n bf := by
  obtain ⟨t1, t2, t3⟩ := ht
  exact ⟨(h.2 38 M (by omega)).trans t1, t2, fun i hi => by rw [h.ai]; exact t3 i hi⟩
/-- words: the twin's order -/
def twL : List Nat := [427595, 99724, 18935, 474565, 609900110, 294, 176741, 409072, 12748485, 464660, 21252599, 772144, 1279278, 8029764, 763528, 3199080, 6759166361, 632645, 370116, 22483122, 442114532]
def WL (G : XG) (M : Nat) : Prop := ∀ k, k < 21 → Gal G (M + 1) k = lN (twL.getD k 0)
def twf (c : Int64) : Nat → Int32
  | 0 => N1
  | k + 1 => if lN (twL.getD k 0) = c then nI k else twf c k
def wpm (w : Nat) : Nat := if w < 3 then w + 18 else w - 3
theorem lcm_0 {x y : Int64} : ((if x > y then nI 1 else if x = y then nI 0 else N1) = nI 0) = (x = y) := by
  by_cases e : x = y
  · subst e
    rw [if_neg (show ¬ x > x from Int64.lt_irrefl), if_pos rfl]
    exact propext ⟨fun _ => rfl, fun _ => rfl⟩
  · rw [if_neg e]
    split
    · exact propext ⟨fun h => absurd h (by decide), fun h => absurd h e⟩
    · exact propext ⟨fun h => absurd h (by decide), fun h => absurd h e⟩
/-- what the twin has of a token -/
def tokR (t : Tok) (tk wh va : Int32) : Prop :=
  if t.1 = 0 then tk = nI 0
  else if t.1 = 1 then tk = nI 1 ∨ (tk = nI 2 ∧ wh = N1)
  else if t.1 = 2 then tk = nI 2 ∧ wh = nI (wpm t.2.2.1) ∧ t.2.2.1 < 21
  else if t.1 ≤ 6 then tk = nI 3 ∧ wh = nI (if t.1 = 3 then 107 else if t.1 = 4 then 109 else if t.1 = 5 then 118 else 114) ∧ va = nI t.2.2.1 ∧ t.2.2.1 < 10000000
  else if t.1 = 7 then tk = nI 4 ∧ va = nI t.2.2.1 ∧ t.2.2.1 < 10000000
  else tk = nI 5 ∧ wh = nI t.1 ∧ t.1 < 256
/-- words: the twin's and the scanner's are the same -/
theorem lN_e {a b : Nat} (ha : a < 9223372036854775808) (hb : b < 9223372036854775808) : (lN a = lN b) = (a = b) := by
  refine propext ⟨fun h => ?_, fun h => by rw [h]⟩
  have := congrArg Int64.toInt h
  unfold lN at this
  rw [Int64.toInt_ofNat_of_lt ha, Int64.toInt_ofNat_of_lt hb] at this
  omega
theorem twf_w {c : Nat} (hc : c < 9223372036854775808) : match wix wcs c 0 with
    | some w => twf (lN c) 21 = nI (wpm w) ∧ w < 21
    | none => twf (lN c) 21 = N1 := by
  by_cases h : c = 370116 ∨ c = 22483122 ∨ c = 442114532 ∨ c = 427595 ∨ c = 99724 ∨ c = 18935 ∨ c = 474565 ∨ c = 609900110 ∨ c = 294 ∨ c = 176741 ∨ c = 409072 ∨ c = 12748485 ∨ c = 464660 ∨ c = 21252599 ∨ c = 772144 ∨ c = 1279278 ∨ c = 8029764 ∨ c = 763528 ∨ c = 3199080 ∨ c = 6759166361 ∨ c = 632645
  · rcases h with rfl | rfl | rfl | rfl | rfl | rfl | rfl | rfl | rfl | rfl | rfl | rfl | rfl | rfl | rfl | rfl | rfl | rfl | rfl | rfl | rfl <;> exact ⟨by decide +kernel, by decide⟩
  · have e : wix wcs c 0 = none := by
      simp only [wcs, wix]
      simp only [not_or] at h
      obtain ⟨g0, g1, g2, g3, g4, g5, g6, g7, g8, g9, g10, g11, g12, g13, g14, g15, g16, g17, g18, g19, g20⟩ := h
      simp only [g0, g1, g2, g3, g4, g5, g6, g7, g8, g9, g10, g11, g12, g13, g14, g15, g16, g17, g18, g19, g20, if_false]
    rw [e]
    have hn : ∀ k, k < 21 → ¬ lN (twL.getD k 0) = lN c := by
      intro k hk q
      have hl : ∀ k, k < 21 → twL.getD k 0 < 9223372036854775808 ∧ twL.getD k 0 ∈ wcs := by decide +kernel
      rw [lN_e (hl k hk).1 hc] at q
      have hm := (hl k hk).2
      rw [q] at hm
      simp only [wcs, List.mem_cons, List.not_mem_nil, or_false] at hm
      exact h hm
    have hk : ∀ k, k ≤ 21 → twf (lN c) k = N1 := by
      intro k
      induction k with
      | zero => intro _; rfl
      | succ k ih =>
        intro hk
        unfold twf
        rw [if_neg (hn k hk)]
        exact ih (by omega)
    exact hk 21 (Nat.le_refl _)
theorem twf_m : twf (-1) 21 = N1 := by decide +kernel
def cdL (bf : Nat → Nat) (n p k : Nat) : Int64 := if k ≤ 12 then lN (cdv bf n p k) else -1
theorem cdv_lt {bf : Nat → Nat} {n p : Nat} : ∀ k, (∀ i, i < k → bz bf n (p + i) ≤ 122) → cdv bf n p k < 32 ^ k := by
  intro k
  induction k with
  | zero => intro _; exact Nat.one_pos
  | succ k ih =>
    intro h
    have h1 := ih (fun i hi => h i (by omega))
    have h2 := h k (Nat.lt_succ_self _)
    show cdv bf n p k * 32 + (bz bf n (p + k) - 96) < 32 ^ k * 32
    omega
theorem tokR_0 {p v f : Nat} {tk wh va : Int32} : tokR (0, p, v, f) tk wh va = (tk = nI 0) := rfl
theorem tokR_1 {p v f : Nat} {tk wh va : Int32} : tokR (1, p, v, f) tk wh va = (tk = nI 1 ∨ (tk = nI 2 ∧ wh = N1)) := rfl
theorem tokR_2 {p v f : Nat} {tk wh va : Int32} : tokR (2, p, v, f) tk wh va = (tk = nI 2 ∧ wh = nI (wpm v) ∧ v < 21) := rfl
theorem tokR_3 {p v f : Nat} {tk wh va : Int32} : tokR (3, p, v, f) tk wh va = (tk = nI 3 ∧ wh = nI 107 ∧ va = nI v ∧ v < 10000000) := rfl
theorem tokR_4 {p v f : Nat} {tk wh va : Int32} : tokR (4, p, v, f) tk wh va = (tk = nI 3 ∧ wh = nI 109 ∧ va = nI v ∧ v < 10000000) := rfl
theorem tokR_5 {p v f : Nat} {tk wh va : Int32} : tokR (5, p, v, f) tk wh va = (tk = nI 3 ∧ wh = nI 118 ∧ va = nI v ∧ v < 10000000) := rfl
theorem tokR_6 {p v f : Nat} {tk wh va : Int32} : tokR (6, p, v, f) tk wh va = (tk = nI 3 ∧ wh = nI 114 ∧ va = nI v ∧ v < 10000000) := rfl
theorem tokR_7 {p v f : Nat} {tk wh va : Int32} : tokR (7, p, v, f) tk wh va = (tk = nI 4 ∧ va = nI v ∧ v < 10000000) := rfl
theorem tokR_s {c p v f : Nat} {tk wh va : Int32} (h : 8 ≤ c) : tokR (c, p, v, f) tk wh va = (tk = nI 5 ∧ wh = nI c ∧ c < 256) := by
  unfold tokR
  dsimp only
  rw [if_neg (by omega), if_neg (by omega), if_neg (by omega), if_neg (by omega), if_neg (by omega)]
section TWX
variable {d M n : Nat} {bf : Nat → Nat} {G : XG} {Q : (Option Value ⊕ Nat) → XG → Prop}
theorem t_isSg {b : Nat} (hb : b < 256) : XC xms (d + 1) 108 [.int (nI b)] G Q = Q (.inl (some (.int (if isSg b = true then nI 1 else nI 0)))) G := by
  by_cases hs : isSg b = true
  · rw [if_pos hs]
    have h : b = 43 ∨ b = 45 ∨ b = 42 ∨ b = 47 ∨ b = 37 ∨ b = 40 ∨ b = 41 ∨ b = 91 ∨ b = 93 ∨ b = 123 ∨ b = 125 ∨ b = 61 ∨ b = 60 ∨ b = 62 ∨ b = 44 ∨ b = 59 := by
      unfold isSg at hs
      simp at hs
      omega
    rcases h with rfl | rfl | rfl | rfl | rfl | rfl | rfl | rfl | rfl | rfl | rfl | rfl | rfl | rfl | rfl | rfl <;> (rw [XC_s]; simp (disch := first | omega | exact cI _ | exact cR _ | exact cK | exact cU | exact cO _ | exact cL _) only [oS, uS.2, Nat.reduceAdd, Nat.reduceSub, Nat.reduceMul, Nat.reduceLeDiff, Nat.reduceEqDiff, Nat.add_sub_cancel, xS, gS, nL, nS, dS, FX9_isSignByte, mX9_isSignByte, zX9_isSignByte])
  · rw [if_neg hs]
    have h : ¬ b = 43 ∧ ¬ b = 45 ∧ ¬ b = 42 ∧ ¬ b = 47 ∧ ¬ b = 37 ∧ ¬ b = 40 ∧ ¬ b = 41 ∧ ¬ b = 91 ∧ ¬ b = 93 ∧ ¬ b = 123 ∧ ¬ b = 125 ∧ ¬ b = 61 ∧ ¬ b = 60 ∧ ¬ b = 62 ∧ ¬ b = 44 ∧ ¬ b = 59 := by
      unfold isSg at hs
      simp at hs
      omega
    obtain ⟨h43, h45, h42, h47, h37, h40, h41, h91, h93, h123, h125, h61, h60, h62, h44, h59⟩ := h
    rw [XC_s]
    simp (disch := first | omega | exact cI _ | exact cR _ | exact cK | exact cU | exact cO _ | exact cL _) only [oS, uS.2, Nat.reduceAdd, Nat.reduceSub, Nat.reduceMul, Nat.reduceLeDiff, Nat.reduceEqDiff, Nat.add_sub_cancel, xS, gS, nL, nS, dS, FX9_isSignByte, mX9_isSignByte, zX9_isSignByte, h43, h45, h42, h47, h37, h40, h41, h91, h93, h123, h125, h61, h60, h62, h44, h59]
theorem t_word1 {p l : Nat} (hm : MA G M) (ht : TX G M n bf) : ∀ f k, p + k + f = n → (∀ i, i < k → 97 ≤ bz bf n (p + i) ∧ bz bf n (p + i) ≤ 122) → XL xms (d + 1 + 1) 105 14 [.ref M, .int (nI l), .long (cdL bf n p k), xjk, .int (nI k), xjk, xjk] [] (Sfi G 39 M (nI (p + k))) Q = XL xms (d + 1 + 1) 105 74 [.ref M, .int (nI l), .long (cdL bf n p (lgo bf n f (p + k) - p)), xjk, .int (nI (lgo bf n f (p + k) - p)), xjk, xjk] [] (Sfi G 39 M (nI (lgo bf n f (p + k)))) Q := by
  have h1000 := ht.2.1
  intro f
  induction f with
  | zero =>
    intro k hk hl
    have hm' : MA (Sfi G 39 M (nI (p + k))) M := hm
    have ht' : TX (Sfi G 39 M (nI (p + k))) M n bf := ht
    have e : bz bf n (p + k) = 0 := bz_out (by omega)
    rw [fX9_wordOrName_14]
    simp (disch := first | omega | exact cI _ | exact cR _ | exact cK | exact cU | exact cO _ | exact cL _) only [oS, uS.2, Nat.reduceAdd, Nat.reduceSub, Nat.reduceMul, Nat.reduceLeDiff, Nat.reduceEqDiff, Nat.add_sub_cancel, xS, gS, nL, nS, dS, fX9_wordOrName_54, fX9_wordOrName_57, mX9_wordOrName, zX9_wordOrName, t_isLetter hm' ht' (show p + k < 2000 by omega), hm.1, e, lgo]
    rw [Nat.add_sub_cancel_left]
  | succ f ih =>
    intro k hk hl
    have hm' : MA (Sfi G 39 M (nI (p + k))) M := hm
    have ht' : TX (Sfi G 39 M (nI (p + k))) M n bf := ht
    have b256 := bz_lt (i := p + k) (fun i hi => (ht.2.2 i hi).2)
    rw [fX9_wordOrName_14]
    by_cases c : 97 ≤ bz bf n (p + k) ∧ bz bf n (p + k) ≤ 122
    · have ih' := ih (k + 1) (by omega) (fun i hi => by
        by_cases e : i = k
        · rw [e]; exact c
        · exact hl i (by omega))
      by_cases k12 : k < 12
      · simp (disch := first | omega | exact cI _ | exact cR _ | exact cK | exact cU | exact cO _ | exact cL _) only [oS, uS.2, Nat.reduceAdd, Nat.reduceSub, Nat.reduceMul, Nat.reduceLeDiff, Nat.reduceEqDiff, Nat.add_sub_cancel, xS, gS, nL, nS, dS, fX9_wordOrName_54, fX9_wordOrName_57, mX9_wordOrName, zX9_wordOrName, t_isLetter hm' ht' (show p + k < 2000 by omega), t_byteAt hm' ht' (show p + k < 2000 by omega), hm.1, c, lgo, k12]
        have e1 : cdL bf n p k * 32 + (nI (bz bf n (p + k))).toInt64 - 96 = cdL bf n p (k + 1) := by
          unfold cdL
          rw [if_pos (by omega), if_pos (by omega), nI_l (by omega), show (32 : Int64) = lN 32 from rfl, show (96 : Int64) = lN 96 from rfl, lN_mul, lN_add, lN_sub (by omega)]
          congr 1
          show _ = cdv bf n p k * 32 + (bz bf n (p + k) - 96)
          omega
        rw [e1, Sfi_s]
        exact ih'
      · simp (disch := first | omega | exact cI _ | exact cR _ | exact cK | exact cU | exact cO _ | exact cL _) only [oS, uS.2, Nat.reduceAdd, Nat.reduceSub, Nat.reduceMul, Nat.reduceLeDiff, Nat.reduceEqDiff, Nat.add_sub_cancel, xS, gS, nL, nS, dS, fX9_wordOrName_54, fX9_wordOrName_57, mX9_wordOrName, zX9_wordOrName, t_isLetter hm' ht' (show p + k < 2000 by omega), hm.1, c, lgo]
        have e1 : cdL bf n p (k + 1) = -1 := by
          unfold cdL
          rw [if_neg (by omega)]
        rw [e1] at ih'
        rw [Sfi_s]
        exact ih'
    · simp (disch := first | omega | exact cI _ | exact cR _ | exact cK | exact cU | exact cO _ | exact cL _) only [oS, uS.2, Nat.reduceAdd, Nat.reduceSub, Nat.reduceMul, Nat.reduceLeDiff, Nat.reduceEqDiff, Nat.add_sub_cancel, xS, gS, nL, nS, dS, fX9_wordOrName_54, fX9_wordOrName_57, mX9_wordOrName, zX9_wordOrName, t_isLetter hm' ht' (show p + k < 2000 by omega), hm.1, c, lgo]
      rw [Nat.add_sub_cancel_left]
theorem t_word2 {l kk : Nat} {c : Int64} (hm : MA G M) (hw : WL G M) : ∀ f k, k + f = 21 → XL xms (d + 1 + 1 + 1) 105 98 [.ref M, .int (nI l), .long c, xjk, .int (nI kk), .int (nI k), xjk] [] (Sfi (Sfi G 40 M (nI 2)) 42 M (twf c k)) Q = Q (.inl none) (Sfi (Sfi G 40 M (nI 2)) 42 M (twf c 21)) := by
  intro f
  unfold MA at hm
  induction f with
  | zero =>
    intro k hk
    have e : k = 21 := by omega
    subst e
    rw [fX9_wordOrName_98]
    simp (disch := first | omega | exact cI _ | exact cR _ | exact cK | exact cU | exact cO _ | exact cL _) only [oS, uS.2, Nat.reduceAdd, Nat.reduceSub, Nat.reduceMul, Nat.reduceLeDiff, Nat.reduceEqDiff, Nat.add_sub_cancel, xS, gS, nL, nS, dS, fX9_wordOrName_136, mX9_wordOrName, zX9_wordOrName, hm]
  | succ f ih =>
    intro k hk
    have ih' := ih (k + 1) (by omega)
    have hk2 := hw k (by omega)
    rw [fX9_wordOrName_98]
    by_cases e : lN (twL.getD k 0) = c
    · have e2 : twf c (k + 1) = nI k := if_pos e
      rw [e2] at ih'
      simp (disch := first | omega | exact cI _ | exact cR _ | exact cK | exact cU | exact cO _ | exact cL _) only [oS, uS.2, Nat.reduceAdd, Nat.reduceSub, Nat.reduceMul, Nat.reduceLeDiff, Nat.reduceEqDiff, Nat.add_sub_cancel, xS, gS, nL, nS, dS, fX9_wordOrName_123, fX9_wordOrName_127, mX9_wordOrName, zX9_wordOrName, hm, hk2, lcm_0]
      rw [if_neg (not_not_intro e), Sfi_s]
      exact ih'
    · have e2 : twf c (k + 1) = twf c k := if_neg e
      rw [e2] at ih'
      simp (disch := first | omega | exact cI _ | exact cR _ | exact cK | exact cU | exact cO _ | exact cL _) only [oS, uS.2, Nat.reduceAdd, Nat.reduceSub, Nat.reduceMul, Nat.reduceLeDiff, Nat.reduceEqDiff, Nat.add_sub_cancel, xS, gS, nL, nS, dS, fX9_wordOrName_123, fX9_wordOrName_127, mX9_wordOrName, zX9_wordOrName, hm, hk2, lcm_0]
      rw [if_pos e, Sfi_s]
      exact ih'
theorem t_word3 {l kk e b : Nat} {c : Int64} (hm : MA G M) (ht : TX G M n bf) (ha : Gfi G 39 M = nI e) (hen : e ≤ n) (hb : b < 2) : XL xms (d + 1 + 1 + 1) 105 172 [.ref M, .int (nI l), .long c, xjk, .int (nI kk), xjk, xjk] [.int (nI b)] G Q = Q (.inl none) (Sfi (Sfi (Sfi (Sfi G 43 M (nI (dva bf n e (min 4 (dgo bf n (n - e) e - e))))) 39 M (nI (dgo bf n (n - e) e))) 40 M (if b = 1 ∧ dgo bf n (n - e) e - e < 3 then nI 3 else nI 1)) 42 M (nI l)) := by
  have h1000 := ht.2.1
  obtain ⟨b1, b2, b3⟩ := dgo_b (bf := bf) (n := n) (n - e) e
  have b2 := b2 hen
  by_cases hb1 : b = 1
  · subst hb1
    by_cases h3 : dgo bf n (n - e) e - e < 3
    · rw [if_pos ⟨rfl, h3⟩]
      simp (disch := first | omega | exact cI _ | exact cR _ | exact cK | exact cU | exact cO _ | exact cL _) only [oS, uS.2, Nat.reduceAdd, Nat.reduceSub, Nat.reduceMul, Nat.reduceLeDiff, Nat.reduceEqDiff, Nat.add_sub_cancel, xS, gS, nL, nS, dS, fX9_wordOrName_172, fX9_wordOrName_196, fX9_wordOrName_197, mX9_wordOrName, zX9_wordOrName, t_digits hm ht ha hen, hm.1, h3]
    · rw [if_neg (fun q => h3 q.2)]
      simp (disch := first | omega | exact cI _ | exact cR _ | exact cK | exact cU | exact cO _ | exact cL _) only [oS, uS.2, Nat.reduceAdd, Nat.reduceSub, Nat.reduceMul, Nat.reduceLeDiff, Nat.reduceEqDiff, Nat.add_sub_cancel, xS, gS, nL, nS, dS, fX9_wordOrName_172, fX9_wordOrName_196, fX9_wordOrName_197, mX9_wordOrName, zX9_wordOrName, t_digits hm ht ha hen, hm.1, h3]
  · have hb0 : b = 0 := by omega
    subst hb0
    rw [if_neg (by omega)]
    simp (disch := first | omega | exact cI _ | exact cR _ | exact cK | exact cU | exact cO _ | exact cL _) only [oS, uS.2, Nat.reduceAdd, Nat.reduceSub, Nat.reduceMul, Nat.reduceLeDiff, Nat.reduceEqDiff, Nat.add_sub_cancel, xS, gS, nL, nS, dS, fX9_wordOrName_172, fX9_wordOrName_196, fX9_wordOrName_197, mX9_wordOrName, zX9_wordOrName, t_digits hm ht ha hen, hm.1]
theorem t_word {p : Nat} (hm : MA G M) (ht : TX G M n bf) (hw : WL G M) (ha : Gfi G 39 M = nI p) (hp : p < n) (hl : 97 ≤ bf p ∧ bf p ≤ 122) (hq : ∀ G', YF M G G' → Gfi G' 39 M = nI (tkA bf n p).2.2.2 → tokR (tkA bf n p) (Gfi G' 40 M) (Gfi G' 42 M) (Gfi G' 43 M) → Gfi G' 41 M = Gfi G 41 M → Q (.inl none) G') : XC xms (d + 1 + 1 + 1 + 1) 105 [.ref M] G Q := by
  have h1000 := ht.2.1
  have h256 : ∀ i, bz bf n i < 256 := fun i => bz_lt (fun i hi => (ht.2.2 i hi).2)
  have ebz : bz bf n p = bf p := if_pos hp
  have l0 := t_word1 (d := d + 1) (p := p) (l := bz bf n p) (Q := Q) hm ht (n - p) 0 (by omega) (fun i hi => absurd hi (Nat.not_lt_zero i))
  have e0 : cdL bf n p 0 = 0 := rfl
  simp only [e0, Nat.add_zero, Sfi_i ha] at l0
  obtain ⟨b1, b2, b3⟩ := lgo_b (bf := bf) (n := n) (n - p) p
  have b2 := b2 (by omega)
  have be : p < lgo bf n (n - p) p := by
    obtain ⟨f, hf⟩ : ∃ f, n - p = f + 1 := ⟨n - p - 1, by omega⟩
    rw [hf]
    unfold lgo
    rw [ebz, if_pos hl]
    have := (lgo_b (bf := bf) (n := n) f (p + 1)).1
    omega
  have hall : ∀ f a, (∀ i, a ≤ i → i < lgo bf n f a → 97 ≤ bz bf n i ∧ bz bf n i ≤ 122) := by
    intro f
    induction f with
    | zero => intro a i h1 h2; unfold lgo at h2; omega
    | succ f ih =>
      intro a i h1 h2
      unfold lgo at h2
      split at h2
      · next h =>
        by_cases e : i = a
        · rw [e]; exact h
        · exact ih (a + 1) i (by omega) h2
      · omega
  have hall := hall (n - p) p
  have htk : tkA bf n p = (if 48 ≤ bz bf n (lgo bf n (n - p) p) ∧ bz bf n (lgo bf n (n - p) p) ≤ 57 then
      (if 2 < dgo bf n (n - lgo bf n (n - p) p) (lgo bf n (n - p) p) - lgo bf n (n - p) p then 1 else if 1 < lgo bf n (n - p) p - p then 1 else nmK (bf p), p, dva bf n (lgo bf n (n - p) p) (min 2 (dgo bf n (n - lgo bf n (n - p) p) (lgo bf n (n - p) p) - lgo bf n (n - p) p)), dgo bf n (n - lgo bf n (n - p) p) (lgo bf n (n - p) p))
    else match (if lgo bf n (n - p) p - p ≤ 12 then wix wcs (cdv bf n p (lgo bf n (n - p) p - p)) 0 else none) with
      | some w => (2, p, w, lgo bf n (n - p) p)
      | none => (1, p, 0, lgo bf n (n - p) p)) := by
    unfold tkA
    rw [if_neg (by omega), if_pos hl]
    rfl
  generalize lgo bf n (n - p) p = e at *
  rw [htk] at hq
  rw [XC_s]
  simp (disch := first | omega | exact cI _ | exact cR _ | exact cK | exact cU | exact cO _ | exact cL _) only [oS, uS.2, Nat.reduceAdd, Nat.reduceSub, Nat.reduceMul, Nat.reduceLeDiff, Nat.reduceEqDiff, Nat.add_sub_cancel, xS, gS, nL, nS, dS, fX9_wordOrName_0, mX9_wordOrName, zX9_wordOrName, t_byteAt hm ht (show p < 2000 by omega), hm.1, ha]
  rw [l0]
  have hm' : MA (Sfi G 39 M (nI e)) M := hm
  have ht' : TX (Sfi G 39 M (nI e)) M n bf := ht
  have y1 : YF M G (Sfi G 39 M (nI e)) := YF.refl.fi (by omega)
  rw [fX9_wordOrName_74]
  by_cases c : 48 ≤ bz bf n e ∧ bz bf n e ≤ 57
  · have ha' : Gfi (Sfi G 39 M (nI e)) 39 M = nI e := if_pos ⟨rfl, rfl⟩
    rw [if_pos c] at hq
    obtain ⟨c1, c2, c3⟩ := dgo_b (bf := bf) (n := n) (n - e) e
    have c2 := c2 b2
    have d4 := dva_lt (n := n) (a := e) h256
    have fin : ∀ b, b < 2 → (b = 1 ↔ (e - p = 1 ∧ (bz bf n p = 107 ∨ bz bf n p = 109 ∨ bz bf n p = 118 ∨ bz bf n p = 114))) → XL xms (d + 1 + 1 + 1) 105 172 [.ref M, .int (nI (bz bf n p)), .long (cdL bf n p (e - p)), xjk, .int (nI (e - p)), xjk, xjk] [.int (nI b)] (Sfi G 39 M (nI e)) Q := by
      intro b hb hbi
      rw [t_word3 hm' ht' ha' b2 hb]
      refine hq _ ((((y1.fi (by omega)).fi (by omega)).fi (by omega)).fi (by omega)) ?_ ?_ ?_
      · simp (disch := first | omega | exact cI _ | exact cR _ | exact cK | exact cU | exact cO _ | exact cL _) only [uS, Nat.reduceAdd, Nat.reduceSub, Nat.reduceMul, Nat.reduceLeDiff, Nat.reduceEqDiff, Nat.add_sub_cancel, gS, nL, nS, dS, ha']
      · have g40 : Gfi (Sfi (Sfi (Sfi (Sfi (Sfi G 39 M (nI e)) 43 M (nI (dva bf n e (min 4 (dgo bf n (n - e) e - e))))) 39 M (nI (dgo bf n (n - e) e))) 40 M (if b = 1 ∧ dgo bf n (n - e) e - e < 3 then nI 3 else nI 1)) 42 M (nI (bz bf n p))) 40 M = (if b = 1 ∧ dgo bf n (n - e) e - e < 3 then nI 3 else nI 1) := by simp (disch := first | omega | exact cI _ | exact cR _ | exact cK | exact cU | exact cO _ | exact cL _) only [uS, Nat.reduceAdd, Nat.reduceSub, Nat.reduceMul, Nat.reduceLeDiff, Nat.reduceEqDiff, Nat.add_sub_cancel, gS, nL, nS, dS, ha']
        have g42 : Gfi (Sfi (Sfi (Sfi (Sfi (Sfi G 39 M (nI e)) 43 M (nI (dva bf n e (min 4 (dgo bf n (n - e) e - e))))) 39 M (nI (dgo bf n (n - e) e))) 40 M (if b = 1 ∧ dgo bf n (n - e) e - e < 3 then nI 3 else nI 1)) 42 M (nI (bz bf n p))) 42 M = nI (bz bf n p) := by simp (disch := first | omega | exact cI _ | exact cR _ | exact cK | exact cU | exact cO _ | exact cL _) only [uS, Nat.reduceAdd, Nat.reduceSub, Nat.reduceMul, Nat.reduceLeDiff, Nat.reduceEqDiff, Nat.add_sub_cancel, gS, nL, nS, dS, ha']
        have g43 : Gfi (Sfi (Sfi (Sfi (Sfi (Sfi G 39 M (nI e)) 43 M (nI (dva bf n e (min 4 (dgo bf n (n - e) e - e))))) 39 M (nI (dgo bf n (n - e) e))) 40 M (if b = 1 ∧ dgo bf n (n - e) e - e < 3 then nI 3 else nI 1)) 42 M (nI (bz bf n p))) 43 M = nI (dva bf n e (min 4 (dgo bf n (n - e) e - e))) := by simp (disch := first | omega | exact cI _ | exact cR _ | exact cK | exact cU | exact cO _ | exact cL _) only [uS, Nat.reduceAdd, Nat.reduceSub, Nat.reduceMul, Nat.reduceLeDiff, Nat.reduceEqDiff, Nat.add_sub_cancel, gS, nL, nS, dS, ha']
        rw [g40, g42, g43, ebz]
        rw [ebz] at hbi
        generalize dgo bf n (n - e) e = f at *
        by_cases f3 : 2 < f - e
        · rw [if_pos f3, tokR_1]
          exact Or.inl (if_neg (by omega))
        rw [if_neg f3]
        by_cases k1 : 1 < e - p
        · rw [if_pos k1, tokR_1]
          exact Or.inl (if_neg (by omega))
        rw [if_neg k1]
        have ek : e - p = 1 := by omega
        have em : min 4 (f - e) = min 2 (f - e) := by omega
        rw [em]
        have d5 := d4 (min 2 (f - e)) (by omega)
        unfold nmK
        by_cases q1 : bf p = 107
        · rw [if_pos q1, tokR_3]
          exact ⟨if_pos ⟨hbi.mpr ⟨ek, Or.inl q1⟩, by omega⟩, by rw [q1], rfl, d5⟩
        rw [if_neg q1]
        by_cases q2 : bf p = 109
        · rw [if_pos q2, tokR_4]
          exact ⟨if_pos ⟨hbi.mpr ⟨ek, Or.inr (Or.inl q2)⟩, by omega⟩, by rw [q2], rfl, d5⟩
        rw [if_neg q2]
        by_cases q3 : bf p = 118
        · rw [if_pos q3, tokR_5]
          exact ⟨if_pos ⟨hbi.mpr ⟨ek, Or.inr (Or.inr (Or.inl q3))⟩, by omega⟩, by rw [q3], rfl, d5⟩
        rw [if_neg q3]
        by_cases q4 : bf p = 114
        · rw [if_pos q4, tokR_6]
          exact ⟨if_pos ⟨hbi.mpr ⟨ek, Or.inr (Or.inr (Or.inr q4))⟩, by omega⟩, by rw [q4], rfl, d5⟩
        rw [if_neg q4, tokR_1]
        exact Or.inl (if_neg (by omega))
      · simp (disch := first | omega | exact cI _ | exact cR _ | exact cK | exact cU | exact cO _ | exact cL _) only [uS, Nat.reduceAdd, Nat.reduceSub, Nat.reduceMul, Nat.reduceLeDiff, Nat.reduceEqDiff, Nat.add_sub_cancel, gS, nL, nS, dS, ha']
    have x1 := fin 1 (by omega)
    have x0 := fin 0 (by omega)
    simp (disch := first | omega | exact cI _ | exact cR _ | exact cK | exact cU | exact cO _ | exact cL _) only [oS, uS.2, Nat.reduceAdd, Nat.reduceSub, Nat.reduceMul, Nat.reduceLeDiff, Nat.reduceEqDiff, Nat.add_sub_cancel, xS, gS, nL, nS, dS, fX9_wordOrName_137, fX9_wordOrName_167, fX9_wordOrName_171, mX9_wordOrName, zX9_wordOrName, t_isDigit hm' ht' (show e < 2000 by omega), hm.1, c]
    repeat' split
    all_goals first
      | exact x1 (by omega)
      | exact x0 (by omega)
  · have w2 := t_word2 (d := d) (l := bz bf n p) (kk := e - p) (c := cdL bf n p (e - p)) (Q := Q) hm' (show WL (Sfi G 39 M (nI e)) M from hw) 21 0 (by omega)
    simp (disch := first | omega | exact cI _ | exact cR _ | exact cK | exact cU | exact cO _ | exact cL _) only [oS, uS.2, Nat.reduceAdd, Nat.reduceSub, Nat.reduceMul, Nat.reduceLeDiff, Nat.reduceEqDiff, Nat.add_sub_cancel, xS, gS, nL, nS, dS, fX9_wordOrName_137, mX9_wordOrName, zX9_wordOrName, t_isDigit hm' ht' (show e < 2000 by omega), hm.1, c]
    have w3 : XL xms (d + 1 + 1 + 1) 105 98 [.ref M, .int (nI (bz bf n p)), .long (cdL bf n p (e - p)), xjk, .int (nI (e - p)), .int (nI 0), xjk] [] (Sfi (Sfi (Sfi G 39 M (nI e)) 40 M (nI 2)) 42 M N1) Q = _ := w2
    rw [w3]
    rw [if_neg c] at hq
    refine hq _ ((y1.fi (by omega)).fi (by omega)) ?_ ?_ ?_
    · have : (match (if e - p ≤ 12 then wix wcs (cdv bf n p (e - p)) 0 else none) with
        | some w => ((2, p, w, e) : Tok)
        | none => (1, p, 0, e)).2.2.2 = e := by split <;> rfl
      rw [this]
      simp (disch := first | omega | exact cI _ | exact cR _ | exact cK | exact cU | exact cO _ | exact cL _) only [uS, Nat.reduceAdd, Nat.reduceSub, Nat.reduceMul, Nat.reduceLeDiff, Nat.reduceEqDiff, Nat.add_sub_cancel, gS, nL, nS, dS, hm.1]
    · have g40 : Gfi (Sfi (Sfi (Sfi G 39 M (nI e)) 40 M (nI 2)) 42 M (twf (cdL bf n p (e - p)) 21)) 40 M = nI 2 := by simp (disch := first | omega | exact cI _ | exact cR _ | exact cK | exact cU | exact cO _ | exact cL _) only [uS, Nat.reduceAdd, Nat.reduceSub, Nat.reduceMul, Nat.reduceLeDiff, Nat.reduceEqDiff, Nat.add_sub_cancel, gS, nL, nS, dS, hm.1]
      have g42 : Gfi (Sfi (Sfi (Sfi G 39 M (nI e)) 40 M (nI 2)) 42 M (twf (cdL bf n p (e - p)) 21)) 42 M = twf (cdL bf n p (e - p)) 21 := by simp (disch := first | omega | exact cI _ | exact cR _ | exact cK | exact cU | exact cO _ | exact cL _) only [uS, Nat.reduceAdd, Nat.reduceSub, Nat.reduceMul, Nat.reduceLeDiff, Nat.reduceEqDiff, Nat.add_sub_cancel, gS, nL, nS, dS, hm.1]
      rw [g40, g42]
      unfold cdL
      by_cases k12 : e - p ≤ 12
      · rw [if_pos k12, if_pos k12]
        have hc := cdv_lt (bf := bf) (n := n) (p := p) (e - p) (fun i hi => (hall (p + i) (by omega) (by omega)).2)
        have hc2 : 32 ^ (e - p) ≤ 32 ^ 12 := Nat.pow_le_pow_right (by decide) k12
        have hc3 : (32 : Nat) ^ 12 < 9223372036854775808 := by decide
        have hw := twf_w (c := cdv bf n p (e - p)) (by omega)
        cases hx : wix wcs (cdv bf n p (e - p)) 0 with
        | some w =>
          rw [hx] at hw
          dsimp only at hw ⊢
          rw [tokR_2]
          exact ⟨rfl, hw.1, hw.2⟩
        | none =>
          rw [hx] at hw
          dsimp only at hw ⊢
          rw [tokR_1]
          exact Or.inr ⟨rfl, hw⟩
      · rw [if_neg k12, if_neg k12]
        dsimp only
        rw [tokR_1]
        exact Or.inr ⟨rfl, twf_m⟩
    · simp (disch := first | omega | exact cI _ | exact cR _ | exact cK | exact cU | exact cO _ | exact cL _) only [uS, Nat.reduceAdd, Nat.reduceSub, Nat.reduceMul, Nat.reduceLeDiff, Nat.reduceEqDiff, Nat.add_sub_cancel, gS, nL, nS, dS, hm.1]
end TWX
