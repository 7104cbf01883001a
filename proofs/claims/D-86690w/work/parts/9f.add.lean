set_option maxRecDepth 100000
section ADD
variable {D : Nat} {G : XG} {Q : (Option Value ⊕ Nat) → XG → Prop}
/-- a guard: m catches in rows L wide -/
def GU (G : XG) (z m ka ca L : Nat) : Prop := Gkd G z = 32 ∧ Gfi G 95 z = nI m ∧ Gfr G 1136 z = some ka ∧ Gkd G ka = 100 ∧ Gln G ka = L ∧ Gfr G 1137 z = some ca ∧ Gkd G ca = 105 ∧ Gln G ca = L ∧ m ≤ L ∧ L ≤ 400 ∧ z < Gtp G ∧ ka < Gtp G ∧ ca < Gtp G
def adA (G : XG) (z m ka ca : Nat) (k : Int32) : XG := Sfi (Sar (Sai G ka m k) ca m none) 95 z (nI (m + 1))
def adB (G : XG) (z m ka ca : Nat) : XG := Sfr (Rar (Sna (Sfr (Rai (Sna G 0 (2 * (m + 1))) (Gtp G) (va_cpy (Gai G ka) (fun _ => 0) 0 0 m)) 1136 z (some (Gtp G))) 5 (2 * (m + 1))) (Gtp G + 1) (va_cpy (Gar G ca) (fun _ => none) 0 0 m)) 1137 z (some (Gtp G + 1))
theorem d_adds1 {z m ka ca L : Nat} {k : Int32} (hD : 2 ≤ D) (h : GU G z m ka ca L) (hm : m < L) : XC xms D 258 [.ref z, .int k, .null] G Q = Q (.inl none) (adA G z m ka ca k) := by
  obtain ⟨d, rfl⟩ : ∃ d, D = d + 1 + 1 := ⟨D - 2, by omega⟩
  obtain ⟨h1, h2, h3, h4, h5, h6, h7, h8, h9, h10, h11, h12, h13⟩ := h
  have hx : ∀ G, xrfk G [104] none = true := fun _ => rfl
  have hne : (m = L) = False := eq_false (by omega)
  unfold adA
  rw [XC_s]
  simp (disch := first | omega | exact cI _ | exact cR _ | exact cK | exact cU | exact cO _ | exact cL _) only [oS, uS.2, Nat.reduceAdd, Nat.reduceSub, Nat.reduceMul, Nat.reduceLeDiff, Nat.reduceEqDiff, Nat.add_sub_cancel, xS, gS, nL, nS, dS, fX31_adds_0, fX31_adds_57, mX31_adds, zX31_adds, h1, h2, h3, h4, h5, h6, h7, h8, hne, hx, hm]
theorem d_adds2 {z m ka ca : Nat} {k : Int32} (hD : 2 ≤ D) (h : GU G z m ka ca m) (he : ∀ i, i < m → ∃ b, Gar G ca i = some b ∧ Gkd G b = 104 ∧ b < Gtp G) : XC xms D 258 [.ref z, .int k, .null] G Q = Q (.inl none) (adA (adB G z m ka ca) z m (Gtp G) (Gtp G + 1) k) := by
  obtain ⟨d, rfl⟩ : ∃ d, D = d + 1 + 1 := ⟨D - 2, by omega⟩
  obtain ⟨h1, h2, h3, h4, h5, h6, h7, h8, h9, h10, h11, h12, h13⟩ := h
  have hx : ∀ G, xrfk G [104] none = true := fun _ => rfl
  have n1 : (z = Gtp G) = False := eq_false (by omega)
  have n2 : (ka = Gtp G) = False := eq_false (by omega)
  have n3 : (ca = Gtp G) = False := eq_false (by omega)
  have n4 : (z = Gtp G + 1) = False := eq_false (by omega)
  have n5 : (ca = Gtp G + 1) = False := eq_false (by omega)
  have hw := fun Q => d_wide (D := d + 1) (Q := Q) (m := m + 1) (by omega) h4 h5 h12 (by omega) (by omega)
  have w1 : wdA G ka m (m + 1) = Gtp G := if_neg (by omega)
  have w2 : wdG G ka m (m + 1) = Rai (Sna G 0 (2 * (m + 1))) (Gtp G) (va_cpy (Gai G ka) (fun _ => 0) 0 0 m) := if_neg (by omega)
  rw [w1, w2] at hw
  have hm : m < 2 * (m + 1) := by omega
  have q1 : ∀ (G1 : XG) (n : Nat), Gar (Sna G1 5 n) (Gtp G1) = fun _ => none := fun G1 n => funext fun i => by rw [h_SnaGar, if_pos rfl]
  have q2 : Gar (Sna (Sfr (Rai (Sna G 0 (2 * (m + 1))) (Gtp G) (va_cpy (Gai G ka) (fun _ => nI 0) 0 0 m)) 1136 z (some (Gtp G))) 5 (2 * (m + 1))) (Gtp G + 1) = fun _ => none := q1 (Sfr (Rai (Sna G 0 (2 * (m + 1))) (Gtp G) (va_cpy (Gai G ka) (fun _ => nI 0) 0 0 m)) 1136 z (some (Gtp G))) _
  have q3 : (∀ i, i < m → xrfk (Sna (Sfr (Rai (Sna G 0 (2 * (m + 1))) (Gtp G) (va_cpy (Gai G ka) (fun _ => nI 0) 0 0 m)) 1136 z (some (Gtp G))) 5 (2 * (m + 1))) [104] (Gar G ca (0 + i)) = true) = True := by
    refine eq_true (fun i hi => ?_)
    obtain ⟨b, b1, b2, b3⟩ := he i hi
    rw [Nat.zero_add, b1]
    have b4 : Gkd (Sna (Sfr (Rai (Sna G 0 (2 * (m + 1))) (Gtp G) (va_cpy (Gai G ka) (fun _ => nI 0) 0 0 m)) 1136 z (some (Gtp G))) 5 (2 * (m + 1))) b = 104 := by
      have m1 : (b = Gtp G) = False := eq_false (by omega)
      have m2 : (b = Gtp G + 1) = False := eq_false (by omega)
      simp (disch := first | omega | exact cI _ | exact cR _ | exact cK | exact cU | exact cO _ | exact cL _) only [uS, Nat.reduceAdd, Nat.reduceSub, Nat.reduceMul, Nat.reduceLeDiff, Nat.reduceEqDiff, Nat.add_sub_cancel, gS, nL, nS, dS, m1, m2, b2]
    have b5 : ∀ G1 : XG, Gkd G1 b = 104 → xrfk G1 [104] (some b) = true := by
      intro G1 h
      show decide (Gkd G1 b ∈ [104]) = true
      rw [h]
      rfl
    exact b5 _ b4
  have q4 : Gar (Sna (Sfr (Rai (Sna G 0 (2 * (m + 1))) (Gtp G) (va_cpy (Gai G ka) (fun _ => nI 0) 0 0 m)) 1136 z (some (Gtp G))) 5 (2 * (m + 1))) ca = Gar G ca := by
    refine funext fun i => ?_
    rw [h_SnaGar, if_neg (by show ¬ ca = Gtp G + 1; omega)]
    show Gar (Sna G 0 (2 * (m + 1))) ca i = _
    rw [h_SnaGar, if_neg (by omega)]
  unfold adA adB
  rw [XC_s]
  simp (disch := first | omega | exact cI _ | exact cR _ | exact cK | exact cU | exact cO _ | exact cL _) only [oS, uS.2, Nat.reduceAdd, Nat.reduceSub, Nat.reduceMul, Nat.reduceLeDiff, Nat.reduceEqDiff, Nat.add_sub_cancel, xS, gS, nL, nS, dS, fX31_adds_0, fX31_adds_57, mX31_adds, zX31_adds, h1, h2, h3, h4, h5, h6, h7, h8, n1, n2, n3, n4, n5, hw, hx, hm, q2, q3, q4]
end ADD
