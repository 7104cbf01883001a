set_option maxRecDepth 100000
section GUA
variable {D : Nat} {G : XG} {Q : (Option Value ⊕ Nat) → XG → Prop}
def n_guard (G : XG) (z : Nat) (n r : Int32) : XG := Sfi (Sfr (Sna (Sfr (Sna (Sfi G 82 z n) 0 2) 1136 z (some (Gtp G))) 5 2) 1137 z (some (Gtp G + 1))) 94 z r
theorem d_guard {z : Nat} {n r : Int32} (hD : 3 ≤ D) (hk : Gkd G z = 32) (hz : z < Gtp G) : XC xms D 257 [.ref z, .int n, .int r] G Q = Q (.inl none) (n_guard G z n r) := by
  obtain ⟨d, rfl⟩ : ∃ d, D = d + 1 + 1 + 1 := ⟨D - 3, by omega⟩
  have h1 : (z = Gtp G) = False := eq_false (by omega)
  have h2 : (z = Gtp G + 1) = False := eq_false (by omega)
  unfold n_guard
  rw [XC_s]
  simp (disch := first | omega | exact cI _ | exact cR _ | exact cK | exact cU | exact cO _ | exact cL _) only [oS, uS.2, Nat.reduceAdd, Nat.reduceSub, Nat.reduceMul, Nat.reduceLeDiff, Nat.reduceEqDiff, Nat.add_sub_cancel, xS, gS, nL, nS, dS, FX31_init, mX31_init, zX31_init, FX17_init, mX17_init, zX17_init, XC_s (k := 213), hk, h1, h2, va_rf_cat]
theorem d_method {z : Nat} {n : Int32} (hD : 2 ≤ D) (hk : Gkd G z = 12) : XC xms D 202 [.ref z, .int n] G Q = Q (.inl none) (Sfi G 76 z n) := by
  obtain ⟨d, rfl⟩ : ∃ d, D = d + 1 + 1 := ⟨D - 2, by omega⟩
  rw [XC_s]
  simp (disch := first | omega | exact cI _ | exact cR _ | exact cK | exact cU | exact cO _ | exact cL _) only [oS, uS.2, Nat.reduceAdd, Nat.reduceSub, Nat.reduceMul, Nat.reduceLeDiff, Nat.reduceEqDiff, Nat.add_sub_cancel, xS, gS, nL, nS, dS, FX11_init, mX11_init, zX11_init, hk]
/-- a row that is wide enough -/
def wdG (G : XG) (a L m : Nat) : XG := if m ≤ L then G else Rai (Sna G 0 (2 * m)) (Gtp G) (va_cpy (Gai G a) (fun _ => 0) 0 0 L)
def wdA (G : XG) (a L m : Nat) : Nat := if m ≤ L then a else Gtp G
theorem d_wide {a L m : Nat} (hD : 1 ≤ D) (hk : Gkd G a = 100) (hl : Gln G a = L) (ha : a < Gtp G) (hL : L < 10000) (hm : m < 10000) : XC xms D 267 [.ref a, .int (nI m)] G Q = Q (.inl (some (.ref (wdA G a L m)))) (wdG G a L m) := by
  obtain ⟨d, rfl⟩ : ∃ d, D = d + 1 := ⟨D - 1, by omega⟩
  unfold wdA wdG
  rw [XC_s]
  by_cases c : m ≤ L
  · simp (disch := first | omega | exact cI _ | exact cR _ | exact cK | exact cU | exact cO _ | exact cL _) only [oS, uS.2, Nat.reduceAdd, Nat.reduceSub, Nat.reduceMul, Nat.reduceLeDiff, Nat.reduceEqDiff, Nat.add_sub_cancel, xS, gS, nL, nS, dS, fX32_wide_0, mX32_wide, zX32_wide, hk, hl, c]
  · have h1 : (a = Gtp G) = False := eq_false (by omega)
    have h2 : Gai (Sna G 0 (2 * m)) (Gtp G) = fun _ => 0 := funext fun i => by rw [h_SnaGai, if_pos rfl]
    have h3 : Gai (Sna G 0 (2 * m)) a = Gai G a := funext fun i => by rw [h_SnaGai, if_neg (by omega)]
    simp (disch := first | omega | exact cI _ | exact cR _ | exact cK | exact cU | exact cO _ | exact cL _) only [oS, uS.2, Nat.reduceAdd, Nat.reduceSub, Nat.reduceMul, Nat.reduceLeDiff, Nat.reduceEqDiff, Nat.add_sub_cancel, xS, gS, nL, nS, dS, fX32_wide_0, fX32_wide_8, mX32_wide, zX32_wide, hk, hl, c, h1, h2, h3]
end GUA
