set_option maxRecDepth 100000
section RUN
variable {D r nm : Nat} {mA : Nat → Nat} {pl : Nat → Int32 → Int32} {B B' : Bk} {G G' : XG} {Q : (Option Value ⊕ Nat) → XG → Prop}
/-- what a walk keeps: all but ints of the run and the frames' methods -/
def YE (r : Nat) (G G' : XG) : Prop := (∀ g a, (g ≠ 1056 ∨ ¬ rgn r a) → Gfr G' g a = Gfr G g a) ∧ Gal G' = Gal G ∧ Gar G' = Gar G ∧ Gkd G' = Gkd G ∧ Gln G' = Gln G ∧ Gsv G' = Gsv G ∧ Gtp G' = Gtp G ∧ Gus G' = Gus G ∧ (∀ g a, ¬ rgn r a → Gfi G' g a = Gfi G g a) ∧ (∀ a i, ¬ rgn r a → Gai G' a i = Gai G a i) ∧ ∀ g a, 28 ≤ g → g ≤ 30 → Gfi G' g a = Gfi G g a
theorem YZ.ye (h : YZ (rgn r) G G') : YE r G G' := by
  obtain ⟨a1, a2, a3, a4, a5, a6, a7, a8, a9, a10, a11⟩ := h
  exact ⟨fun g a _ => by rw [a1], a2, a3, a4, a5, a6, a7, a8, a9, a10, a11⟩
theorem YE.refl : YE r G G := YZ.refl.ye
theorem YE.trans {G2 : XG} (h : YE r G G') (k : YE r G' G2) : YE r G G2 := by
  obtain ⟨a1, a2, a3, a4, a5, a6, a7, a8, a9, a10, a11⟩ := h
  obtain ⟨b1, b2, b3, b4, b5, b6, b7, b8, b9, b10, b11⟩ := k
  exact ⟨fun g a q => (b1 g a q).trans (a1 g a q), b2.trans a2, b3.trans a3, b4.trans a4, b5.trans a5, b6.trans a6, b7.trans a7, b8.trans a8, fun g a q => (b9 g a q).trans (a9 g a q), fun a i q => (b10 a i q).trans (a10 a i q), fun g a q q2 => (b11 g a q q2).trans (a11 g a q q2)⟩
theorem RL.ye (h : RL G r) (k : YE r G G') : RL G' r := by
  have e : ∀ g a, g ≠ 1056 → Gfr G' g a = Gfr G g a := fun g a q => k.1 g a (.inl q)
  obtain ⟨-, -, a3, a4, a5, -⟩ := k
  unfold RL RL0 RL1 at *
  simp (disch := decide) only [e, a3, a4, a5]
  exact h
theorem RS.ye (h : RS G r mA nm pl) (k : YE r G G') : RS G' r mA nm pl := by
  obtain ⟨h0, h2, h4, pa, n, pp, pt, pk, h5, ⟨q1, q2, q3, q4, q5, q6, q7, q8, q9⟩, h7, h8⟩ := h
  have hl := h0.ye k
  obtain ⟨a1, a2, a3, a4, a5, a6, a7, a8, a9, a10, -⟩ := k
  refine ⟨hl, fun m hm => ?_, h4, pa, n, pp, pt, pk, by rw [a1 _ _ (.inl (by decide))]; exact h5, ⟨by rw [a4]; exact q1, by rw [a9 16 pa (h8 pa (Nat.le_refl _) (by omega))]; exact q2, q3, by rw [a1 _ _ (.inl (by decide))]; exact q4, by rw [a1 _ _ (.inl (by decide))]; exact q5, by rw [a1 _ _ (.inl (by decide))]; exact q6, by rw [a4]; exact q7, by rw [a5]; exact q8, fun i hi => ?_⟩, h7, h8⟩
  · obtain ⟨e1, e2, e3⟩ := h2 m hm
    rw [a4, a9 76 (mA m) e3]
    exact ⟨e1, e2, e3⟩
  · rw [a10 (pa + 1) i (h8 _ (by omega) (by omega)), a10 (pa + 2) i (h8 _ (by omega) (by omega)), a10 (pa + 3) i (h8 _ (by omega) (by omega))]
    exact q9 i hi
/-- a frame begins -/
def FB (r k m : Nat) (x y : Int32) (G G' : XG) : Prop := YE r G G' ∧ (∀ i, i < 6 → Gai G' (r + 19 + 4 * k) i = if i = 0 then x else if i = 1 then y else 0) ∧ (∀ i, i < 3 → Gai G' (r + 20 + 4 * k) i = NN) ∧ Gfi G' 34 (r + 18 + 4 * k) = 0 ∧ Gfi G' 35 (r + 18 + 4 * k) = NN ∧ Gfi G' 36 (r + 18 + 4 * k) = Gfi G 77 m ∧ Gfr G' 1056 (r + 18 + 4 * k) = some m ∧ (∀ a, a ≠ r + 18 + 4 * k → ∀ g, Gfi G' g a = Gfi G g a ∧ Gfr G' g a = Gfr G g a) ∧ ∀ a, a ≠ r + 19 + 4 * k → a ≠ r + 20 + 4 * k → ∀ i, Gai G' a i = Gai G a i
theorem z8 {d k m : Nat} {x y : Int32} (hk : k < 12) : ∀ n i G, n + i = 6 → RL G r → (∀ G', Zf (r + 19 + 4 * k) i 6 0 G G' → XL xms d 96 29 [.ref (r + 18 + 4 * k), .ref m, .int x, .int y, .int (nI 6)] [] G' Q) → XL xms d 96 8 [.ref (r + 18 + 4 * k), .ref m, .int x, .int y, .int (nI i)] [] G Q := by
  intro n
  induction n with
  | zero =>
    intro i G hi hl hQ
    have e : i = 6 := by omega
    subst e
    have fin := hQ G Zf.refl
    rw [fX8_begin_8]
    simp (disch := first | omega | exact cI _ | exact cR _ | exact cK | exact cU | exact cO _ | exact cL _) only [oS, uS.2, Nat.reduceAdd, Nat.reduceSub, Nat.reduceMul, Nat.reduceLeDiff, Nat.reduceEqDiff, Nat.add_sub_cancel, xS, gS, nL, nS, dS, mX8_begin, zX8_begin, fin]
  | succ n ih =>
    intro i G hi hl hQ
    obtain ⟨-, q2, q3, q4, q5, q6, q7, -⟩ := hl.2 k hk
    have i80 : i < 6 := by omega
    have ih' := ih (i + 1) (Sai G (r + 19 + 4 * k) i (nI 0)) (by omega) (hl.xz (P := fun b => b = r + 19 + 4 * k) (YZ.ai rfl)) (fun G' hz => hQ G' (hz.step i80))
    rw [fX8_begin_8]
    simp (disch := first | omega | exact cI _ | exact cR _ | exact cK | exact cU | exact cO _ | exact cL _) only [oS, uS.2, Nat.reduceAdd, Nat.reduceSub, Nat.reduceMul, Nat.reduceLeDiff, Nat.reduceEqDiff, Nat.add_sub_cancel, xS, gS, nL, nS, dS, mX8_begin, zX8_begin, q2, q3, q6, q7, i80, ih']
theorem z32 {d k m : Nat} {x y : Int32} (hk : k < 12) : ∀ n i G, n + i = 3 → RL G r → (∀ G', Zf (r + 20 + 4 * k) i 3 NN G G' → XL xms d 96 53 [.ref (r + 18 + 4 * k), .ref m, .int x, .int y, .int (nI 3)] [] G' Q) → XL xms d 96 32 [.ref (r + 18 + 4 * k), .ref m, .int x, .int y, .int (nI i)] [] G Q := by
  intro n
  induction n with
  | zero =>
    intro i G hi hl hQ
    have e : i = 3 := by omega
    subst e
    have fin := hQ G Zf.refl
    rw [fX8_begin_32]
    simp (disch := first | omega | exact cI _ | exact cR _ | exact cK | exact cU | exact cO _ | exact cL _) only [oS, uS.2, Nat.reduceAdd, Nat.reduceSub, Nat.reduceMul, Nat.reduceLeDiff, Nat.reduceEqDiff, Nat.add_sub_cancel, xS, gS, nL, nS, dS, mX8_begin, zX8_begin, fin]
  | succ n ih =>
    intro i G hi hl hQ
    obtain ⟨-, q2, q3, q4, q5, q6, q7, q8, q9, -⟩ := hl.2 k hk
    have i80 : i < 3 := by omega
    have ih' := ih (i + 1) (Sai G (r + 20 + 4 * k) i NN) (by omega) (hl.xz (P := fun b => b = r + 20 + 4 * k) (YZ.ai rfl)) (fun G' hz => hQ G' (hz.step i80))
    rw [fX8_begin_32]
    simp (disch := first | omega | exact cI _ | exact cR _ | exact cK | exact cU | exact cO _ | exact cL _) only [oS, uS.2, Nat.reduceAdd, Nat.reduceSub, Nat.reduceMul, Nat.reduceLeDiff, Nat.reduceEqDiff, Nat.add_sub_cancel, xS, gS, nL, nS, dS, mX8_begin, zX8_begin, q2, q4, q8, q9, i80, ih']
theorem k_fbegin {k m : Nat} {x y : Int32} (hk : k < 12) (hl : RL G r) (hm : Gkd G m = 12) (hmr : ¬ rgn r m) (hD : 1 ≤ D) (h1 : ∀ G', FB r k m x y G G' → Q (.inl none) G') : XC xms D 96 [.ref (r + 18 + 4 * k), .ref m, .int x, .int y] G Q := by
  obtain ⟨d, rfl⟩ : ∃ d, D = d + 1 := ⟨D - 1, by omega⟩
  obtain ⟨-, q2, q3, q4, q5, q6, q7, q8, q9, -⟩ := hl.2 k hk
  obtain ⟨G1, hG1⟩ : ∃ G1, G1 = Sfr G 1056 (r + 18 + 4 * k) (some m) := ⟨_, rfl⟩
  have y1 : YE r G G1 := by
    rw [hG1]
    refine ⟨fun g a q => ?_, rfl, rfl, rfl, rfl, rfl, rfl, rfl, fun _ _ _ => rfl, fun _ _ _ => rfl, fun _ _ _ _ => rfl⟩
    rcases q with q | q
    · exact Sfr_o q
    · exact Sfr_b (fun e => q (by rw [e]; exact ⟨by omega, by omega⟩))
  have hl1 := hl.ye y1
  have z := z8 (d := d) (m := m) (x := x) (y := y) (Q := Q) hk 6 0 G1 (Nat.add_zero _) hl1 (fun G2 hz2 => by
    have y2 := hz2.2.2.1.mono (P' := rgn r) (fun a e => by rw [e]; exact ⟨by omega, by omega⟩)
    have hl2 := hl1.xz y2
    have z3 := z32 (d := d) (m := m) (x := x) (y := y) (Q := Q) hk 3 0 G2 (Nat.add_zero _) hl2 (fun G3 hz3 => by
      have y3 := hz3.2.2.1.mono (P' := rgn r) (fun a e => by rw [e]; exact ⟨by omega, by omega⟩)
      have hl3 := hl2.xz y3
      obtain ⟨-, p2, p3, p4, p5, p6, p7, p8, p9, -⟩ := hl3.2 k hk
      obtain ⟨G4, hG4⟩ : ∃ G4, G4 = Sfi (Sfi (Sfi (Sai (Sai G3 (r + 19 + 4 * k) 0 x) (r + 19 + 4 * k) 1 y) 34 (r + 18 + 4 * k) (nI 0)) 35 (r + 18 + 4 * k) NN) 36 (r + 18 + 4 * k) (Gfi G3 77 m) := ⟨_, rfl⟩
      have y4 : YZ (rgn r) G3 G4 := by
        rw [hG4]
        exact ((((YZ.ai ⟨by omega, by omega⟩).trans (YZ.ai ⟨by omega, by omega⟩)).trans (YZ.fi ⟨by omega, by omega⟩)).trans (YZ.fi ⟨by omega, by omega⟩)).trans (YZ.fi ⟨by omega, by omega⟩)
      have km : Gkd G3 m = 12 := by
        rw [y3.2.2.2.1, y2.2.2.2.1, y1.2.2.2.1]
        exact hm
      have e77 : Gfi G3 77 m = Gfi G 77 m := ((hz3.2.2.2 77 m).trans (hz2.2.2.2 77 m)).trans (by rw [hG1]; rfl)
      have fin := h1 G4 ⟨((y1.trans y2.ye).trans y3.ye).trans y4.ye, fun i hi => ?_, fun i hi => ?_, ?_, ?_, ?_, ?_, fun a ha g => ⟨?_, ?_⟩, fun a ha hb i => ?_⟩
      · rw [hG4] at fin
        simp (disch := first | omega | exact cI _ | exact cR _ | exact cK | exact cU | exact cO _ | exact cL _) only [oS, uS.2, Nat.reduceAdd, Nat.reduceSub, Nat.reduceMul, Nat.reduceLeDiff, Nat.reduceEqDiff, Nat.add_sub_cancel, xS, gS, nL, nS, dS, fX8_begin_53, mX8_begin, zX8_begin, p2, p3, p4, p6, p7, p8, p9, km, fin]
      · rw [hG4]
        show Gai (Sai (Sai G3 (r + 19 + 4 * k) 0 x) (r + 19 + 4 * k) 1 y) (r + 19 + 4 * k) i = _
        by_cases i1 : i = 1
        · rw [i1, if_neg (by decide), if_pos rfl]
          exact Sai_s
        rw [Sai_o (.inr i1)]
        by_cases i0 : i = 0
        · rw [i0, if_pos rfl]
          exact Sai_s
        rw [Sai_o (.inr i0), if_neg i0, if_neg i1, hz3.2.2.1.2.2.2.2.2.2.2.2.2.1 _ i (by omega)]
        exact hz2.1 i (Nat.zero_le _) hi
      · rw [hG4]
        show Gai (Sai (Sai G3 (r + 19 + 4 * k) 0 x) (r + 19 + 4 * k) 1 y) (r + 20 + 4 * k) i = _
        rw [Sai_o (.inl (by omega)), Sai_o (.inl (by omega))]
        exact hz3.1 i (Nat.zero_le _) hi
      · rw [hG4]
        exact (Sfi_o (by decide)).trans ((Sfi_o (by decide)).trans Sfi_S)
      · rw [hG4]
        exact (Sfi_o (by decide)).trans Sfi_S
      · rw [hG4]
        exact Sfi_S.trans e77
      · rw [y4.1, y3.1, y2.1, hG1]
        exact Sfr_s
      · have : Gfi G4 g a = Gfi G3 g a := by
          rw [hG4]
          exact (if_neg (fun q => ha q.2)).trans ((if_neg (fun q => ha q.2)).trans (if_neg (fun q => ha q.2)))
        rw [this, hz3.2.2.2, hz2.2.2.2, hG1]
        rfl
      · rw [y4.1, y3.1, y2.1, hG1]
        exact Sfr_b ha
      · have : Gai G4 a i = Gai G3 a i := by
          rw [hG4]
          exact (Sai_o (.inl ha)).trans (Sai_o (.inl ha))
        rw [this, hz3.2.2.1.2.2.2.2.2.2.2.2.2.1 a i hb, hz2.2.2.1.2.2.2.2.2.2.2.2.2.1 a i ha, hG1]
        rfl)
    simp (disch := first | omega | exact cI _ | exact cR _ | exact cK | exact cU | exact cO _ | exact cL _) only [oS, uS.2, Nat.reduceAdd, Nat.reduceSub, Nat.reduceMul, Nat.reduceLeDiff, Nat.reduceEqDiff, Nat.add_sub_cancel, xS, gS, nL, nS, dS, fX8_begin_29, mX8_begin, zX8_begin, z3])
  rw [hG1] at z
  rw [XC_s]
  simp (disch := first | omega | exact cI _ | exact cR _ | exact cK | exact cU | exact cO _ | exact cL _) only [oS, uS.2, Nat.reduceAdd, Nat.reduceSub, Nat.reduceMul, Nat.reduceLeDiff, Nat.reduceEqDiff, Nat.add_sub_cancel, xS, gS, nL, nS, dS, fX8_begin_0, mX8_begin, zX8_begin, q2, z]
end RUN
