set_option maxRecDepth 100000
section RUN
variable {D r nm : Nat} {mA : Nat → Nat} {pl : Nat → Int32 → Int32} {B B' : Bk} {G G' : XG} {Q : (Option Value ⊕ Nat) → XG → Prop}
theorem bEn_1 {m c : Nat} {x y : Int32} (h8 : c ≠ 8) (h10 : c ≠ 10) (h6 : c ≠ 600 + B.1 10) : (bEnter m x y B).1 c = B.1 c := (if_neg h10).trans ((if_neg h8).trans (if_neg h6))
theorem bEn_6 {m : Nat} {x y : Int32} : (bEnter m x y B).1 (600 + B.1 10) = m := by
  show (if 600 + B.1 10 = 10 then _ else if 600 + B.1 10 = 8 then _ else if 600 + B.1 10 = 600 + B.1 10 then m else _) = m
  rw [if_neg (by omega), if_neg (by omega), if_pos rfl]
theorem bEn_2 {m o i : Nat} {x y : Int32} (h : o < 18 + 4 * B.1 10 ∨ (o % 4 = 2 ∧ o ≠ 18 + 4 * B.1 10)) : (bEnter m x y B).2 o i = B.2 o i := by
  show (if o = 18 + 4 * B.1 10 ∧ i = 0 then NN else if o = 19 + 4 * B.1 10 ∧ i < 6 then (if i = 0 then x else if i = 1 then y else 0) else if o = 20 + 4 * B.1 10 ∧ i < 3 then NN else B.2 o i) = _
  rw [if_neg (by omega), if_neg (by omega), if_neg (by omega)]
/-- a method is under way -/
theorem k_enters {m : Nat} {x y : Int32} (h : RU G r mA nm pl B) (hI : B.1 10 = 12 → CB B ∧ B.1 4 < 401) (h10 : B.1 10 ≤ 12) (h8 : B.1 8 ≤ 12) (h401 : B.1 4 ≤ 401) (hm : m < nm) (hD : 4 ≤ D)
    (h0 : B.1 10 = 12 → ∀ G', RU G' r mA nm pl (bMakes 6 NN B) → Gfi G' 33 (r + 16) = nI (B.1 4) → YZ (rgb r) G G' → Q (.inr (r + 16)) G')
    (h1 : B.1 10 < 12 → ∀ G', RU G' r mA nm pl (bEnter m x y B) → YE r G G' → (∀ j i, Gai G' (r + 21 + 4 * j) i = Gai G (r + 21 + 4 * j) i) → (∀ a g, a ≠ r + 18 + 4 * B.1 10 → 28 ≤ g → Gfi G' g a = Gfi G g a) → Gfi G' 34 (r + 18 + 4 * B.1 10) = 0 → Gfi G' 36 (r + 18 + 4 * B.1 10) = Gfi G 77 (mA m) → Gfr G' 1056 (r + 18 + 4 * B.1 10) = some (mA m) → Q (.inl (some (.ref (r + 18 + 4 * B.1 10)))) G') : XC xms D 81 [.ref r, .ref (mA m), .int x, .int y] G Q := by
  obtain ⟨d, rfl⟩ : ∃ d, D = d + 1 + 1 + 1 + 1 := ⟨D - 4, by omega⟩
  have l0 := h.1.1.1
  unfold RL0 at l0
  obtain ⟨e1, e2, e3, e4, e5, e6, e7, e8, e9, e10, e11⟩ := h.1.2.1
  rw [XC_s]
  by_cases c : B.1 10 = 12
  · obtain ⟨hc, h4⟩ := hI c
    have e8' : Gfi G 17 r = nI 12 := e8.trans (by rw [c])
    simp (disch := first | omega | exact cI _ | exact cR _ | exact cK | exact cU | exact cO _ | exact cL _) only [oS, uS.2, Nat.reduceAdd, Nat.reduceSub, Nat.reduceMul, Nat.reduceLeDiff, Nat.reduceEqDiff, Nat.add_sub_cancel, xS, gS, nL, nS, dS, fX5_enters_0, mX5_enters, zX5_enters, l0, e8']
    refine k_fails (D := d + 3) h hc h4 (by omega) (fun G3 h3 f3 y3 => ?_)
    have l3 := h3.1.1.1
    unfold RL0 at l3
    have fin := h0 c G3 h3 f3 y3
    simp (disch := first | omega | exact cI _ | exact cR _ | exact cK | exact cU | exact cO _ | exact cL _) only [oS, uS.2, Nat.reduceAdd, Nat.reduceSub, Nat.reduceMul, Nat.reduceLeDiff, Nat.reduceEqDiff, Nat.add_sub_cancel, xS, gS, nL, nS, dS, mX5_enters, zX5_enters, l3, fin]
  · have h12 : B.1 10 < 12 := by omega
    obtain ⟨q1, q2, q3, q4, q5, q6, q7, q8, q9, -⟩ := h.1.1.2 _ h12
    obtain ⟨mx, hmx⟩ : ∃ mx, mx = if B.1 8 < B.1 10 + 1 then B.1 10 + 1 else B.1 8 := ⟨_, rfl⟩
    obtain ⟨G1, hG1⟩ : ∃ G1, G1 = Sfi (Sfi G 17 r (nI (B.1 10 + 1))) 18 r (nI mx) := ⟨_, rfl⟩
    have y1 : YZ (rgb r) G G1 := by
      rw [hG1]
      exact (YZ.fi ⟨Nat.le_refl _, by omega⟩).trans (YZ.fi ⟨Nat.le_refl _, by omega⟩)
    obtain ⟨m1, m2, m3⟩ := h.2.1 m hm
    have f1 : ∀ g a, (a ≠ r ∨ (g ≠ 17 ∧ g ≠ 18)) → Gfi G1 g a = Gfi G g a := fun g a q => by
      rw [hG1]
      exact (if_neg (by omega)).trans (if_neg (by omega))
    have km : Gkd G1 (mA m) = 12 := by
      rw [y1.2.2.2.1]
      exact m1
    have fb : XC xms (d + 1 + 1 + 1) 96 [.ref (r + 18 + 4 * B.1 10), .ref (mA m), .int x, .int y] G1 (fun o G' => o = .inl none ∧ Q (.inl (some (.ref (r + 18 + 4 * B.1 10)))) G') := by
      refine k_fbegin h12 (h.1.1.xz y1) km m3 (by omega) (fun G2 hb => ⟨rfl, ?_⟩)
      obtain ⟨z1, z2, z3, z4, z5, z6, z7, z8, z9⟩ := hb
      have yy : YE r G G2 := y1.big.ye.trans z1
      have f2 : ∀ g, g ≠ 17 → g ≠ 18 → Gfi G2 g r = Gfi G g r := fun g q1 q2 => ((z8 r (by omega) g).1).trans (f1 g r (.inr ⟨q1, q2⟩))
      have f17 : Gfi G2 17 r = nI (B.1 10 + 1) := ((z8 r (by omega) 17).1).trans (by rw [hG1]; exact (Sfi_o (by decide)).trans Sfi_S)
      have f18 : Gfi G2 18 r = nI mx := ((z8 r (by omega) 18).1).trans (by rw [hG1]; exact Sfi_S)
      have a2 : ∀ a, a ≠ r + 19 + 4 * B.1 10 → a ≠ r + 20 + 4 * B.1 10 → ∀ i, Gai G2 a i = Gai G a i := fun a q1 q2 i => (z9 a q1 q2 i).trans (by rw [hG1]; rfl)
      have t10 : (bEnter m x y B).1 10 = B.1 10 + 1 := rfl
      have t8 : (bEnter m x y B).1 8 = mx := hmx.symm
      have tn : ∀ c, c ≠ 8 → c ≠ 10 → c < 600 → (bEnter m x y B).1 c = B.1 c := fun c q1 q2 q3 => bEn_1 q1 q2 (by omega)
      refine h1 h12 G2 ((h.rs.ye yy).ru ⟨h.1.1.ye yy, ?_, fun o i hv => ?_, fun k hk => ?_⟩ (fun k hk => ?_)) yy (fun j i => a2 _ (by omega) (by omega) i) (fun a g q1 q2 => ((z8 a q1 g).1).trans (f1 g a (.inr ⟨by omega, by omega⟩))) z4 (z6.trans (f1 77 _ (.inr ⟨by decide, by decide⟩))) z7
      · unfold RC
        rw [tn 3 (by decide) (by decide) (by decide), tn 4 (by decide) (by decide) (by decide), tn 5 (by decide) (by decide) (by decide), tn 6 (by decide) (by decide) (by decide), tn 7 (by decide) (by decide) (by decide), tn 9 (by decide) (by decide) (by decide), tn 11 (by decide) (by decide) (by decide), tn 12 (by decide) (by decide) (by decide), tn 13 (by decide) (by decide) (by decide), t10, t8]
        exact ⟨(f2 21 (by decide) (by decide)).trans e1, (f2 22 (by decide) (by decide)).trans e2, (f2 23 (by decide) (by decide)).trans e3, (f2 24 (by decide) (by decide)).trans e4, (f2 25 (by decide) (by decide)).trans e5, f18, (f2 19 (by decide) (by decide)).trans e7, f17, (f2 20 (by decide) (by decide)).trans e9, (f2 27 (by decide) (by decide)).trans e10, (f2 26 (by decide) (by decide)).trans e11⟩
      · by_cases o1 : o = 19 + 4 * B.1 10
        · have hi6 : i < 6 := by
            unfold vld at hv
            omega
          rw [o1, show r + (19 + 4 * B.1 10) = r + 19 + 4 * B.1 10 by omega, z2 i hi6]
          show _ = (if 19 + 4 * B.1 10 = 18 + 4 * B.1 10 ∧ i = 0 then NN else if 19 + 4 * B.1 10 = 19 + 4 * B.1 10 ∧ i < 6 then (if i = 0 then x else if i = 1 then y else 0) else if 19 + 4 * B.1 10 = 20 + 4 * B.1 10 ∧ i < 3 then NN else B.2 (19 + 4 * B.1 10) i)
          exact ((if_neg (by omega)).trans (if_pos ⟨rfl, hi6⟩)).symm
        by_cases o2 : o = 20 + 4 * B.1 10
        · have hi3 : i < 3 := by
            unfold vld at hv
            omega
          rw [o2, show r + (20 + 4 * B.1 10) = r + 20 + 4 * B.1 10 by omega, z3 i hi3]
          show _ = (if 20 + 4 * B.1 10 = 18 + 4 * B.1 10 ∧ i = 0 then NN else if 20 + 4 * B.1 10 = 19 + 4 * B.1 10 ∧ i < 6 then (if i = 0 then x else if i = 1 then y else 0) else if 20 + 4 * B.1 10 = 20 + 4 * B.1 10 ∧ i < 3 then NN else B.2 (20 + 4 * B.1 10) i)
          exact ((if_neg (by omega)).trans ((if_neg (by omega)).trans (if_pos ⟨rfl, hi3⟩))).symm
        have hv' : vld B o i := vld_x hv (fun _ => by rw [tn 3 (by decide) (by decide) (by decide)]; exact id) (fun _ _ => by rw [tn 4 (by decide) (by decide) (by decide)]; exact id) (fun o9 a b => by
          rw [tn 4 (by decide) (by decide) (by decide)] at a
          rw [tn (100 + i / 12) (by omega) (by omega) (by omega)] at b
          exact ⟨a, b⟩) (fun _ => by rw [tn 6 (by decide) (by decide) (by decide)]; exact id) (fun _ => by rw [tn 13 (by decide) (by decide) (by decide)]; exact id) (fun _ => by rw [tn 12 (by decide) (by decide) (by decide)]; exact id) (fun _ => by rw [tn 12 (by decide) (by decide) (by decide)]; exact id) (fun o19 ho => by
          rw [t10] at ho
          unfold vld at hv
          omega)
        have ho : o < 18 + 4 * B.1 10 := by
          unfold vld at hv'
          omega
        rw [a2 (r + o) (by omega) (by omega) i, bEn_2 (.inl ho)]
        exact h.1.2.2.1 o i hv'
      · rw [t10] at hk
        by_cases kk : k = B.1 10
        · rw [kk, bEn_6]
          refine ⟨z5.trans ?_, z7⟩
          exact (if_pos ⟨rfl, rfl⟩).symm
        · rw [bEn_1 (c := 600 + k) (by omega) (by omega) (by omega), bEn_2 (.inr ⟨by omega, by omega⟩), (z8 _ (by omega) 35).1, (z8 _ (by omega) 1056).2, y1.1, f1 35 _ (.inr ⟨by decide, by decide⟩)]
          exact h.1.2.2.2 k (by omega)
      · rw [t10] at hk
        by_cases kk : k = B.1 10
        · rw [kk, bEn_6]
          exact hm
        · rw [bEn_1 (c := 600 + k) (by omega) (by omega) (by omega)]
          exact h.2.2.1 k (by omega)
    have ed : B.1 10 + 1 < 2147483648 := by omega
    have e8b : B.1 8 < 2147483648 := by omega
    by_cases c8 : B.1 8 < B.1 10 + 1
    · rw [if_pos c8] at hmx
      rw [hG1, hmx] at fb
      simp (disch := first | omega | exact cI _ | exact cR _ | exact cK | exact cU | exact cO _ | exact cL _) only [oS, uS.2, Nat.reduceAdd, Nat.reduceSub, Nat.reduceMul, Nat.reduceLeDiff, Nat.reduceEqDiff, Nat.add_sub_cancel, xS, gS, nL, nS, dS, fX5_enters_0, fX5_enters_16, mX5_enters, zX5_enters, FJ6_max, mJ6_max, zJ6_max, XC_s (k := 294), l0, e8, e6, c, q1, q2, m1, c8, h12]
      refine fb.mono (fun o G' hz => ?_)
      obtain ⟨rfl, hq⟩ := hz
      simp (disch := first | omega | exact cI _ | exact cR _ | exact cK | exact cU | exact cO _ | exact cL _) only [oS, uS.2, Nat.reduceAdd, Nat.reduceSub, Nat.reduceMul, Nat.reduceLeDiff, Nat.reduceEqDiff, Nat.add_sub_cancel, xS, gS, nL, nS, dS, mX5_enters, zX5_enters, hq]
    · rw [if_neg c8] at hmx
      rw [hG1, hmx] at fb
      simp (disch := first | omega | exact cI _ | exact cR _ | exact cK | exact cU | exact cO _ | exact cL _) only [oS, uS.2, Nat.reduceAdd, Nat.reduceSub, Nat.reduceMul, Nat.reduceLeDiff, Nat.reduceEqDiff, Nat.add_sub_cancel, xS, gS, nL, nS, dS, fX5_enters_0, fX5_enters_16, mX5_enters, zX5_enters, FJ6_max, mJ6_max, zJ6_max, XC_s (k := 294), l0, e8, e6, c, q1, q2, m1, c8, h12]
      refine fb.mono (fun o G' hz => ?_)
      obtain ⟨rfl, hq⟩ := hz
      simp (disch := first | omega | exact cI _ | exact cR _ | exact cK | exact cU | exact cO _ | exact cL _) only [oS, uS.2, Nat.reduceAdd, Nat.reduceSub, Nat.reduceMul, Nat.reduceLeDiff, Nat.reduceEqDiff, Nat.add_sub_cancel, xS, gS, nL, nS, dS, mX5_enters, zX5_enters, hq]
end RUN
