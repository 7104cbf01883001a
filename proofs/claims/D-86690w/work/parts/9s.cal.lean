set_option maxRecDepth 100000
section CAL
variable {D S R p : Nat} {t : Tks} {j J f nk nm b : Nat} {g : Nat → Option Nat} {A : Nat → Nat} {c : Cx} {S0 Z1 Z : Zs} {G0 G G1 G2 : XG} {Ns : List (Nat × List En)} {Q : (Option Value ⊕ Nat) → XG → Prop}
/-- a method's name is told -/
def toG (G : XG) (R m j : Nat) (pl : Nat) (v : Nat) : XG := Sfi (Sai (Sfi (Sai (Sfi G 5 R (nI (j + 1))) (R + 3) m (nI pl)) 5 R (nI (j + 1 + 1))) (R + 2) m (nI v)) 11 R (nI (m + 1))
theorem RY.told {m pl v : Nat} (h : RY G R p nk nm A b c Z) (hm : (tN (zc Z)).length = m) (hv : v < 10000000) : RY (toG G R m j pl v) R p nk nm A b c (zac Z (3, pl, v)) := by
  obtain ⟨h1, h2, h3, h4, h5, h6, h7, h8, h9, h10, h11, h12, h13, h14⟩ := h
  have f : ∀ x a, x ≠ 5 → x ≠ 11 → Gfi (toG G R m j pl v) x a = Gfi G x a := fun x a e1 e2 => (if_neg (fun q => e2 q.1)).trans ((if_neg (fun q => e1 q.1)).trans (if_neg (fun q => e1 q.1)))
  have ai : ∀ a i, a ≠ R + 2 → a ≠ R + 3 → Gai (toG G R m j pl v) a i = Gai G a i := fun a i e1 e2 => (if_neg (fun q => e1 q.1)).trans (if_neg (fun q => e2 q.1))
  have r2 : ∀ i, Gai (toG G R m j pl v) (R + 2) i = if i = m then nI v else Gai G (R + 2) i := fun i => by
    show (if R + 2 = R + 2 ∧ i = m then nI v else if R + 2 = R + 3 ∧ i = m then nI pl else Gai G (R + 2) i) = _
    by_cases e : i = m
    · rw [if_pos ⟨rfl, e⟩, if_pos e]
    · rw [if_neg (fun q => e q.2), if_neg (fun q => e q.2), if_neg e]
  have r3 : ∀ i, Gai (toG G R m j pl v) (R + 3) i = if i = m then nI pl else Gai G (R + 3) i := fun i => by
    show (if R + 3 = R + 2 ∧ i = m then nI v else if R + 3 = R + 3 ∧ i = m then nI pl else Gai G (R + 3) i) = _
    rw [if_neg (by omega)]
    by_cases e : i = m
    · rw [if_pos ⟨rfl, e⟩, if_pos e]
    · rw [if_neg (fun q => e q.2), if_neg e]
  have e11 : Gfi (toG G R m j pl v) 11 R = nI (m + 1) := if_pos ⟨rfl, rfl⟩
  have hw : wN nk (zc (zac Z (3, pl, v))) = wN nk (zc Z) := (wN_app (zc Z)).trans (lkN_f (by simp))
  have ht : tN (zc (zac Z (3, pl, v))) = tN (zc Z) ++ [(3, pl, v)] := (tN_app (zc Z)).trans (if_pos rfl)
  refine ⟨h1, h2, (f 7 R (by decide) (by decide)).trans h3, (f 6 R (by decide) (by decide)).trans h4, (f 8 R (by decide) (by decide)).trans h5, h6, ?_, ⟨?_, fun i x hx => ?_⟩, (f 10 R (by decide) (by decide)).trans h9, (f 12 p (by decide) (by decide)).trans h10, (f 13 p (by decide) (by decide)).trans h11, (f 14 p (by decide) (by decide)).trans h12, ⟨(f 15 p (by decide) (by decide)).trans h13.1, fun i x hx => ⟨(h13.2 i x hx).1, (ai (p + 5) i (by omega) (by omega)).trans (h13.2 i x hx).2⟩⟩, ?_⟩
  · rw [hw]
    exact (f 9 R (by decide) (by decide)).trans h7
  · rw [e11, ht, List.length_append, hm]
    rfl
  · rw [ht] at hx
    rw [r2, r3]
    by_cases e : i < m
    · rw [List.getElem?_append_left (by omega)] at hx
      rw [if_neg (by omega), if_neg (by omega)]
      exact h8.2 i x hx
    · rw [List.getElem?_append_right (by omega), hm] at hx
      have e2 : i = m := by
        rcases Nat.lt_or_ge m i with q | q
        · rw [show i - m = (i - m - 1) + 1 by omega] at hx
          simp at hx
        · omega
      rw [e2, Nat.sub_self] at hx
      simp at hx
      rw [if_pos e2, if_pos e2, ← hx]
      exact ⟨rfl, rfl, hv⟩
  · rw [hw]
    exact h14
theorem toG_kq {P : Nat → Prop} {m pl v : Nat} (h0 : P R) (h2 : P (R + 2)) (h3 : P (R + 3)) : KQ P 0 0 G (toG G R m j pl v) := (((KQ.fi h0).trans (KQ.ai h3)).trans (KQ.fi h0)).trans ((KQ.ai h2).trans (KQ.fi h0))
theorem WA.told {m pl v : Nat} (h : WA S R p t J g nk nm A b c G0 S0 Ns G Z) (hm : (tN (zc Z)).length = m) (hv : v < 10000000) (hj : zj Z + 2 ≤ J) : WA S R p t J g nk nm A b c G0 S0 Ns (toG G R m (zj Z) pl v) (zac (zaj Z (zj Z + 2)) (3, pl, v)) := by
  have hRp := h.Rp
  refine h.on (Z1 := zac (zaj Z (zj Z + 2)) (3, pl, v)) (toG_kq (.inl ⟨by omega, by omega⟩) (.inl ⟨by omega, by omega⟩) (.inl ⟨by omega, by omega⟩)) (Nat.le_add_right _ _) (Nat.zero_le _) (Nat.zero_le _) kE.refl kE.refl ?_ (h.ry.told hm hv) rfl rfl rfl
  exact (((((h.re.at (j' := zj Z + 1) (by omega)).ai (by omega)).at (j' := zj Z + 1 + 1) (by omega)).ai (by omega)).f (by decide))
theorem zT_an {S0 : Zs} : zT (zan S0) = zT S0 := rfl
/-- a call, from its word on -/
theorem o_call {k : Nat} {a a' : Int32} (h : WA S R p t J g nk nm A b c G0 S0 [] G (zaj (zan S0) j)) (h2 : zK t j = 2) (hf : J < f) (hD : 40 ≤ D) (hk : (k = 2 ∧ a' = a) ∨ (k = 7 ∧ a' = NN)) (hQ : HS S R p t J g nk nm A b c G0 S0 (pCall t f (zn S0) k a (zaj (zan S0) j)) Q) : XC xms D 56 [.ref R, .int (nI (zn S0)), .int a'] G Q := by
  obtain ⟨D, rfl⟩ : ∃ d, D = d + 1 := ⟨D - 1, by omega⟩
  have hK : ∀ {pc rest L st} z G', Q (.inr z) G' → XK xms D 56 pc rest L st Q (.inr z) G' := fun {pc rest L st} z G' h => Eq.mpr (zX2_call (d := D) (pc := pc) (z := z) (L := L) (G := G') (Q := Q)) h
  have hl := h.re.1
  unfold RD SL at hl
  have ha : Gfi G 5 R = nI j := h.a
  have hjJ : j + 1 ≤ J := h.re.nx (show zK t j ≠ 0 by omega)
  have hJ2 : zj S0 ≤ j ∧ j ≤ J ∧ J ≤ 200 := h.lJ
  have hr1 : RE (Sfi G 5 R (nI (j + 1))) S R p t J g (j + 1) := h.re.at hjJ
  have cp := fun Q => d_rplace (D := D) (Q := Q) hr1 (by omega)
  have hC := h.C
  have hpz := hC.2.2.1
  have h80 := hC.2.2.2.2.2.1
  obtain ⟨m, hm⟩ : ∃ m, (tN (zc (zaj (zan S0) j))).length = m := ⟨_, rfl⟩
  have hm80 : m < 80 := by have : (tN (zc S0)).length = m := hm; have := hpz.1; omega
  have h11 : Gfi G 11 R = nI m := by rw [← hm]; exact h.ry.2.2.2.2.2.2.2.1.1
  have hr2 : RE (Sai (Sfi G 5 R (nI (j + 1))) (R + 3) m (nI (zP t (j + 1)))) S R p t J g (j + 1) := hr1.ai (by omega)
  have hRP : rP R p R := .inl ⟨Nat.le_refl _, by omega⟩
  have hRP3 : rP R p (R + 3) := .inl ⟨by omega, by omega⟩
  have kG : KQ (rP R p) (j - zj S0) (3 * (j - zj S0)) G0 G := h.2.1
  unfold pCall at hQ
  rw [XC_s]
  simp (disch := first | omega | exact cI _ | exact cR _ | exact cK | exact cU | exact cO _ | exact cL _) only [oS, uS.2, Nat.reduceAdd, Nat.reduceSub, Nat.reduceMul, Nat.reduceLeDiff, Nat.reduceEqDiff, Nat.add_sub_cancel, xS, gS, nL, nS, dS, fX2_call_0, mX2_call, zX2_call, hl, ha, cp, h11]
  refine w_take (k := 4) hr2 (by omega) (by omega) (by omega) (kG.trans ((KQ.fi hRP).trans (KQ.ai hRP3))) (by omega) (by omega) hQ hK (fun e1 j1 hr3 hQ => ?_)
  have hv : zV t (j + 1) < 10000000 := (hr2.2.1.2.2 _ hjJ).2.2.2.2.2
  simp (disch := first | omega | exact cI _ | exact cR _ | exact cK | exact cU | exact cO _ | exact cL _) only [oS, uS.2, Nat.reduceAdd, Nat.reduceSub, Nat.reduceMul, Nat.reduceLeDiff, Nat.reduceEqDiff, Nat.add_sub_cancel, xS, gS, nL, nS, dS, mX2_call, zX2_call, hl, ha, h11]
  have w4 : WA S R p t J g nk nm A b c G0 S0 [] (toG G R m j (zP t (j + 1)) (zV t (j + 1))) (zac (zaj (zaj (zan S0) j) (j + 2)) (3, zP t (j + 1), zV t (j + 1))) := h.told hm hv (by show j + 2 ≤ J; omega)
  show XC xms D 48 [.ref R, .int (nI 40)] (toG G R m j (zP t (j + 1)) (zV t (j + 1))) _
  generalize toG G R m j (zP t (j + 1)) (zV t (j + 1)) = G4 at w4 ⊢
  refine x_take (k := 40) w4 (by omega) (by omega) (by omega) hQ hK (fun G5 e2 w5 hQ => ?_)
  simp (disch := first | omega | exact cI _ | exact cR _ | exact cK | exact cU | exact cO _ | exact cL _) only [oS, uS.2, Nat.reduceAdd, Nat.reduceSub, Nat.reduceMul, Nat.reduceLeDiff, Nat.reduceEqDiff, Nat.add_sub_cancel, xS, gS, nL, nS, dS, mX2_call, zX2_call, w5.gk]
  refine x_sum w5 hf (by omega) hQ hK (fun q a1 G6 hq1 w6 hQ => ?_)
  simp (disch := first | omega | exact cI _ | exact cR _ | exact cK | exact cU | exact cO _ | exact cL _) only [oS, uS.2, Nat.reduceAdd, Nat.reduceSub, Nat.reduceMul, Nat.reduceLeDiff, Nat.reduceEqDiff, Nat.add_sub_cancel, xS, gS, nL, nS, dS, mX2_call, zX2_call, w6.gk]
  refine x_take (k := 44) w6 (by omega) (by omega) (by omega) hQ hK (fun G7 e3 w7 hQ => ?_)
  simp (disch := first | omega | exact cI _ | exact cR _ | exact cK | exact cU | exact cO _ | exact cL _) only [oS, uS.2, Nat.reduceAdd, Nat.reduceSub, Nat.reduceMul, Nat.reduceLeDiff, Nat.reduceEqDiff, Nat.add_sub_cancel, xS, gS, nL, nS, dS, mX2_call, zX2_call, w7.gk]
  refine x_sum w7 hf (by omega) hQ hK (fun q2 a2 G8 hq2 w8 hQ => ?_)
  simp (disch := first | omega | exact cI _ | exact cR _ | exact cK | exact cU | exact cO _ | exact cL _) only [oS, uS.2, Nat.reduceAdd, Nat.reduceSub, Nat.reduceMul, Nat.reduceLeDiff, Nat.reduceEqDiff, Nat.add_sub_cancel, xS, gS, nL, nS, dS, mX2_call, zX2_call, w8.gk]
  refine x_take (k := 41) w8 (by omega) (by omega) (by omega) hQ hK (fun G9 e4 w9 hQ => ?_)
  simp (disch := first | omega | exact cI _ | exact cR _ | exact cK | exact cU | exact cO _ | exact cL _) only [oS, uS.2, Nat.reduceAdd, Nat.reduceSub, Nat.reduceMul, Nat.reduceLeDiff, Nat.reduceEqDiff, Nat.add_sub_cancel, xS, gS, nL, nS, dS, mX2_call, zX2_call, w9.gk]
  refine x_take (k := 59) w9 (by omega) (by omega) (by omega) hQ hK (fun G10 e5 w10 hQ => ?_)
  have hd : ∀ x y Q, XC xms D 217 [.ref (Gtp G10), .int (nI (zn S0)), .int x, .int y, .ref a1, .ref a2] (Sno G10 18 5) Q = Q (.inl none) (n_call (Sno G10 18 5) (Gtp G10) (nI (zn S0)) x y (some a1) (some a2)) := fun x y Q => d_call (o2 := some a1) (o3 := some a2) (by omega) (if_pos rfl)
  have hq1 : j + 2 + 1 < q.1 := hq1
  have hq2 : q.1 + 1 < q2.1 := hq2
  obtain ⟨f1, f2, f3, f4, f5, f6⟩ := g_call (G := Sno G10 18 5) (z := Gtp G10) (n := nI (zn S0)) (x0 := a') (x1 := nI (zV t (j + 1))) (o2 := some a1) (o3 := some a2)
  have fin := w10.fin1 (k := k) (cl := 18) (nf := 5) (a := a) (b' := nI (zV t (j + 1))) (e1 := q.2) (e2 := q2.2) (by show zj S0 < q2.1 + 1 + 1; omega) (by omega) (q_call (z := Gtp G10) (n := nI (zn S0)) (x0 := a') (x1 := nI (zV t (j + 1))) (o2 := some a1) (o3 := some a2)) f1 (fun hN => by
    have n1 := hN (a1, q.2) (List.mem_cons_of_mem _ (List.mem_cons_self ..))
    have n2 := hN (a2, q2.2) (List.mem_cons_self ..)
    have hzk : Gkd (Sno G10 18 5) (Gtp G10) = 19 := if_pos rfl
    rcases hk with ⟨hk, ha⟩ | ⟨hk, ha⟩
    · subst hk
      exact ⟨f2.trans hzk, f3.trans ha, f4, ⟨a1, f5, n1⟩, ⟨a2, f6, n2⟩⟩
    · subst hk
      exact ⟨f2.trans hzk, f3.trans ha, f4, ⟨a1, f5, n1⟩, ⟨a2, f6, n2⟩⟩)
  simp (disch := first | omega | exact cI _ | exact cR _ | exact cK | exact cU | exact cO _ | exact cL _) only [oS, uS.2, Nat.reduceAdd, Nat.reduceSub, Nat.reduceMul, Nat.reduceLeDiff, Nat.reduceEqDiff, Nat.add_sub_cancel, xS, gS, nL, nS, dS, mX2_call, zX2_call, w10.gk, hd]
  exact hQ _ _ fin
end CAL
