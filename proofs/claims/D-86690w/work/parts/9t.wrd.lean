set_option maxRecDepth 100000
section WRD
variable {D S R p : Nat} {t : Tks} {j J f nk nm b : Nat} {g : Nat → Option Nat} {A : Nat → Nat} {c : Cx} {S0 Z1 Z : Zs} {G0 G G1 G2 : XG} {Ns : List (Nat × List En)} {Q : (Option Value ⊕ Nat) → XG → Prop} {blk : StF}
theorem HS.ret {r : Ft ⊕ Zs} {K : (Option Value ⊕ Nat) → XG → Prop} (hQ : HS S R p t J g nk nm A b c G0 S0 r Q) (h1 : ∀ z G', Q (.inr z) G' → K (.inr z) G') (h2 : ∀ z G', Q (.inl (some (.ref z))) G' → K (.inl (some (.ref z))) G') : HS S R p t J g nk nm A b c G0 S0 r K := hQ.k h1 (fun a o G' _ ho hq => by
  obtain ⟨z, rfl⟩ := ho.o
  exact h2 z G' hq)
theorem o_var (h : C0 G0 S R p t J g nk nm A b c S0) (c5 : zK t (zj S0) = 5) (hf : J < f) (hD : 42 ≤ D) (hQ : HS S R p t J g nk nm A b c G0 S0 (pStm t f blk c S0) Q) : XC xms D 54 [.ref R, .int (nI (zn S0))] G0 Q := by
  obtain ⟨D, rfl⟩ : ∃ d, D = d + 1 := ⟨D - 1, by omega⟩
  have hK : ∀ {pc rest L st} z G', Q (.inr z) G' → XK xms D 54 pc rest L st Q (.inr z) G' := fun {pc rest L st} z G' h => Eq.mpr (zX2_ofVar (d := D) (pc := pc) (z := z) (L := L) (G := G') (Q := Q)) h
  have h80 : ¬ 80 ≤ zn S0 := by have := h.2.2.2.2.2.1; omega
  have e : pStm t f blk c S0 = zN t (zj S0) 5 (if 6 ≤ zV t (zj S0) then zF t 2 (zj S0) else zN t (zj S0 + 1) 61 (if zK t (zj S0 + 2) = 2 ∧ zV t (zj S0 + 2) = 4 then pCall t f (zn S0) 2 (nI (zV t (zj S0))) (zaj (zan S0) (zj S0 + 2)) else zb (pSum t f (zj S0 + 2)) (fun r => zN t r.1 59 (.inr (zaT (zaj (zan S0) (r.1 + 1)) (tset (zT (zan S0)) (zn S0) 1 (nI (zV t (zj S0))) 0 r.2 [] [] none [])))))) := by
    rw [zN_1 c5]
    exact (if_neg h80).trans (if_pos c5)
  rw [e] at hQ
  have w0 := h.start
  rw [XC_s]
  simp (disch := first | omega | exact cI _ | exact cR _ | exact cK | exact cU | exact cO _ | exact cL _) only [oS, uS.2, Nat.reduceAdd, Nat.reduceSub, Nat.reduceMul, Nat.reduceLeDiff, Nat.reduceEqDiff, Nat.add_sub_cancel, xS, gS, nL, nS, dS, fX2_ofVar_0, mX2_ofVar, zX2_ofVar, w0.gk]
  refine x_name (k := 5) (m := 6) w0 (by omega) (by omega) (by omega) (by omega) hQ hK (fun G1 e1 e2 w1 hQ => ?_)
  simp (disch := first | omega | exact cI _ | exact cR _ | exact cK | exact cU | exact cO _ | exact cL _) only [oS, uS.2, Nat.reduceAdd, Nat.reduceSub, Nat.reduceMul, Nat.reduceLeDiff, Nat.reduceEqDiff, Nat.add_sub_cancel, xS, gS, nL, nS, dS, mX2_ofVar, zX2_ofVar, w1.gk]
  refine x_take (k := 61) w1 (by omega) (by omega) (by omega) hQ hK (fun G3 e3 w3 hQ => ?_)
  have cw : ∀ Q, XC xms D 41 [.ref R, .int (nI 4)] G3 Q = Q (.inl (some (.int (if zK t (zj S0 + 2) = 2 ∧ zV t (zj S0 + 2) = 4 then nI 1 else nI 0)))) G3 := fun Q => d_isWord w3.re (by omega) (by omega)
  by_cases cc : zK t (zj S0 + 2) = 2 ∧ zV t (zj S0 + 2) = 4
  · rw [if_pos cc] at hQ
    simp only [if_pos cc] at cw
    have w3 : WA S R p t J g nk nm A b c G0 S0 [] G3 (zaj (zan S0) (zj S0 + 2)) := w3
    simp (disch := first | omega | exact cI _ | exact cR _ | exact cK | exact cU | exact cO _ | exact cL _) only [oS, uS.2, Nat.reduceAdd, Nat.reduceSub, Nat.reduceMul, Nat.reduceLeDiff, Nat.reduceEqDiff, Nat.add_sub_cancel, xS, gS, nL, nS, dS, mX2_ofVar, zX2_ofVar, w3.gk, cw]
    exact o_call (k := 2) (a := nI (zV t (zj S0))) w3 cc.1 hf (by omega) (.inl ⟨rfl, rfl⟩) (hQ.ret hK (fun z G' hq => by simp (disch := first | omega | exact cI _ | exact cR _ | exact cK | exact cU | exact cO _ | exact cL _) only [oS, uS.2, Nat.reduceAdd, Nat.reduceSub, Nat.reduceMul, Nat.reduceLeDiff, Nat.reduceEqDiff, Nat.add_sub_cancel, xS, gS, nL, nS, dS, mX2_ofVar, zX2_ofVar, hq]))
  · rw [if_neg cc] at hQ
    simp only [if_neg cc] at cw
    simp (disch := first | omega | exact cI _ | exact cR _ | exact cK | exact cU | exact cO _ | exact cL _) only [oS, uS.2, Nat.reduceAdd, Nat.reduceSub, Nat.reduceMul, Nat.reduceLeDiff, Nat.reduceEqDiff, Nat.add_sub_cancel, xS, gS, nL, nS, dS, fX2_ofVar_30, mX2_ofVar, zX2_ofVar, w3.gk, cw]
    refine x_sum w3 hf (by omega) hQ hK (fun q a1 G4 hq1 w4 hQ => ?_)
    simp (disch := first | omega | exact cI _ | exact cR _ | exact cK | exact cU | exact cO _ | exact cL _) only [oS, uS.2, Nat.reduceAdd, Nat.reduceSub, Nat.reduceMul, Nat.reduceLeDiff, Nat.reduceEqDiff, Nat.add_sub_cancel, xS, gS, nL, nS, dS, mX2_ofVar, zX2_ofVar, w4.gk]
    refine x_take (k := 59) w4 (by omega) (by omega) (by omega) hQ hK (fun G5 e5 w5 hQ => ?_)
    have hd : ∀ x Q, XC xms D 224 [.ref (Gtp G5), .int (nI (zn S0)), .int x, .ref a1] (Sno G5 20 3) Q = Q (.inl none) (n_setVar (Sno G5 20 3) (Gtp G5) (nI (zn S0)) x (some a1)) := fun x Q => d_setVar (o1 := some a1) (by omega) (if_pos rfl)
    have hq1 : zj S0 + 1 + 1 < q.1 := hq1
    obtain ⟨f1, f2, f3, f4⟩ := g_setVar (G := Sno G5 20 3) (z := Gtp G5) (n := nI (zn S0)) (x0 := nI (zV t (zj S0))) (o1 := some a1)
    have fin := w5.fin1 (k := 1) (cl := 20) (nf := 3) (a := nI (zV t (zj S0))) (b' := 0) (e1 := q.2) (e2 := []) (by show zj S0 < q.1 + 1; omega) (by omega) (q_setVar (z := Gtp G5) (n := nI (zn S0)) (x0 := nI (zV t (zj S0))) (o1 := some a1)) f1 (fun hN => ⟨f2.trans (if_pos rfl), f3, ⟨a1, f4, hN (a1, q.2) (List.mem_cons_self ..)⟩⟩)
    simp (disch := first | omega | exact cI _ | exact cR _ | exact cK | exact cU | exact cO _ | exact cL _) only [oS, uS.2, Nat.reduceAdd, Nat.reduceSub, Nat.reduceMul, Nat.reduceLeDiff, Nat.reduceEqDiff, Nat.add_sub_cancel, xS, gS, nL, nS, dS, mX2_ofVar, zX2_ofVar, w5.gk, hd]
    exact hQ _ _ fin
theorem o_row (h : C0 G0 S R p t J g nk nm A b c S0) (c6 : zK t (zj S0) = 6) (hf : J < f) (hD : 42 ≤ D) (hQ : HS S R p t J g nk nm A b c G0 S0 (pStm t f blk c S0) Q) : XC xms D 61 [.ref R, .int (nI (zn S0))] G0 Q := by
  obtain ⟨D, rfl⟩ : ∃ d, D = d + 1 := ⟨D - 1, by omega⟩
  have hK : ∀ {pc rest L st} z G', Q (.inr z) G' → XK xms D 61 pc rest L st Q (.inr z) G' := fun {pc rest L st} z G' h => Eq.mpr (zX2_ofRow (d := D) (pc := pc) (z := z) (L := L) (G := G') (Q := Q)) h
  have h80 : ¬ 80 ≤ zn S0 := by have := h.2.2.2.2.2.1; omega
  have e : pStm t f blk c S0 = zN t (zj S0) 6 (if 3 ≤ zV t (zj S0) then zF t 2 (zj S0) else
    if zK t (zj S0 + 1) = 91 then zb (pSum t f (zj S0 + 2)) (fun r => zN t r.1 93 (zN t (r.1 + 1) 61 (zb (pSum t f (r.1 + 2)) (fun q => zN t q.1 59 (.inr (zaT (zaj (zan S0) (q.1 + 1)) (tset (zT (zan S0)) (zn S0) 6 (nI (zV t (zj S0))) 0 r.2 q.2 [] none [])))))))
    else zN t (zj S0 + 1) 61 (if zK t (zj S0 + 2) = 2 ∧ zV t (zj S0 + 2) = 5 then zb (pSum t f (zj S0 + 3)) (fun r => zN t r.1 59 (.inr (zaT (zaj (zan S0) (r.1 + 1)) (tset (zT (zan S0)) (zn S0) 3 (nI (zV t (zj S0))) 0 r.2 [] [] none []))))
      else if zK t (zj S0 + 2) = 2 ∧ zV t (zj S0 + 2) = 6 then zN t (zj S0 + 3) 59 (.inr (zaT (zaj (zan S0) (zj S0 + 4)) (tset (zT (zan S0)) (zn S0) 4 (nI (zV t (zj S0))) 0 [] [] [] none [])))
      else zN t (zj S0 + 2) 6 (if 3 ≤ zV t (zj S0 + 2) then zF t 2 (zj S0 + 2) else zN t (zj S0 + 3) 59 (.inr (zaT (zaj (zan S0) (zj S0 + 4)) (tset (zT (zan S0)) (zn S0) 5 (nI (zV t (zj S0))) (nI (zV t (zj S0 + 2))) [] [] [] none [])))))) := by
    rw [zN_1 c6]
    exact (if_neg h80).trans ((if_neg (by omega)).trans (if_pos c6))
  rw [e] at hQ
  have w0 := h.start
  rw [XC_s]
  simp (disch := first | omega | exact cI _ | exact cR _ | exact cK | exact cU | exact cO _ | exact cL _) only [oS, uS.2, Nat.reduceAdd, Nat.reduceSub, Nat.reduceMul, Nat.reduceLeDiff, Nat.reduceEqDiff, Nat.add_sub_cancel, xS, gS, nL, nS, dS, fX2_ofRow_0, mX2_ofRow, zX2_ofRow, w0.gk]
  refine x_name (k := 6) (m := 3) w0 (by omega) (by omega) (by omega) (by omega) hQ hK (fun G1 e1 e2 w1 hQ => ?_)
  have ck : ∀ Q, XC xms D 42 [.ref R] G1 Q = Q (.inl (some (.int (nI (zK t (zj S0 + 1)))))) G1 := fun Q => d_kind w1.re (by omega)
  have hb1 : zK t (zj S0 + 1) < 256 := (w1.re.2.1.2.2 _ w1.re.lJ).2.2.2.1
  have e2 : zV t (zj S0) < 3 := e2
  by_cases c91 : zK t (zj S0 + 1) = 91
  · rw [if_pos c91] at hQ
    have ha : Gfi G1 5 R = nI (zj S0 + 1) := w1.a
    have hJ := w1.lJ
    have hJ1 : zj S0 + 1 ≤ J := w1.re.lJ
    have w2 : WA S R p t J g nk nm A b c G0 S0 [] (Sfi G1 5 R (nI (zj S0 + 1 + 1))) (zaj (zan S0) (zj S0 + 2)) := w1.nx (show zK t (zj S0 + 1) ≠ 0 by omega)
    simp (disch := first | omega | exact cI _ | exact cR _ | exact cK | exact cU | exact cO _ | exact cL _) only [oS, uS.2, Nat.reduceAdd, Nat.reduceSub, Nat.reduceMul, Nat.reduceLeDiff, Nat.reduceEqDiff, Nat.add_sub_cancel, xS, gS, nL, nS, dS, mX2_ofRow, zX2_ofRow, w1.gk, ck, c91, ha]
    generalize Sfi G1 5 R (nI (zj S0 + 1 + 1)) = G3 at w2 ⊢
    refine x_sum w2 hf (by omega) hQ hK (fun q a1 G4 hq1 w4 hQ => ?_)
    simp (disch := first | omega | exact cI _ | exact cR _ | exact cK | exact cU | exact cO _ | exact cL _) only [oS, uS.2, Nat.reduceAdd, Nat.reduceSub, Nat.reduceMul, Nat.reduceLeDiff, Nat.reduceEqDiff, Nat.add_sub_cancel, xS, gS, nL, nS, dS, mX2_ofRow, zX2_ofRow, w4.gk]
    refine x_take (k := 93) w4 (by omega) (by omega) (by omega) hQ hK (fun G5 e5 w5 hQ => ?_)
    simp (disch := first | omega | exact cI _ | exact cR _ | exact cK | exact cU | exact cO _ | exact cL _) only [oS, uS.2, Nat.reduceAdd, Nat.reduceSub, Nat.reduceMul, Nat.reduceLeDiff, Nat.reduceEqDiff, Nat.add_sub_cancel, xS, gS, nL, nS, dS, mX2_ofRow, zX2_ofRow, w5.gk]
    refine x_take (k := 61) w5 (by omega) (by omega) (by omega) hQ hK (fun G6 e6 w6 hQ => ?_)
    simp (disch := first | omega | exact cI _ | exact cR _ | exact cK | exact cU | exact cO _ | exact cL _) only [oS, uS.2, Nat.reduceAdd, Nat.reduceSub, Nat.reduceMul, Nat.reduceLeDiff, Nat.reduceEqDiff, Nat.add_sub_cancel, xS, gS, nL, nS, dS, mX2_ofRow, zX2_ofRow, w6.gk]
    refine x_sum w6 hf (by omega) hQ hK (fun q2 a2 G7 hq2 w7 hQ => ?_)
    simp (disch := first | omega | exact cI _ | exact cR _ | exact cK | exact cU | exact cO _ | exact cL _) only [oS, uS.2, Nat.reduceAdd, Nat.reduceSub, Nat.reduceMul, Nat.reduceLeDiff, Nat.reduceEqDiff, Nat.add_sub_cancel, xS, gS, nL, nS, dS, mX2_ofRow, zX2_ofRow, w7.gk]
    refine x_take (k := 59) w7 (by omega) (by omega) (by omega) hQ hK (fun G8 e8 w8 hQ => ?_)
    have hq1 : zj S0 + 2 < q.1 := hq1
    have hq2 : q.1 + 1 + 1 < q2.1 := hq2
    have hd1 : ∀ x Q, XC xms D 210 [.ref (Gtp G8 + 1), .int x, .ref a1] (Sno (Sno G8 21 3) 16 2) Q = Q (.inl none) (Sfr (Sfi (Sno (Sno G8 21 3) 16 2) 81 (Gtp G8 + 1) x) 1120 (Gtp G8 + 1) (some a1)) := fun x Q => d_place (l := some a1) (by omega) (if_pos rfl)
    have hd2 : ∀ x Q, XC xms D 226 [.ref (Gtp G8), .int (nI (zn S0)), .ref (Gtp G8 + 1), .ref a2] (Sfr (Sfi (Sno (Sno G8 21 3) 16 2) 81 (Gtp G8 + 1) x) 1120 (Gtp G8 + 1) (some a1)) Q = Q (.inl none) (n_putRow (Sfr (Sfi (Sno (Sno G8 21 3) 16 2) 81 (Gtp G8 + 1) x) 1120 (Gtp G8 + 1) (some a1)) (Gtp G8) (nI (zn S0)) (some (Gtp G8 + 1)) (some a2)) := fun x Q => d_putRow (o0 := some (Gtp G8 + 1)) (o1 := some a2) (by omega) ((if_neg (by show ¬ Gtp G8 = Gtp G8 + 1; omega)).trans (if_pos rfl))
    obtain ⟨f1, f2, f3, f4⟩ := g_putRow (G := Sfr (Sfi (Sno (Sno G8 21 3) 16 2) 81 (Gtp G8 + 1) (nI (zV t (zj S0)))) 1120 (Gtp G8 + 1) (some a1)) (z := Gtp G8) (n := nI (zn S0)) (o0 := some (Gtp G8 + 1)) (o1 := some a2)
    have k1 : KQ (fun a => Gtp G8 ≤ a) 1 3 G8 (Sno G8 21 3) := KQ.no
    have k2 : KQ (fun a => Gtp G8 ≤ a) 1 2 (Sno G8 21 3) (Sno (Sno G8 21 3) 16 2) := KQ.no
    have k3 : KQ (fun a => Gtp G8 ≤ a) 0 0 (Sno (Sno G8 21 3) 16 2) (Sfr (Sfi (Sno (Sno G8 21 3) 16 2) 81 (Gtp G8 + 1) (nI (zV t (zj S0)))) 1120 (Gtp G8 + 1) (some a1)) := (KQ.fi (Nat.le_succ _)).trans (KQ.fr (Nat.le_succ _))
    have qp := q_putRow (G := Sfr (Sfi (Sno (Sno G8 21 3) 16 2) 81 (Gtp G8 + 1) (nI (zV t (zj S0)))) 1120 (Gtp G8 + 1) (some a1)) (z := Gtp G8) (n := nI (zn S0)) (o0 := some (Gtp G8 + 1)) (o1 := some a2)
    have y1 := (qp.2.2.2.2.1 (Gtp G8 + 1) (Nat.lt_succ_self _)).1
    have y2 := (qp.2.2.2.2.2 (Gtp G8 + 1) (Nat.lt_succ_self _) (by omega)).1
    have yt := qp.2.1
    have yt0 : Gtp (Sfr (Sfi (Sno (Sno G8 21 3) 16 2) 81 (Gtp G8 + 1) (nI (zV t (zj S0)))) 1120 (Gtp G8 + 1) (some a1)) = Gtp G8 + 2 := rfl
    have hG8 := w8.Rp.2.2
    have fin := w8.fin (k := 6) (c2 := 2) (u2 := 5) (a := nI (zV t (zj S0))) (b' := 0) (e1 := q.2) (e2 := q2.2) (by show zj S0 < q2.1 + 1; omega) (by omega) (by omega) (by omega) (((k1.trans k2).trans k3).trans (qp.mono (fun a e => by omega) (Nat.le_refl _) (Nat.le_refl _))) f1 (fun hN => ⟨f2.trans ((if_neg (by show ¬ Gtp G8 = Gtp G8 + 1; omega)).trans (if_pos rfl)), ⟨Gtp G8 + 1, f3, by omega, by omega, y1.trans (if_pos rfl), (y2 81).1.trans (if_pos ⟨rfl, rfl⟩), ⟨a1, (y2 1120).2.trans (if_pos ⟨rfl, rfl⟩), hN (a1, q.2) (List.mem_cons_of_mem _ (List.mem_cons_self ..))⟩⟩, ⟨a2, f4, hN (a2, q2.2) (List.mem_cons_self ..)⟩⟩)
    simp (disch := first | omega | exact cI _ | exact cR _ | exact cK | exact cU | exact cO _ | exact cL _) only [oS, uS.2, Nat.reduceAdd, Nat.reduceSub, Nat.reduceMul, Nat.reduceLeDiff, Nat.reduceEqDiff, Nat.add_sub_cancel, xS, gS, nL, nS, dS, mX2_ofRow, zX2_ofRow, w8.gk, hd1, hd2]
    exact hQ _ _ fin
  · rw [if_neg c91] at hQ
    simp (disch := first | omega | exact cI _ | exact cR _ | exact cK | exact cU | exact cO _ | exact cL _) only [oS, uS.2, Nat.reduceAdd, Nat.reduceSub, Nat.reduceMul, Nat.reduceLeDiff, Nat.reduceEqDiff, Nat.add_sub_cancel, xS, gS, nL, nS, dS, fX2_ofRow_79, mX2_ofRow, zX2_ofRow, w1.gk, ck, c91]
    refine x_take (k := 61) w1 (by omega) (by omega) (by omega) hQ hK (fun G3 e3 w3 hQ => ?_)
    have w3 : WA S R p t J g nk nm A b c G0 S0 [] G3 (zaj (zan S0) (zj S0 + 2)) := w3
    have ch5 : ∀ Q, XC xms D 62 [.ref R, .int (nI 5)] G3 Q = Q (.inl (some (.int (if zK t (zj S0 + 2) = 2 ∧ zV t (zj S0 + 2) = 5 then nI 1 else nI 0)))) (if zK t (zj S0 + 2) = 2 ∧ zV t (zj S0 + 2) = 5 then Sfi G3 5 R (nI (zj S0 + 2 + 1)) else G3) := fun Q => d_has w3.re (by omega) (by omega)
    by_cases c5 : zK t (zj S0 + 2) = 2 ∧ zV t (zj S0 + 2) = 5
    · rw [if_pos c5] at hQ
      simp only [if_pos c5] at ch5
      have w4 : WA S R p t J g nk nm A b c G0 S0 [] (Sfi G3 5 R (nI (zj S0 + 2 + 1))) (zaj (zan S0) (zj S0 + 3)) := w3.nx (show zK t (zj S0 + 2) ≠ 0 by omega)
      simp (disch := first | omega | exact cI _ | exact cR _ | exact cK | exact cU | exact cO _ | exact cL _) only [oS, uS.2, Nat.reduceAdd, Nat.reduceSub, Nat.reduceMul, Nat.reduceLeDiff, Nat.reduceEqDiff, Nat.add_sub_cancel, xS, gS, nL, nS, dS, mX2_ofRow, zX2_ofRow, w3.gk, ch5]
      generalize Sfi G3 5 R (nI (zj S0 + 2 + 1)) = G4 at w4 ⊢
      refine x_sum w4 hf (by omega) hQ hK (fun q a1 G5 hq1 w5 hQ => ?_)
      simp (disch := first | omega | exact cI _ | exact cR _ | exact cK | exact cU | exact cO _ | exact cL _) only [oS, uS.2, Nat.reduceAdd, Nat.reduceSub, Nat.reduceMul, Nat.reduceLeDiff, Nat.reduceEqDiff, Nat.add_sub_cancel, xS, gS, nL, nS, dS, mX2_ofRow, zX2_ofRow, w5.gk]
      refine x_take (k := 59) w5 (by omega) (by omega) (by omega) hQ hK (fun G6 e6 w6 hQ => ?_)
      have hd : ∀ x Q, XC xms D 228 [.ref (Gtp G6), .int (nI (zn S0)), .int x, .ref a1] (Sno G6 22 3) Q = Q (.inl none) (n_newRow (Sno G6 22 3) (Gtp G6) (nI (zn S0)) x (some a1)) := fun x Q => d_newRow (o1 := some a1) (by omega) (if_pos rfl)
      have hq1 : zj S0 + 3 < q.1 := hq1
      obtain ⟨f1, f2, f3, f4⟩ := g_newRow (G := Sno G6 22 3) (z := Gtp G6) (n := nI (zn S0)) (x0 := nI (zV t (zj S0))) (o1 := some a1)
      have fin := w6.fin1 (k := 3) (cl := 22) (nf := 3) (a := nI (zV t (zj S0))) (b' := 0) (e1 := q.2) (e2 := []) (by show zj S0 < q.1 + 1; omega) (by omega) (q_newRow (z := Gtp G6) (n := nI (zn S0)) (x0 := nI (zV t (zj S0))) (o1 := some a1)) f1 (fun hN => ⟨f2.trans (if_pos rfl), f3, ⟨a1, f4, hN (a1, q.2) (List.mem_cons_self ..)⟩⟩)
      simp (disch := first | omega | exact cI _ | exact cR _ | exact cK | exact cU | exact cO _ | exact cL _) only [oS, uS.2, Nat.reduceAdd, Nat.reduceSub, Nat.reduceMul, Nat.reduceLeDiff, Nat.reduceEqDiff, Nat.add_sub_cancel, xS, gS, nL, nS, dS, mX2_ofRow, zX2_ofRow, w6.gk, hd]
      exact hQ _ _ fin
    · rw [if_neg c5] at hQ
      simp only [if_neg c5] at ch5
      have ch6 : ∀ Q, XC xms D 62 [.ref R, .int (nI 6)] G3 Q = Q (.inl (some (.int (if zK t (zj S0 + 2) = 2 ∧ zV t (zj S0 + 2) = 6 then nI 1 else nI 0)))) (if zK t (zj S0 + 2) = 2 ∧ zV t (zj S0 + 2) = 6 then Sfi G3 5 R (nI (zj S0 + 2 + 1)) else G3) := fun Q => d_has w3.re (by omega) (by omega)
      by_cases c6' : zK t (zj S0 + 2) = 2 ∧ zV t (zj S0 + 2) = 6
      · rw [if_pos c6'] at hQ
        simp only [if_pos c6'] at ch6
        have w4 : WA S R p t J g nk nm A b c G0 S0 [] (Sfi G3 5 R (nI (zj S0 + 2 + 1))) (zaj (zan S0) (zj S0 + 3)) := w3.nx (show zK t (zj S0 + 2) ≠ 0 by omega)
        simp (disch := first | omega | exact cI _ | exact cR _ | exact cK | exact cU | exact cO _ | exact cL _) only [oS, uS.2, Nat.reduceAdd, Nat.reduceSub, Nat.reduceMul, Nat.reduceLeDiff, Nat.reduceEqDiff, Nat.add_sub_cancel, xS, gS, nL, nS, dS, fX2_ofRow_117, fX2_ofRow_138, mX2_ofRow, zX2_ofRow, w3.gk, ch5, ch6]
        generalize Sfi G3 5 R (nI (zj S0 + 2 + 1)) = G4 at w4 ⊢
        refine x_take (k := 59) w4 (by omega) (by omega) (by omega) hQ hK (fun G6 e6 w6 hQ => ?_)
        have hd : ∀ x y Q, XC xms D 230 [.ref (Gtp G6), .int (nI (zn S0)), .int x, .int y] (Sno G6 23 3) Q = Q (.inl none) (n_sameRow (Sno G6 23 3) (Gtp G6) (nI (zn S0)) x y) := fun x y Q => d_sameRow (by omega) (if_pos rfl)
        obtain ⟨f1, f2, f3, f4⟩ := g_sameRow (G := Sno G6 23 3) (z := Gtp G6) (n := nI (zn S0)) (x0 := nI (zV t (zj S0))) (x1 := NN)
        have fin := w6.fin1 (k := 4) (cl := 23) (nf := 3) (a := nI (zV t (zj S0))) (b' := 0) (e1 := []) (e2 := []) (by show zj S0 < zj S0 + 3 + 1; omega) (by omega) (q_sameRow (z := Gtp G6) (n := nI (zn S0)) (x0 := nI (zV t (zj S0))) (x1 := NN)) f1 (fun hN => ⟨f2.trans (if_pos rfl), f3, f4⟩)
        simp (disch := first | omega | exact cI _ | exact cR _ | exact cK | exact cU | exact cO _ | exact cL _) only [oS, uS.2, Nat.reduceAdd, Nat.reduceSub, Nat.reduceMul, Nat.reduceLeDiff, Nat.reduceEqDiff, Nat.add_sub_cancel, xS, gS, nL, nS, dS, mX2_ofRow, zX2_ofRow, w6.gk, hd]
        exact hQ _ _ fin
      · rw [if_neg c6'] at hQ
        simp only [if_neg c6'] at ch6
        simp (disch := first | omega | exact cI _ | exact cR _ | exact cK | exact cU | exact cO _ | exact cL _) only [oS, uS.2, Nat.reduceAdd, Nat.reduceSub, Nat.reduceMul, Nat.reduceLeDiff, Nat.reduceEqDiff, Nat.add_sub_cancel, xS, gS, nL, nS, dS, fX2_ofRow_117, fX2_ofRow_131, fX2_ofRow_138, mX2_ofRow, zX2_ofRow, w3.gk, ch5, ch6]
        refine x_name (k := 6) (m := 3) w3 (by omega) (by omega) (by omega) (by omega) hQ hK (fun G4 e4 e4' w4 hQ => ?_)
        simp (disch := first | omega | exact cI _ | exact cR _ | exact cK | exact cU | exact cO _ | exact cL _) only [oS, uS.2, Nat.reduceAdd, Nat.reduceSub, Nat.reduceMul, Nat.reduceLeDiff, Nat.reduceEqDiff, Nat.add_sub_cancel, xS, gS, nL, nS, dS, fX2_ofRow_138, mX2_ofRow, zX2_ofRow, w4.gk]
        refine x_take (k := 59) w4 (by omega) (by omega) (by omega) hQ hK (fun G6 e6 w6 hQ => ?_)
        have hd : ∀ x y Q, XC xms D 230 [.ref (Gtp G6), .int (nI (zn S0)), .int x, .int y] (Sno G6 23 3) Q = Q (.inl none) (n_sameRow (Sno G6 23 3) (Gtp G6) (nI (zn S0)) x y) := fun x y Q => d_sameRow (by omega) (if_pos rfl)
        obtain ⟨f1, f2, f3, f4⟩ := g_sameRow (G := Sno G6 23 3) (z := Gtp G6) (n := nI (zn S0)) (x0 := nI (zV t (zj S0))) (x1 := nI (zV t (zj S0 + 2)))
        have fin := w6.fin1 (k := 5) (cl := 23) (nf := 3) (a := nI (zV t (zj S0))) (b' := nI (zV t (zj S0 + 2))) (e1 := []) (e2 := []) (by show zj S0 < zj S0 + 3 + 1; omega) (by omega) (q_sameRow (z := Gtp G6) (n := nI (zn S0)) (x0 := nI (zV t (zj S0))) (x1 := nI (zV t (zj S0 + 2)))) f1 (fun hN => ⟨f2.trans (if_pos rfl), f3, f4⟩)
        simp (disch := first | omega | exact cI _ | exact cR _ | exact cK | exact cU | exact cO _ | exact cL _) only [oS, uS.2, Nat.reduceAdd, Nat.reduceSub, Nat.reduceMul, Nat.reduceLeDiff, Nat.reduceEqDiff, Nat.add_sub_cancel, xS, gS, nL, nS, dS, mX2_ofRow, zX2_ofRow, w6.gk, hd]
        exact hQ _ _ fin
end WRD
