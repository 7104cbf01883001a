set_option maxRecDepth 100000
section WRE
variable {D S R p : Nat} {t : Tks} {j J f nk nm b : Nat} {g : Nat → Option Nat} {A : Nat → Nat} {c : Cx} {S0 Z1 Z : Zs} {G0 G G1 G2 : XG} {Ns : List (Nat × List En)} {Q : (Option Value ⊕ Nat) → XG → Prop} {blk : StF}
theorem WA.v (h : WA S R p t J g nk nm A b c G0 S0 Ns G Z) (hk : zK t (zj Z) ≠ 1) : Gai G (S + 4) (zj Z) = nI (zV t (zj Z)) := (h.re.2.1.2.2 _ h.re.lJ).2.2.1 hk
theorem WA.sl (h : WA S R p t J g nk nm A b c G0 S0 Ns G Z) : Gkd G S = 2 ∧ Gfr G 1013 S = some (S + 4) ∧ Gkd G (S + 4) = 100 ∧ Gln G (S + 4) = 1001 ∧ Gfr G 1014 R = some S := by
  have h1 := h.re.1
  have h2 := h1.1
  unfold SL at h2
  exact ⟨h2.1, h2.2.2.2.2.2.2.2.2.2.2.1, h2.2.2.2.2.2.2.2.2.2.2.2.1, h2.2.2.2.2.2.2.2.2.2.2.2.2, h1.2.2.1⟩
/-- a word's beginning -/
theorem o_wd {w tg : Nat} (h : C0 G0 S R p t J g nk nm A b c S0) (c2 : zK t (zj S0) = 2) (hw : zV t (zj S0) = w) (h4 : w ≠ 4) (hD : 2 ≤ D) (hT : ∀ es L st G Q, XW xms D 63 ((42, i_tsw 3 14 406 [112, 406, 406, 406, 138, 162, 406, 168, 214, 214, 291, 315, 360, 399]) :: es) L (.int (nI w) :: st) G Q = XL xms D 63 tg L st G Q) (hs : ∀ G1, WA S R p t J g nk nm A b c G0 S0 [] G1 (zaj (zan S0) (zj S0 + 1)) → XL xms D 63 tg [.ref R, .int (nI (zn S0)), .int (nI (zP t (zj S0))), .int (nI w), xjk, xjk] [] G1 Q) : XC xms (D + 1) 63 [.ref R, .int (nI (zn S0))] G0 Q := by
  have w0 := h.start
  have cp : ∀ Q, XC xms D 44 [.ref R] G0 Q = Q (.inl (some (.int (nI (zP t (zj S0)))))) G0 := fun Q => d_rplace w0.re (by omega)
  have hl := w0.sl
  have ha : Gfi G0 5 R = nI (zj S0) := w0.a
  have hv : Gai G0 (S + 4) (zj S0) = nI w := by rw [← hw]; exact w0.v (show zK t (zj S0) ≠ 1 by omega)
  have hJ := w0.lJ
  have hJ1 : zj S0 ≤ J := w0.re.lJ
  have hw2 : w < 10000000 := by rw [← hw]; exact (w0.re.2.1.2.2 _ hJ1).2.2.2.2.2
  have w1 : WA S R p t J g nk nm A b c G0 S0 [] (Sfi G0 5 R (nI (zj S0 + 1))) (zaj (zan S0) (zj S0 + 1)) := w0.nx (show zK t (zj S0) ≠ 0 by omega)
  have := hs _ w1
  rw [XC_s]
  simp (disch := first | omega | exact cI _ | exact cR _ | exact cK | exact cU | exact cO _ | exact cL _) only [oS, uS.2, Nat.reduceAdd, Nat.reduceSub, Nat.reduceMul, Nat.reduceLeDiff, Nat.reduceEqDiff, Nat.add_sub_cancel, xS, gS, nL, nS, dS, fX2_ofWord_0, fX2_ofWord_31, mX2_ofWord, zX2_ofWord, w0.gk, cp, hl, ha, hv, h4, hT, this]
theorem o_mark (h : C0 G0 S R p t J g nk nm A b c S0) (c2 : zK t (zj S0) = 2) (hw : zV t (zj S0) = 3) (hD : 42 ≤ D) (hQ : HS S R p t J g nk nm A b c G0 S0 (pStm t f blk c S0) Q) : XC xms (D + 1) 63 [.ref R, .int (nI (zn S0))] G0 Q := by
  have hK : ∀ {pc rest L st} z G', Q (.inr z) G' → XK xms D 63 pc rest L st Q (.inr z) G' := fun {pc rest L st} z G' h => Eq.mpr (zX2_ofWord (d := D) (pc := pc) (z := z) (L := L) (G := G') (Q := Q)) h
  have h80 : ¬ 80 ≤ zn S0 := by have := h.2.2.2.2.2.1; omega
  have e : pStm t f blk c S0 = zN t (zj S0 + 1) 7 (zN t (zj S0 + 2) 59 (.inr (zaT (zaj (zan S0) (zj S0 + 3)) (tset (zT (zan S0)) (zn S0) 0 (nI (zV t (zj S0 + 1))) 0 [] [] [] none [])))) := (if_neg h80).trans ((if_neg (by omega)).trans ((if_neg (by omega)).trans ((if_neg (by omega)).trans (if_pos hw))))
  rw [e] at hQ
  refine o_wd (tg := 112) h c2 hw (by omega) (by omega) (fun es L st G Q => by rw [w_tsw, if_neg (by decide)]; rfl) (fun G1 w1 => ?_)
  simp (disch := first | omega | exact cI _ | exact cR _ | exact cK | exact cU | exact cO _ | exact cL _) only [oS, uS.2, Nat.reduceAdd, Nat.reduceSub, Nat.reduceMul, Nat.reduceLeDiff, Nat.reduceEqDiff, Nat.add_sub_cancel, xS, gS, nL, nS, dS, fX2_ofWord_112, mX2_ofWord, zX2_ofWord, w1.gk]
  refine x_take (k := 7) w1 (by omega) (by omega) (by omega) hQ hK (fun G2 e2 w2 hQ => ?_)
  simp (disch := first | omega | exact cI _ | exact cR _ | exact cK | exact cU | exact cO _ | exact cL _) only [oS, uS.2, Nat.reduceAdd, Nat.reduceSub, Nat.reduceMul, Nat.reduceLeDiff, Nat.reduceEqDiff, Nat.add_sub_cancel, xS, gS, nL, nS, dS, mX2_ofWord, zX2_ofWord, w2.gk]
  refine x_take (k := 59) w2 (by omega) (by omega) (by omega) hQ hK (fun G3 e3 w3 hQ => ?_)
  have hd : ∀ x Q, XC xms D 232 [.ref (Gtp G3), .int (nI (zn S0)), .int x] (Sno G3 24 2) Q = Q (.inl none) (n_mark (Sno G3 24 2) (Gtp G3) (nI (zn S0)) x) := fun x Q => d_mark (by omega) (if_pos rfl)
  obtain ⟨f1, f2, f3⟩ := g_mark (G := Sno G3 24 2) (z := Gtp G3) (n := nI (zn S0)) (x0 := nI (zV t (zj S0 + 1)))
  have fin := w3.fin1 (k := 0) (cl := 24) (nf := 2) (a := nI (zV t (zj S0 + 1))) (b' := 0) (e1 := []) (e2 := []) (by show zj S0 < zj S0 + 1 + 1 + 1; omega) (by omega) (q_mark (z := Gtp G3) (n := nI (zn S0)) (x0 := nI (zV t (zj S0 + 1)))) f1 (fun _ => ⟨f2.trans (if_pos rfl), f3⟩)
  simp (disch := first | omega | exact cI _ | exact cR _ | exact cK | exact cU | exact cO _ | exact cL _) only [oS, uS.2, Nat.reduceAdd, Nat.reduceSub, Nat.reduceMul, Nat.reduceLeDiff, Nat.reduceEqDiff, Nat.add_sub_cancel, xS, gS, nL, nS, dS, mX2_ofWord, zX2_ofWord, w3.gk, hd]
  exact hQ _ _ fin
theorem o_ret (h : C0 G0 S R p t J g nk nm A b c S0) (c2 : zK t (zj S0) = 2) (hw : zV t (zj S0) = 7) (hf : J < f) (hD : 42 ≤ D) (hQ : HS S R p t J g nk nm A b c G0 S0 (pStm t f blk c S0) Q) : XC xms (D + 1) 63 [.ref R, .int (nI (zn S0))] G0 Q := by
  have hK : ∀ {pc rest L st} z G', Q (.inr z) G' → XK xms D 63 pc rest L st Q (.inr z) G' := fun {pc rest L st} z G' h => Eq.mpr (zX2_ofWord (d := D) (pc := pc) (z := z) (L := L) (G := G') (Q := Q)) h
  have h80 : ¬ 80 ≤ zn S0 := by have := h.2.2.2.2.2.1; omega
  have e : pStm t f blk c S0 = zb (pSum t f (zj S0 + 1)) (fun r => zN t r.1 59 (.inr (zaT (zaj (zan S0) (r.1 + 1)) (tset (zT (zan S0)) (zn S0) 8 0 0 r.2 [] [] none [])))) := (if_neg h80).trans ((if_neg (by omega)).trans ((if_neg (by omega)).trans ((if_neg (by omega)).trans ((if_neg (by omega)).trans (if_pos hw)))))
  rw [e] at hQ
  refine o_wd (tg := 138) h c2 hw (by omega) (by omega) (fun es L st G Q => by rw [w_tsw, if_neg (by decide)]; rfl) (fun G1 w1 => ?_)
  simp (disch := first | omega | exact cI _ | exact cR _ | exact cK | exact cU | exact cO _ | exact cL _) only [oS, uS.2, Nat.reduceAdd, Nat.reduceSub, Nat.reduceMul, Nat.reduceLeDiff, Nat.reduceEqDiff, Nat.add_sub_cancel, xS, gS, nL, nS, dS, fX2_ofWord_138, mX2_ofWord, zX2_ofWord, w1.gk]
  refine x_sum w1 hf (by omega) hQ hK (fun q a1 G2 hq1 w2 hQ => ?_)
  simp (disch := first | omega | exact cI _ | exact cR _ | exact cK | exact cU | exact cO _ | exact cL _) only [oS, uS.2, Nat.reduceAdd, Nat.reduceSub, Nat.reduceMul, Nat.reduceLeDiff, Nat.reduceEqDiff, Nat.add_sub_cancel, xS, gS, nL, nS, dS, mX2_ofWord, zX2_ofWord, w2.gk]
  refine x_take (k := 59) w2 (by omega) (by omega) (by omega) hQ hK (fun G3 e3 w3 hQ => ?_)
  have hd : ∀ Q, XC xms D 235 [.ref (Gtp G3), .int (nI (zn S0)), .ref a1] (Sno G3 25 2) Q = Q (.inl none) (n_return (Sno G3 25 2) (Gtp G3) (nI (zn S0)) (some a1)) := fun Q => d_return (o0 := some a1) (by omega) (if_pos rfl)
  have hq1 : zj S0 + 1 < q.1 := hq1
  obtain ⟨f1, f2, f3⟩ := g_return (G := Sno G3 25 2) (z := Gtp G3) (n := nI (zn S0)) (o0 := some a1)
  have fin := w3.fin1 (k := 8) (cl := 25) (nf := 2) (a := 0) (b' := 0) (e1 := q.2) (e2 := []) (by show zj S0 < q.1 + 1; omega) (by omega) (q_return (z := Gtp G3) (n := nI (zn S0)) (o0 := some a1)) f1 (fun hN => ⟨f2.trans (if_pos rfl), ⟨a1, f3, hN (a1, q.2) (List.mem_cons_self ..)⟩⟩)
  simp (disch := first | omega | exact cI _ | exact cR _ | exact cK | exact cU | exact cO _ | exact cL _) only [oS, uS.2, Nat.reduceAdd, Nat.reduceSub, Nat.reduceMul, Nat.reduceLeDiff, Nat.reduceEqDiff, Nat.add_sub_cancel, xS, gS, nL, nS, dS, mX2_ofWord, zX2_ofWord, w3.gk, hd]
  exact hQ _ _ fin
theorem o_throw (h : C0 G0 S R p t J g nk nm A b c S0) (c2 : zK t (zj S0) = 2) (hw : zV t (zj S0) = 13) (hD : 42 ≤ D) (hQ : HS S R p t J g nk nm A b c G0 S0 (pStm t f blk c S0) Q) : XC xms (D + 1) 63 [.ref R, .int (nI (zn S0))] G0 Q := by
  have hK : ∀ {pc rest L st} z G', Q (.inr z) G' → XK xms D 63 pc rest L st Q (.inr z) G' := fun {pc rest L st} z G' h => Eq.mpr (zX2_ofWord (d := D) (pc := pc) (z := z) (L := L) (G := G') (Q := Q)) h
  have h80 : ¬ 80 ≤ zn S0 := by have := h.2.2.2.2.2.1; omega
  have e : pStm t f blk c S0 = zN t (zj S0 + 1) 3 (zN t (zj S0 + 2) 59 (.inr (zac (zaT (zaj (zan S0) (zj S0 + 3)) (tset (zT (zan S0)) (zn S0) 13 (nI (zV t (zj S0 + 1))) 0 [] [] [] none [])) (1, zP t (zj S0 + 1), zV t (zj S0 + 1))))) := (if_neg h80).trans ((if_neg (by omega)).trans ((if_neg (by omega)).trans ((if_neg (by omega)).trans ((if_neg (by omega)).trans ((if_neg (by omega)).trans ((if_neg (by omega)).trans ((if_neg (by omega)).trans ((if_neg (by omega)).trans (if_pos hw)))))))))
  rw [e] at hQ
  refine o_wd (tg := 291) h c2 hw (by omega) (by omega) (fun es L st G Q => by rw [w_tsw, if_neg (by decide)]; rfl) (fun G1 w1 => ?_)
  simp (disch := first | omega | exact cI _ | exact cR _ | exact cK | exact cU | exact cO _ | exact cL _) only [oS, uS.2, Nat.reduceAdd, Nat.reduceSub, Nat.reduceMul, Nat.reduceLeDiff, Nat.reduceEqDiff, Nat.add_sub_cancel, xS, gS, nL, nS, dS, fX2_ofWord_291, mX2_ofWord, zX2_ofWord, w1.gk]
  refine x_kindName w1 (by omega) hQ hK (fun G2 e2 w2 hQ => ?_)
  simp (disch := first | omega | exact cI _ | exact cR _ | exact cK | exact cU | exact cO _ | exact cL _) only [oS, uS.2, Nat.reduceAdd, Nat.reduceSub, Nat.reduceMul, Nat.reduceLeDiff, Nat.reduceEqDiff, Nat.add_sub_cancel, xS, gS, nL, nS, dS, mX2_ofWord, zX2_ofWord, w2.gk]
  refine x_take (k := 59) w2 (by omega) (by omega) (by omega) hQ hK (fun G3 e3 w3 hQ => ?_)
  have hd : ∀ x Q, XC xms D 251 [.ref (Gtp G3), .int (nI (zn S0)), .int x] (Sno G3 29 2) Q = Q (.inl none) (n_throw (Sno G3 29 2) (Gtp G3) (nI (zn S0)) x) := fun x Q => d_throw (by omega) (if_pos rfl)
  obtain ⟨f1, f2, f3⟩ := g_throw (G := Sno G3 29 2) (z := Gtp G3) (n := nI (zn S0)) (x0 := nI (zV t (zj S0 + 1)))
  have fin := w3.fin1 (k := 13) (cl := 29) (nf := 2) (a := nI (zV t (zj S0 + 1))) (b' := 0) (e1 := []) (e2 := []) (by show zj S0 < zj S0 + 1 + 1 + 1; omega) (by omega) (q_throw (z := Gtp G3) (n := nI (zn S0)) (x0 := nI (zV t (zj S0 + 1)))) f1 (fun _ => ⟨f2.trans (if_pos rfl), f3⟩)
  simp (disch := first | omega | exact cI _ | exact cR _ | exact cK | exact cU | exact cO _ | exact cL _) only [oS, uS.2, Nat.reduceAdd, Nat.reduceSub, Nat.reduceMul, Nat.reduceLeDiff, Nat.reduceEqDiff, Nat.add_sub_cancel, xS, gS, nL, nS, dS, mX2_ofWord, zX2_ofWord, w3.gk, hd]
  exact hQ _ _ fin
theorem o_leave {w : Nat} (h : C0 G0 S R p t J g nk nm A b c S0) (c2 : zK t (zj S0) = 2) (hw : zV t (zj S0) = w) (hw2 : w = 11 ∨ w = 12) (hD : 42 ≤ D) (hQ : HS S R p t J g nk nm A b c G0 S0 (pStm t f blk c S0) Q) : XC xms (D + 1) 63 [.ref R, .int (nI (zn S0))] G0 Q := by
  have hK : ∀ {pc rest L st} z G', Q (.inr z) G' → XK xms D 63 pc rest L st Q (.inr z) G' := fun {pc rest L st} z G' h => Eq.mpr (zX2_ofWord (d := D) (pc := pc) (z := z) (L := L) (G := G') (Q := Q)) h
  have h80 : ¬ 80 ≤ zn S0 := by have := h.2.2.2.2.2.1; omega
  have e : pStm t f blk c S0 = zN t (zj S0 + 1) 7 (zN t (zj S0 + 2) 59 (.inr (zaT (zaj (if zV t (zj S0 + 1) = 0 ∨ c.2.1 < zV t (zj S0 + 1) then zac (zan S0) (4, zP t (zj S0 + 1), 0) else zan S0) (zj S0 + 3)) (tset (zT (zan S0)) (zn S0) (zV t (zj S0)) (nI (zV t (zj S0 + 1))) 0 [] [] [] none [])))) := (if_neg h80).trans ((if_neg (by omega)).trans ((if_neg (by omega)).trans ((if_neg (by omega)).trans ((if_neg (by omega)).trans ((if_neg (by omega)).trans ((if_neg (by omega)).trans ((if_neg (by omega)).trans (if_pos (by omega)))))))))
  rw [e, hw] at hQ
  refine o_wd (tg := 214) h c2 hw (by omega) (by omega) (fun es L st G Q => by
    rcases hw2 with hw2 | hw2
    · rw [hw2, w_tsw, if_neg (by decide)]; rfl
    · rw [hw2, w_tsw, if_neg (by decide)]; rfl) (fun G1 w1 => ?_)
  have cp : ∀ Q, XC xms D 44 [.ref R] G1 Q = Q (.inl (some (.int (nI (zP t (zj S0 + 1)))))) G1 := fun Q => d_rplace w1.re (by omega)
  have hpl : zP t (zj S0 + 1) < 2000 := w1.re.pl
  simp (disch := first | omega | exact cI _ | exact cR _ | exact cK | exact cU | exact cO _ | exact cL _) only [oS, uS.2, Nat.reduceAdd, Nat.reduceSub, Nat.reduceMul, Nat.reduceLeDiff, Nat.reduceEqDiff, Nat.add_sub_cancel, xS, gS, nL, nS, dS, fX2_ofWord_214, mX2_ofWord, zX2_ofWord, w1.gk, cp]
  refine x_take (k := 7) w1 (by omega) (by omega) (by omega) hQ hK (fun G2 e2 w2 hQ => ?_)
  have w2 : WA S R p t J g nk nm A b c G0 S0 [] G2 (zaj (zan S0) (zj S0 + 2)) := w2
  have h8 : Gfi G2 8 R = nI c.2.1 := w2.ry.2.2.2.2.1
  have hc := h.2.2.1.2.2.2.1
  have hc1 : c.2.1 ≤ 7 := by have := hc.2.1; have := hc.2.2.1; omega
  have hn : zV t (zj S0 + 1) < 10000000 := (w1.re.2.1.2.2 _ w1.re.lJ).2.2.2.2.2
  have fin' : ∀ G3 Z3, WA S R p t J g nk nm A b c G0 S0 [] G3 (zaj Z3 (zj S0 + 2)) → HS S R p t J g nk nm A b c G0 S0 (zN t (zj S0 + 2) 59 (.inr (zaT (zaj Z3 (zj S0 + 3)) (tset (zT (zan S0)) (zn S0) w (nI (zV t (zj S0 + 1))) 0 [] [] [] none [])))) Q → XK xms D 63 250 [(253, i_ald 0), (254, i_psh (.int 59)), (256, i_clv 1 [(3, 48)]), (259, i_pop), (260, i_new 28 2), (263, i_dup), (264, i_ild 1), (265, i_ild 3), (266, i_psh (.int 11)), (268, i_icne 276), (271, i_psh (.int 100)), (273, i_got 279)] [.ref R, .int (nI (zn S0)), .int (nI (zP t (zj S0))), .int (nI w), .int (nI (zP t (zj S0 + 1))), .int (nI (zV t (zj S0 + 1)))] [] Q (.inl none) G3 := by
    intro G3 Z3 w3 hQ
    simp (disch := first | omega | exact cI _ | exact cR _ | exact cK | exact cU | exact cO _ | exact cL _) only [oS, uS.2, Nat.reduceAdd, Nat.reduceSub, Nat.reduceMul, Nat.reduceLeDiff, Nat.reduceEqDiff, Nat.add_sub_cancel, xS, gS, nL, nS, dS, mX2_ofWord, zX2_ofWord, w3.gk]
    refine x_take (k := 59) w3 (by omega) (by omega) (by omega) hQ hK (fun G4 e4 w4 hQ => ?_)
    have hmn : ∀ Q, XC xms D 293 [.int (nI (zV t (zj S0 + 1))), .int (nI 80)] (Sno G4 28 2) Q = Q (.inl (some (.int (nI (min (zV t (zj S0 + 1)) 80))))) (Sno G4 28 2) := fun Q => d_min (by omega) (by omega) (by omega)
    have hm80 : min (zV t (zj S0 + 1)) 80 ≤ 80 := Nat.min_le_right _ _
    have hd : ∀ x Q, XC xms D 248 [.ref (Gtp G4), .int (nI (zn S0)), .int x] (Sno G4 28 2) Q = Q (.inl none) (n_leave (Sno G4 28 2) (Gtp G4) (nI (zn S0)) x) := fun x Q => d_leave (by omega) (if_pos rfl)
    rcases hw2 with hw2 | hw2
    · subst hw2
      obtain ⟨f1, f2, f3⟩ := g_leave (G := Sno G4 28 2) (z := Gtp G4) (n := nI (zn S0)) (x0 := nI (100 + min (zV t (zj S0 + 1)) 80))
      have fin := w4.fin1 (k := 11) (cl := 28) (nf := 2) (a := nI (zV t (zj S0 + 1))) (b' := 0) (e1 := []) (e2 := []) (by show zj S0 < zj S0 + 2 + 1; omega) (by omega) (q_leave (z := Gtp G4) (n := nI (zn S0)) (x0 := nI (100 + min (zV t (zj S0 + 1)) 80))) f1 (fun _ => ⟨f2.trans (if_pos rfl), _, rfl, hn, f3⟩)
      generalize min (zV t (zj S0 + 1)) 80 = mn at *
      simp (disch := first | omega | exact cI _ | exact cR _ | exact cK | exact cU | exact cO _ | exact cL _) only [oS, uS.2, Nat.reduceAdd, Nat.reduceSub, Nat.reduceMul, Nat.reduceLeDiff, Nat.reduceEqDiff, Nat.add_sub_cancel, xS, gS, nL, nS, dS, fX2_ofWord_279, mX2_ofWord, zX2_ofWord, w4.gk, hmn, hd]
      exact hQ _ _ fin
    · subst hw2
      obtain ⟨f1, f2, f3⟩ := g_leave (G := Sno G4 28 2) (z := Gtp G4) (n := nI (zn S0)) (x0 := nI (200 + min (zV t (zj S0 + 1)) 80))
      have fin := w4.fin1 (k := 12) (cl := 28) (nf := 2) (a := nI (zV t (zj S0 + 1))) (b' := 0) (e1 := []) (e2 := []) (by show zj S0 < zj S0 + 2 + 1; omega) (by omega) (q_leave (z := Gtp G4) (n := nI (zn S0)) (x0 := nI (200 + min (zV t (zj S0 + 1)) 80))) f1 (fun _ => ⟨f2.trans (if_pos rfl), _, rfl, hn, f3⟩)
      generalize min (zV t (zj S0 + 1)) 80 = mn at *
      simp (disch := first | omega | exact cI _ | exact cR _ | exact cK | exact cU | exact cO _ | exact cL _) only [oS, uS.2, Nat.reduceAdd, Nat.reduceSub, Nat.reduceMul, Nat.reduceLeDiff, Nat.reduceEqDiff, Nat.add_sub_cancel, xS, gS, nL, nS, dS, fX2_ofWord_276, fX2_ofWord_279, mX2_ofWord, zX2_ofWord, w4.gk, hmn, hd]
      exact hQ _ _ fin
  by_cases e0 : zV t (zj S0 + 1) = 0 ∨ c.2.1 < zV t (zj S0 + 1)
  · rw [if_pos e0] at hQ
    have xl := fun K hs => x_lacks (K := K) (B := True) (pl := zP t (zj S0 + 1)) w2 (show 1 ≤ D by omega) hpl hs
    simp only [if_true] at xl
    have q1 := xl _ (fun G3 w3 => fin' G3 (zac (zan S0) (4, zP t (zj S0 + 1), 0)) w3 hQ)
    rcases e0 with e0 | e0
    · rw [e0] at q1
      simp (disch := first | omega | exact cI _ | exact cR _ | exact cK | exact cU | exact cO _ | exact cL _) only [oS, uS.2, Nat.reduceAdd, Nat.reduceSub, Nat.reduceMul, Nat.reduceLeDiff, Nat.reduceEqDiff, Nat.add_sub_cancel, xS, gS, nL, nS, dS, fX2_ofWord_243, fX2_ofWord_248, mX2_ofWord, zX2_ofWord, w2.gk, zj_zaj, e0]
      exact q1
    · have e1 : ¬ zV t (zj S0 + 1) = 0 := by omega
      simp (disch := first | omega | exact cI _ | exact cR _ | exact cK | exact cU | exact cO _ | exact cL _) only [oS, uS.2, Nat.reduceAdd, Nat.reduceSub, Nat.reduceMul, Nat.reduceLeDiff, Nat.reduceEqDiff, Nat.add_sub_cancel, xS, gS, nL, nS, dS, fX2_ofWord_243, fX2_ofWord_248, mX2_ofWord, zX2_ofWord, w2.gk, zj_zaj, h8, e1, e0]
      exact q1
  · rw [if_neg e0] at hQ
    have e1 : ¬ zV t (zj S0 + 1) = 0 := by omega
    have e2 : ¬ c.2.1 < zV t (zj S0 + 1) := by omega
    have xl := fun K hs => x_lacks (K := K) (B := False) (pl := zP t (zj S0 + 1)) w2 (show 1 ≤ D by omega) hpl hs
    simp only [if_false] at xl
    have q1 := xl _ (fun G3 w3 => fin' G3 (zan S0) w3 hQ)
    simp (disch := first | omega | exact cI _ | exact cR _ | exact cK | exact cU | exact cO _ | exact cL _) only [oS, uS.2, Nat.reduceAdd, Nat.reduceSub, Nat.reduceMul, Nat.reduceLeDiff, Nat.reduceEqDiff, Nat.add_sub_cancel, xS, gS, nL, nS, dS, fX2_ofWord_247, fX2_ofWord_248, mX2_ofWord, zX2_ofWord, w2.gk, zj_zaj, h8, e1, e2]
    exact q1
theorem o_wrap (h : C0 G0 S R p t J g nk nm A b c S0) (c2 : zK t (zj S0) = 2) (hw : zV t (zj S0) = 14) (hD : 42 ≤ D) (hQ : HS S R p t J g nk nm A b c G0 S0 (pStm t f blk c S0) Q) : XC xms (D + 1) 63 [.ref R, .int (nI (zn S0))] G0 Q := by
  have hK : ∀ {pc rest L st} z G', Q (.inr z) G' → XK xms D 63 pc rest L st Q (.inr z) G' := fun {pc rest L st} z G' h => Eq.mpr (zX2_ofWord (d := D) (pc := pc) (z := z) (L := L) (G := G') (Q := Q)) h
  have h80 : ¬ 80 ≤ zn S0 := by have := h.2.2.2.2.2.1; omega
  have e : pStm t f blk c S0 = zN t (zj S0 + 1) 3 (zN t (zj S0 + 2) 59 (.inr (zac (zaT (zaj (if c.1 = 999 then zac (zan S0) (4, zP t (zj S0), 0) else zan S0) (zj S0 + 3)) (tset (zT (zan S0)) (zn S0) 14 (nI (zV t (zj S0 + 1))) (nI c.1) [] [] [] none [])) (1, zP t (zj S0 + 1), zV t (zj S0 + 1))))) := (if_neg h80).trans ((if_neg (by omega)).trans ((if_neg (by omega)).trans ((if_neg (by omega)).trans ((if_neg (by omega)).trans ((if_neg (by omega)).trans ((if_neg (by omega)).trans ((if_neg (by omega)).trans ((if_neg (by omega)).trans ((if_neg (by omega)).trans (if_pos hw))))))))))
  rw [e] at hQ
  refine o_wd (tg := 315) h c2 hw (by omega) (by omega) (fun es L st G Q => by rw [w_tsw, if_neg (by decide)]; rfl) (fun G1 w1 => ?_)
  have hpl : zP t (zj S0) < 2000 := h.1.pl
  have hc1 := h.2.2.1.2.2.2.1.1
  have fin' : ∀ G3 Z3, WA S R p t J g nk nm A b c G0 S0 [] G3 (zaj Z3 (zj S0 + 1)) → HS S R p t J g nk nm A b c G0 S0 (zN t (zj S0 + 1) 3 (zN t (zj S0 + 2) 59 (.inr (zac (zaT (zaj Z3 (zj S0 + 3)) (tset (zT (zan S0)) (zn S0) 14 (nI (zV t (zj S0 + 1))) (nI c.1) [] [] [] none [])) (1, zP t (zj S0 + 1), zV t (zj S0 + 1)))))) Q → XK xms D 63 329 [(332, i_ald 0), (333, i_clv 0 [(3, 47)]), (336, i_ist 4), (338, i_ald 0), (339, i_psh (.int 59)), (341, i_clv 1 [(3, 48)]), (344, i_pop), (345, i_new 30 3), (348, i_dup), (349, i_ild 1), (350, i_ild 4), (352, i_ald 0), (353, i_ger 1016 [3]), (356, i_cli 253 3), (359, i_ret 3)] [.ref R, .int (nI (zn S0)), .int (nI (zP t (zj S0))), .int (nI 14), xjk, xjk] [] Q (.inl none) G3 := by
    intro G3 Z3 w3 hQ
    simp (disch := first | omega | exact cI _ | exact cR _ | exact cK | exact cU | exact cO _ | exact cL _) only [oS, uS.2, Nat.reduceAdd, Nat.reduceSub, Nat.reduceMul, Nat.reduceLeDiff, Nat.reduceEqDiff, Nat.add_sub_cancel, xS, gS, nL, nS, dS, mX2_ofWord, zX2_ofWord, w3.gk]
    refine x_kindName w3 (by omega) hQ hK (fun G4 e4 w4 hQ => ?_)
    simp (disch := first | omega | exact cI _ | exact cR _ | exact cK | exact cU | exact cO _ | exact cL _) only [oS, uS.2, Nat.reduceAdd, Nat.reduceSub, Nat.reduceMul, Nat.reduceLeDiff, Nat.reduceEqDiff, Nat.add_sub_cancel, xS, gS, nL, nS, dS, mX2_ofWord, zX2_ofWord, w4.gk]
    refine x_take (k := 59) w4 (by omega) (by omega) (by omega) hQ hK (fun G5 e5 w5 hQ => ?_)
    obtain ⟨o, ho⟩ : ∃ o, o = (if c.1 = 999 then none else some (A c.1)) := ⟨_, rfl⟩
    have h16 : Gfr G5 1016 R = o := by rw [ho]; exact w5.ry.2.2.2.2.2.1
    have hRt : (R = Gtp G5) = False := eq_false (by have := w5.re.R; omega)
    have hd : ∀ x Q, XC xms D 253 [.ref (Gtp G5), .int (nI (zn S0)), .int x, va_rf o] (Sno G5 30 3) Q = Q (.inl none) (n_again (Sno G5 30 3) (Gtp G5) (nI (zn S0)) x o) := fun x Q => d_again (by omega) (if_pos rfl)
    obtain ⟨f1, f2, f3, f4⟩ := g_again (G := Sno G5 30 3) (z := Gtp G5) (n := nI (zn S0)) (x0 := nI (zV t (zj S0 + 1))) (o1 := o)
    have h8 := h.2.2.2.2.2.1
    have fin := w5.fin1 (k := 14) (cl := 30) (nf := 3) (a := nI (zV t (zj S0 + 1))) (b' := nI c.1) (e1 := []) (e2 := []) (by show zj S0 < zj S0 + 1 + 1 + 1; omega) (by omega) (q_again (z := Gtp G5) (n := nI (zn S0)) (x0 := nI (zV t (zj S0 + 1))) (o1 := o)) f1 (fun _ => ⟨f2.trans (if_pos rfl), f3, c.1, rfl, by omega, f4.trans (by
      rw [ho]
      by_cases e9 : c.1 = 999
      · rw [if_pos e9, if_pos e9]
      · rw [if_neg e9, if_neg e9]
        exact congrArg some (if_neg (by omega)).symm)⟩)
    simp (disch := first | omega | exact cI _ | exact cR _ | exact cK | exact cU | exact cO _ | exact cL _) only [oS, uS.2, Nat.reduceAdd, Nat.reduceSub, Nat.reduceMul, Nat.reduceLeDiff, Nat.reduceEqDiff, Nat.add_sub_cancel, xS, gS, nL, nS, dS, mX2_ofWord, zX2_ofWord, w5.gk, hRt, h16, hd]
    exact hQ _ _ fin
  by_cases e9 : c.1 = 999
  · rw [if_pos e9] at hQ
    have h16 : Gfr G1 1016 R = none := by have := w1.ry.2.2.2.2.2.1; rw [if_pos e9] at this; exact this
    have xl := fun K hs => x_lacks (K := K) (B := True) (pl := zP t (zj S0)) w1 (show 1 ≤ D by omega) hpl hs
    simp only [if_true] at xl
    have q1 := xl _ (fun G3 w3 => fin' G3 (zac (zan S0) (4, zP t (zj S0), 0)) w3 hQ)
    simp (disch := first | omega | exact cI _ | exact cR _ | exact cK | exact cU | exact cO _ | exact cL _) only [oS, uS.2, Nat.reduceAdd, Nat.reduceSub, Nat.reduceMul, Nat.reduceLeDiff, Nat.reduceEqDiff, Nat.add_sub_cancel, xS, gS, nL, nS, dS, fX2_ofWord_315, fX2_ofWord_328, mX2_ofWord, zX2_ofWord, w1.gk, h16]
    exact q1
  · rw [if_neg e9] at hQ
    have h16 : Gfr G1 1016 R = some (A c.1) := by have := w1.ry.2.2.2.2.2.1; rw [if_neg e9] at this; exact this
    have xl := fun K hs => x_lacks (K := K) (B := False) (pl := zP t (zj S0)) w1 (show 1 ≤ D by omega) hpl hs
    simp only [if_false] at xl
    have q1 := xl _ (fun G3 w3 => fin' G3 (zan S0) w3 hQ)
    simp (disch := first | omega | exact cI _ | exact cR _ | exact cK | exact cU | exact cO _ | exact cL _) only [oS, uS.2, Nat.reduceAdd, Nat.reduceSub, Nat.reduceMul, Nat.reduceLeDiff, Nat.reduceEqDiff, Nat.add_sub_cancel, xS, gS, nL, nS, dS, fX2_ofWord_315, fX2_ofWord_327, fX2_ofWord_328, mX2_ofWord, zX2_ofWord, w1.gk, h16]
    exact q1
theorem o_again (h : C0 G0 S R p t J g nk nm A b c S0) (c2 : zK t (zj S0) = 2) (hw : zV t (zj S0) = 15) (hD : 42 ≤ D) (hQ : HS S R p t J g nk nm A b c G0 S0 (pStm t f blk c S0) Q) : XC xms (D + 1) 63 [.ref R, .int (nI (zn S0))] G0 Q := by
  have hK : ∀ {pc rest L st} z G', Q (.inr z) G' → XK xms D 63 pc rest L st Q (.inr z) G' := fun {pc rest L st} z G' h => Eq.mpr (zX2_ofWord (d := D) (pc := pc) (z := z) (L := L) (G := G') (Q := Q)) h
  have h80 : ¬ 80 ≤ zn S0 := by have := h.2.2.2.2.2.1; omega
  have e : pStm t f blk c S0 = zN t (zj S0 + 1) 59 (.inr (zaT (zaj (if c.1 = 999 then zac (zan S0) (4, zP t (zj S0), 0) else zan S0) (zj S0 + 2)) (tset (zT (zan S0)) (zn S0) 15 0 (nI c.1) [] [] [] none []))) := (if_neg h80).trans ((if_neg (by omega)).trans ((if_neg (by omega)).trans ((if_neg (by omega)).trans ((if_neg (by omega)).trans ((if_neg (by omega)).trans ((if_neg (by omega)).trans ((if_neg (by omega)).trans ((if_neg (by omega)).trans ((if_neg (by omega)).trans ((if_neg (by omega)).trans (if_pos hw)))))))))))
  rw [e] at hQ
  refine o_wd (tg := 360) h c2 hw (by omega) (by omega) (fun es L st G Q => by rw [w_tsw, if_neg (by decide)]; rfl) (fun G1 w1 => ?_)
  have hpl : zP t (zj S0) < 2000 := h.1.pl
  have hc1 := h.2.2.1.2.2.2.1.1
  have fin' : ∀ G3 Z3, WA S R p t J g nk nm A b c G0 S0 [] G3 (zaj Z3 (zj S0 + 1)) → HS S R p t J g nk nm A b c G0 S0 (zN t (zj S0 + 1) 59 (.inr (zaT (zaj Z3 (zj S0 + 2)) (tset (zT (zan S0)) (zn S0) 15 0 (nI c.1) [] [] [] none [])))) Q → XK xms D 63 374 [(377, i_ald 0), (378, i_psh (.int 59)), (380, i_clv 1 [(3, 48)]), (383, i_pop), (384, i_new 30 3), (387, i_dup), (388, i_ild 1), (389, i_psh (.int (-9))), (391, i_ald 0), (392, i_ger 1016 [3]), (395, i_cli 253 3), (398, i_ret 3)] [.ref R, .int (nI (zn S0)), .int (nI (zP t (zj S0))), .int (nI 15), xjk, xjk] [] Q (.inl none) G3 := by
    intro G3 Z3 w3 hQ
    simp (disch := first | omega | exact cI _ | exact cR _ | exact cK | exact cU | exact cO _ | exact cL _) only [oS, uS.2, Nat.reduceAdd, Nat.reduceSub, Nat.reduceMul, Nat.reduceLeDiff, Nat.reduceEqDiff, Nat.add_sub_cancel, xS, gS, nL, nS, dS, mX2_ofWord, zX2_ofWord, w3.gk]
    refine x_take (k := 59) w3 (by omega) (by omega) (by omega) hQ hK (fun G5 e5 w5 hQ => ?_)
    obtain ⟨o, ho⟩ : ∃ o, o = (if c.1 = 999 then none else some (A c.1)) := ⟨_, rfl⟩
    have h16 : Gfr G5 1016 R = o := by rw [ho]; exact w5.ry.2.2.2.2.2.1
    have hRt : (R = Gtp G5) = False := eq_false (by have := w5.re.R; omega)
    have hd : ∀ x Q, XC xms D 253 [.ref (Gtp G5), .int (nI (zn S0)), .int x, va_rf o] (Sno G5 30 3) Q = Q (.inl none) (n_again (Sno G5 30 3) (Gtp G5) (nI (zn S0)) x o) := fun x Q => d_again (by omega) (if_pos rfl)
    obtain ⟨f1, f2, f3, f4⟩ := g_again (G := Sno G5 30 3) (z := Gtp G5) (n := nI (zn S0)) (x0 := NN) (o1 := o)
    have h8 := h.2.2.2.2.2.1
    have fin := w5.fin1 (k := 15) (cl := 30) (nf := 3) (a := 0) (b' := nI c.1) (e1 := []) (e2 := []) (by show zj S0 < zj S0 + 1 + 1; omega) (by omega) (q_again (z := Gtp G5) (n := nI (zn S0)) (x0 := NN) (o1 := o)) f1 (fun _ => ⟨f2.trans (if_pos rfl), f3, c.1, rfl, by omega, f4.trans (by
      rw [ho]
      by_cases e9 : c.1 = 999
      · rw [if_pos e9, if_pos e9]
      · rw [if_neg e9, if_neg e9]
        exact congrArg some (if_neg (by omega)).symm)⟩)
    simp (disch := first | omega | exact cI _ | exact cR _ | exact cK | exact cU | exact cO _ | exact cL _) only [oS, uS.2, Nat.reduceAdd, Nat.reduceSub, Nat.reduceMul, Nat.reduceLeDiff, Nat.reduceEqDiff, Nat.add_sub_cancel, xS, gS, nL, nS, dS, mX2_ofWord, zX2_ofWord, w5.gk, hRt, h16, hd]
    exact hQ _ _ fin
  by_cases e9 : c.1 = 999
  · rw [if_pos e9] at hQ
    have h16 : Gfr G1 1016 R = none := by have := w1.ry.2.2.2.2.2.1; rw [if_pos e9] at this; exact this
    have xl := fun K hs => x_lacks (K := K) (B := True) (pl := zP t (zj S0)) w1 (show 1 ≤ D by omega) hpl hs
    simp only [if_true] at xl
    have q1 := xl _ (fun G3 w3 => fin' G3 (zac (zan S0) (4, zP t (zj S0), 0)) w3 hQ)
    simp (disch := first | omega | exact cI _ | exact cR _ | exact cK | exact cU | exact cO _ | exact cL _) only [oS, uS.2, Nat.reduceAdd, Nat.reduceSub, Nat.reduceMul, Nat.reduceLeDiff, Nat.reduceEqDiff, Nat.add_sub_cancel, xS, gS, nL, nS, dS, fX2_ofWord_360, fX2_ofWord_373, mX2_ofWord, zX2_ofWord, w1.gk, h16]
    exact q1
  · rw [if_neg e9] at hQ
    have h16 : Gfr G1 1016 R = some (A c.1) := by have := w1.ry.2.2.2.2.2.1; rw [if_neg e9] at this; exact this
    have xl := fun K hs => x_lacks (K := K) (B := False) (pl := zP t (zj S0)) w1 (show 1 ≤ D by omega) hpl hs
    simp only [if_false] at xl
    have q1 := xl _ (fun G3 w3 => fin' G3 (zan S0) w3 hQ)
    simp (disch := first | omega | exact cI _ | exact cR _ | exact cK | exact cU | exact cO _ | exact cL _) only [oS, uS.2, Nat.reduceAdd, Nat.reduceSub, Nat.reduceMul, Nat.reduceLeDiff, Nat.reduceEqDiff, Nat.add_sub_cancel, xS, gS, nL, nS, dS, fX2_ofWord_360, fX2_ofWord_372, fX2_ofWord_373, mX2_ofWord, zX2_ofWord, w1.gk, h16]
    exact q1
end WRE
