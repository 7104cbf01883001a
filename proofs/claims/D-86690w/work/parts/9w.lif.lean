set_option maxRecDepth 100000
theorem Sfr_o {G : XG} {f a g b : Nat} {v : Option Nat} (h : g ≠ f) : Gfr (Sfr G f a v) g b = Gfr G g b := if_neg (fun q => h q.1)
theorem Sfr_b {G : XG} {f a g b : Nat} {v : Option Nat} (h : b ≠ a) : Gfr (Sfr G f a v) g b = Gfr G g b := if_neg (fun q => h q.2)
theorem Sfr_s {G : XG} {f a : Nat} {v : Option Nat} : Gfr (Sfr G f a v) f a = v := if_pos ⟨rfl, rfl⟩
theorem Sfi_o {G : XG} {f a g b : Nat} {v : Int32} (h : g ≠ f) : Gfi (Sfi G f a v) g b = Gfi G g b := if_neg (fun q => h q.1)
theorem Sfi_S {G : XG} {f a : Nat} {v : Int32} : Gfi (Sfi G f a v) f a = v := if_pos ⟨rfl, rfl⟩
theorem Sna_k {G : XG} {t n b : Nat} (h : b ≠ Gtp G) : Gkd (Sna G t n) b = Gkd G b := if_neg h
theorem Sna_l {G : XG} {t n b : Nat} (h : b ≠ Gtp G) : Gln (Sna G t n) b = Gln G b := if_neg h
theorem Sna_K {G : XG} {t n : Nat} : Gkd (Sna G t n) (Gtp G) = 100 + t := if_pos rfl
theorem Sna_L {G : XG} {t n : Nat} : Gln (Sna G t n) (Gtp G) = n := if_pos rfl
theorem Sno_k {G : XG} {t n b : Nat} (h : b ≠ Gtp G) : Gkd (Sno G t n) b = Gkd G b := if_neg h
theorem Sar_o {G : XG} {a i b j : Nat} {v : Option Nat} (h : b ≠ a ∨ j ≠ i) : Gar (Sar G a i v) b j = Gar G b j := if_neg (fun q => by omega)
theorem Sar_s {G : XG} {a i : Nat} {v : Option Nat} : Gar (Sar G a i v) a i = v := if_pos ⟨rfl, rfl⟩
theorem Sai_o {G : XG} {a i b j : Nat} {v : Int32} (h : b ≠ a ∨ j ≠ i) : Gai (Sai G a i v) b j = Gai G b j := if_neg (fun q => by omega)
theorem Sai_s {G : XG} {a i : Nat} {v : Int32} : Gai (Sai G a i v) a i = v := if_pos ⟨rfl, rfl⟩
section LIF
variable {D S R p : Nat} {t : Tks} {j J f nk nm b m m' : Nat} {g : Nat → Option Nat} {A : Nat → Nat} {c : Cx} {S0 Z1 Z : Zs} {G0 G G1 G2 : XG} {Ns : List (Nat × List En)} {Q : (Option Value ⊕ Nat) → XG → Prop} {blk : StF}
theorem RY.lp {A' : Nat → Nat} {l : Nat} (h : RY G R p nk nm A' b c Z) : RY (Sfi G 8 R (nI l)) R p nk nm A' b (c.1, l, c.2.2) Z := by
  obtain ⟨h1, h2, h3, h4, h5, h6, h7, h8, h9, h10, h11, h12, h13, h14⟩ := h
  have fo : ∀ x a, x ≠ 8 → Gfi (Sfi G 8 R (nI l)) x a = Gfi G x a := fun x a e => if_neg (fun q => e q.1)
  exact ⟨h1, h2, (fo 7 R (by decide)).trans h3, (fo 6 R (by decide)).trans h4, if_pos ⟨rfl, rfl⟩, h6, (fo 9 R (by decide)).trans h7, ⟨(fo 11 R (by decide)).trans h8.1, h8.2⟩, (fo 10 R (by decide)).trans h9, (fo 12 p (by decide)).trans h10, (fo 13 p (by decide)).trans h11, (fo 14 p (by decide)).trans h12, ⟨(fo 15 p (by decide)).trans h13.1, h13.2⟩, h14⟩
theorem WH.lp {rv : Nat} {own : List Nat} {z l : Nat} {H : XG} {cx : Cx} {A' : Nat → Nat} {Bs : List (Nat × List Nat)} (h : WH S R p t J g nk nm A b c G0 S0 rv own z H cx A' Ns Bs G Z) : WH S R p t J g nk nm A b c G0 S0 rv own z H (cx.1, l, cx.2.2) A' Ns Bs (Sfi G 8 R (nI l)) Z := by
  have hRp := h.Rp
  exact h.on (rv' := rv) (KQ.fi (.inl ⟨Nat.le_refl _, by omega⟩)) (Nat.le_refl _) (by omega) (by omega) kE.refl kE.refl (h.re.f (by decide)) h.ry.lp rfl rfl h.2.2.2.2.2.2.2.2.2.1
theorem o_loop (h : C0 G0 S R p t J g nk nm A b c S0) (c2 : zK t (zj S0) = 2) (hw : zV t (zj S0) = 10) (hf : J < f) (hb : XBk S R p t J g nk nm blk m) (hsh : BS t blk m') (hm : J < zj S0 + 1 + m) (hD : 46 + 10 * (6 - c.2.2) ≤ D) (hQ : HS S R p t J g nk nm A b c G0 S0 (pStm t f blk c S0) Q) : XC xms (D + 1) 63 [.ref R, .int (nI (zn S0))] G0 Q := by
  have hK : ∀ {pc rest L st} z G', Q (.inr z) G' → XK xms D 63 pc rest L st Q (.inr z) G' := fun {pc rest L st} z G' h => Eq.mpr (zX2_ofWord (d := D) (pc := pc) (z := z) (L := L) (G := G') (Q := Q)) h
  have h80 : ¬ 80 ≤ zn S0 := by have := h.2.2.2.2.2.1; omega
  have e : pStm t f blk c S0 = zb (pSum t f (zj S0 + 1)) (fun r => zb (blk (c.1, c.2.1 + 1, c.2.2) (zaj (zan S0) r.1)) (fun b => .inr (zaT b.1 (tset (zT b.1) (zn S0) 10 0 0 r.2 [] b.2 none [])))) := (if_neg h80).trans ((if_neg (by omega)).trans ((if_neg (by omega)).trans ((if_neg (by omega)).trans ((if_neg (by omega)).trans ((if_neg (by omega)).trans ((if_neg (by omega)).trans (if_pos hw)))))))
  rw [e] at hQ
  refine o_wd (tg := 168) h c2 hw (by omega) (by omega) (fun es L st G Q => by rw [w_tsw, if_neg (by decide)]; rfl) (fun G1 w1 => ?_)
  have h801 : zn S0 + 1 ≤ 80 := by omega
  have w2 : WH S R p t J g nk nm A b c G0 S0 6 [Gtp G1] (Gtp G1) _ c _ [] [] (Sno G1 27 3) (zaj (zan S0) (zj S0 + 1)) := w1.mk (Nat.lt_succ_self _) (by omega) (by omega) KQ.no (Nat.lt_succ_self _) (Sh.tok h.2.2.2.2.2.2.2 (Nat.le_succ _) h801) (fun x hx => by rw [List.mem_singleton.mp hx]; exact ⟨Nat.le_refl _, Nat.lt_succ_self _⟩) (List.mem_singleton_self _)
  have hRt : (R = Gtp G1) = False := eq_false (by have := w1.re.R; omega)
  simp (disch := first | omega | exact cI _ | exact cR _ | exact cK | exact cU | exact cO _ | exact cL _) only [oS, uS.2, Nat.reduceAdd, Nat.reduceSub, Nat.reduceMul, Nat.reduceLeDiff, Nat.reduceEqDiff, Nat.add_sub_cancel, xS, gS, nL, nS, dS, fX2_ofWord_168, mX2_ofWord, zX2_ofWord, w1.gk, hRt]
  have k2 : Gkd (Sno G1 27 3) (Gtp G1) = 28 := if_pos rfl
  generalize Sno G1 27 3 = G2 at w2 k2 ⊢
  generalize Gtp G1 = z at w2 k2 ⊢
  refine y_sum (D := D) w2 hf (by omega) hQ hK (fun q a1 G3 hq1 w3 hQ => ?_)
  have hk3 : Gkd G3 z = 28 := w3.oz.1.trans k2
  have hd : ∀ Q, XC xms D 243 [.ref z, .int (nI (zn S0)), .ref a1] G3 Q = Q (.inl none) (n_loop G3 z (nI (zn S0)) (some a1)) := fun Q => d_loop (o0 := some a1) (by omega) hk3
  obtain ⟨f1, f2, f3⟩ := g_loop (G := G3) (z := z) (n := nI (zn S0)) (o0 := some a1)
  have w4 := w3.ow (rv' := 6) (own' := [z]) (q_loop (z := z) (n := nI (zn S0)) (o0 := some a1)) (fun a e => by rw [e]; exact List.mem_singleton_self _) (by omega) (by omega) (fun x hx => .inl hx) (List.mem_singleton_self _)
  have hR4 : R ≠ z := by have := w3.zl; have := w3.Rp; omega
  have h8 : Gfi (n_loop G3 z (nI (zn S0)) (some a1)) 8 R = nI c.2.1 := w4.ry.2.2.2.2.1
  have hcl := h.2.2.1.2.2.2.1
  have hc7 : c.2.1 ≤ 6 := by have := h.2.2.2.2.2.2.1; have := hcl.2.2.1; omega
  have g4 : Gkd (n_loop G3 z (nI (zn S0)) (some a1)) R = 3 := w4.gk
  have w5 := w4.lp (l := c.2.1 + 1)
  have k5 : Gkd (n_loop G3 z (nI (zn S0)) (some a1)) z = 28 := f2.trans hk3
  simp (disch := first | omega | exact cI _ | exact cR _ | exact cK | exact cU | exact cO _ | exact cL _) only [oS, uS.2, Nat.reduceAdd, Nat.reduceSub, Nat.reduceMul, Nat.reduceLeDiff, Nat.reduceEqDiff, Nat.add_sub_cancel, xS, gS, nL, nS, dS, mX2_ofWord, zX2_ofWord, hd, g4, h8]
  generalize Sfi (n_loop G3 z (nI (zn S0)) (some a1)) 8 R (nI (c.2.1 + 1)) = G5 at w5 ⊢
  have hq1 : zj S0 + 1 < q.1 := hq1
  have ox : okC (c.1, c.2.1 + 1, c.2.2) (zaj (zan S0) q.1) := ⟨by show c.1 = 999 ∨ c.1 < zn S0 + 1; have := hcl.1; omega, by show c.2.1 + 1 ≤ c.2.2 + 1; have := h.2.2.2.2.2.2.1; omega, hcl.2.2.1, h801⟩
  have w5 : WH S R p t J g nk nm A b c G0 S0 6 [z] z _ (c.1, c.2.1 + 1, c.2.2) _ ([(a1, q.2)]) [] G5 (zaj (zan S0) q.1) := w5
  refine y_block (D := D) w5 hb hsh (by show J < q.1 + m; omega) ox (by show 45 + 10 * (6 - c.2.2) ≤ D; omega) hQ hK (fun r A'' y G6 hA w6 hj6 hy hyk hQ => ?_)
  have w7 := w6.ow (rv' := 6) (own' := [z]) (KQ.fr (f := 1133) (a := z) (v := some y) (P := fun a => a = z) rfl) (fun a e => by rw [e]; exact List.mem_singleton_self _) (by omega) (by omega) (fun x hx => .inl hx) (List.mem_singleton_self _)
  have g7 : Gkd (Sfr G6 1133 z (some y)) R = 3 := w7.gk
  have h87 : Gfi (Sfr G6 1133 z (some y)) 8 R = nI (c.2.1 + 1) := w7.ry.2.2.2.2.1
  have w8 := w7.lp (l := c.2.1)
  have w8 : WH S R p t J g nk nm A b c G0 S0 6 [z] z _ c A'' ([(a1, q.2)]) ([(y, r.2)]) (Sfi (Sfr G6 1133 z (some y)) 8 R (nI c.2.1)) r.1 := w8
  have hk6 : Gkd G6 z = 28 := w6.oz.1.trans k5
  have h821 : Gfi G6 82 z = nI (zn S0) := (w6.oz.2.2.1 82).1.trans f1
  have h32 : Gfr G6 1132 z = some a1 := (w6.oz.2.2.1 1132).2.trans f3
  have fin := w8.fin (k := 10) (a := 0) (b' := 0) (e1 := q.2) (e2 := []) (l := r.2) (o := none) (cs := []) h821 (fun hN hB => ⟨hk6, ⟨a1, (Sfr_o (by decide)).trans h32, hN (a1, q.2) (List.mem_cons_self ..)⟩, by
    have e : Gfr (Sfi (Sfr G6 1133 z (some y)) 8 R (nI c.2.1)) 1133 z = some y := if_pos ⟨rfl, rfl⟩
    rw [e]
    exact hB (y, r.2) (List.mem_cons_self ..)⟩)
  simp (disch := first | omega | exact cI _ | exact cR _ | exact cK | exact cU | exact cO _ | exact cL _) only [oS, uS.2, Nat.reduceAdd, Nat.reduceSub, Nat.reduceMul, Nat.reduceLeDiff, Nat.reduceEqDiff, Nat.add_sub_cancel, xS, gS, nL, nS, dS, mX2_ofWord, zX2_ofWord, hk6, g7, h87]
  exact hQ _ _ fin
theorem o_if (h : C0 G0 S R p t J g nk nm A b c S0) (c2 : zK t (zj S0) = 2) (hw : zV t (zj S0) = 8) (hf : J < f) (hb : XBk S R p t J g nk nm blk m) (hsh : BS t blk m') (hm : J < zj S0 + 1 + m) (hD : 46 + 10 * (6 - c.2.2) ≤ D) (hQ : HS S R p t J g nk nm A b c G0 S0 (pStm t f blk c S0) Q) : XC xms (D + 1 + 1) 63 [.ref R, .int (nI (zn S0))] G0 Q := by
  have h80 : ¬ 80 ≤ zn S0 := by have := h.2.2.2.2.2.1; omega
  have e : pStm t f blk c S0 = zb (pSum t f (zj S0 + 1)) (fun r => if zK t r.1 = 61 ∨ zK t r.1 = 60 ∨ zK t r.1 = 62 then zb (pSum t f (r.1 + 1)) (fun q => zb (blk c (zaj (zan S0) q.1)) (fun b =>
      if zK t (zj b.1) = 2 ∧ zV t (zj b.1) = 9 then zb (blk c (zaj b.1 (zj b.1 + 1))) (fun z => .inr (zaT z.1 (tset (zT z.1) (zn S0) 9 (nI (zK t r.1)) 0 r.2 q.2 b.2 (some z.2) [])))
      else .inr (zaT b.1 (tset (zT b.1) (zn S0) 9 (nI (zK t r.1)) 0 r.2 q.2 b.2 none [])))) else zF t 1 r.1) := (if_neg h80).trans ((if_neg (by omega)).trans ((if_neg (by omega)).trans ((if_neg (by omega)).trans ((if_neg (by omega)).trans ((if_neg (by omega)).trans (if_pos hw))))))
  rw [e] at hQ
  refine o_wd (tg := 162) h c2 hw (by omega) (by omega) (fun es L st G Q => by rw [w_tsw, if_neg (by decide)]; rfl) (fun G1 w1 => ?_)
  simp (disch := first | omega | exact cI _ | exact cR _ | exact cK | exact cU | exact cO _ | exact cL _) only [oS, uS.2, Nat.reduceAdd, Nat.reduceSub, Nat.reduceMul, Nat.reduceLeDiff, Nat.reduceEqDiff, Nat.add_sub_cancel, xS, gS, nL, nS, dS, fX2_ofWord_162, mX2_ofWord, zX2_ofWord, w1.gk]
  -- the branch itself
  have hQ : HS S R p t J g nk nm A b c G0 S0 _ (XK xms (D + 1) 63 164 [(167, i_ret 3)] [.ref R, .int (nI (zn S0)), .int (nI (zP t (zj S0))), .int (nI 8), xjk, xjk] [] Q) := hQ.ret (fun z G' h => Eq.mpr (zX2_ofWord (d := D + 1) (pc := 164) (z := z) (L := [.ref R, .int (nI (zn S0)), .int (nI (zP t (zj S0))), .int (nI 8), xjk, xjk]) (G := G') (Q := Q)) h) (fun z G' hq => by simp (disch := first | omega | exact cI _ | exact cR _ | exact cK | exact cU | exact cO _ | exact cL _) only [oS, uS.2, Nat.reduceAdd, Nat.reduceSub, Nat.reduceMul, Nat.reduceLeDiff, Nat.reduceEqDiff, Nat.add_sub_cancel, xS, gS, nL, nS, dS, mX2_ofWord, zX2_ofWord, hq])
  generalize XK xms (D + 1) 63 164 [(167, i_ret 3)] [.ref R, .int (nI (zn S0)), .int (nI (zP t (zj S0))), .int (nI 8), xjk, xjk] [] Q = Q1 at hQ ⊢
  have hK : ∀ {pc rest L st} z G', Q1 (.inr z) G' → XK xms D 64 pc rest L st Q1 (.inr z) G' := fun {pc rest L st} z G' h => Eq.mpr (zX2_branch (d := D) (pc := pc) (z := z) (L := L) (G := G') (Q := Q1)) h
  have h801 : zn S0 + 1 ≤ 80 := by omega
  have hcl := h.2.2.1.2.2.2.1
  rw [XC_s]
  simp (disch := first | omega | exact cI _ | exact cR _ | exact cK | exact cU | exact cO _ | exact cL _) only [oS, uS.2, Nat.reduceAdd, Nat.reduceSub, Nat.reduceMul, Nat.reduceLeDiff, Nat.reduceEqDiff, Nat.add_sub_cancel, xS, gS, nL, nS, dS, fX2_branch_0, mX2_branch, zX2_branch, w1.gk]
  refine x_sum w1 hf (by omega) hQ hK (fun q a1 G2 hq1 w2 hQ => ?_)
  have hq1 : zj S0 + 1 < q.1 := hq1
  have ck : ∀ Q, XC xms D 42 [.ref R] G2 Q = Q (.inl (some (.int (nI (zK t q.1))))) G2 := fun Q => d_kind w2.re (by omega)
  have hb1 : zK t q.1 < 256 := (w2.re.2.1.2.2 _ w2.re.lJ).2.2.2.1
  have n1 := fun Q => d_need1 (D := D) (Q := Q) w2.re (by omega)
  have n0 := fun Q => d_need0 (D := D) (Q := Q) w2.re (by omega)
  have ha2 : Gfi G2 5 R = nI q.1 := w2.a
  have hl2 := w2.lJ
  have hqJ : q.1 ≤ J := w2.re.lJ
  by_cases cs : zK t q.1 = 61 ∨ zK t q.1 = 60 ∨ zK t q.1 = 62
  · rw [if_pos cs] at hQ
    have w3 : WA S R p t J g nk nm A b c G0 S0 [(a1, q.2)] (Sfi G2 5 R (nI (q.1 + 1))) (zaj (zan S0) (q.1 + 1)) := w2.nx (show zK t q.1 ≠ 0 by omega)
    have w4 : WH S R p t J g nk nm A b c G0 S0 6 [Gtp G2] (Gtp G2) _ c _ [(a1, q.2)] [] (Sno (Sfi G2 5 R (nI (q.1 + 1))) 26 6) (zaj (zan S0) (q.1 + 1)) := w3.mk (by show zj S0 < q.1 + 1; omega) (by omega) (by omega) KQ.no (Nat.lt_succ_self _) (Sh.tok h.2.2.2.2.2.2.2 (by show zj S0 ≤ q.1 + 1; omega) h801) (fun x hx => by rw [List.mem_singleton.mp hx]; exact ⟨Nat.le_refl _, Nat.lt_succ_self _⟩) (List.mem_singleton_self _)
    have goal : XC xms D 57 [.ref R] (Sno (Sfi G2 5 R (nI (q.1 + 1))) 26 6) (XK xms D 64 55 [(58, i_cli 239 4), (61, i_ast 4), (63, i_ald 4), (65, i_ald 0), (66, i_clv 0 [(3, 65)]), (69, i_pur 1130 [27]), (72, i_ald 4), (74, i_ald 0), (75, i_psh (.int 9)), (77, i_clv 1 [(3, 62)]), (80, i_ifeq 90), (83, i_ald 0), (84, i_clv 0 [(3, 65)]), (87, i_got 94)] [.ref R, .int (nI (zn S0)), .ref a1, .int (nI (zK t q.1)), xjk] [.int (nI (zK t q.1)), .ref a1, .int (nI (zn S0)), .ref (Gtp G2), .ref (Gtp G2)] Q1) := by
      have k4 : Gkd (Sno (Sfi G2 5 R (nI (q.1 + 1))) 26 6) (Gtp G2) = 27 := if_pos rfl
      generalize Sno (Sfi G2 5 R (nI (q.1 + 1))) 26 6 = G4 at w4 k4 ⊢
      generalize Gtp G2 = z at w4 k4 ⊢
      refine y_sum (D := D) w4 hf (by omega) hQ hK (fun q2 a2 G5 hq2 w5 hQ => ?_)
      have hq2 : q.1 + 1 < q2.1 := hq2
      have hk5 : Gkd G5 z = 27 := w5.oz.1.trans k4
      have hd : ∀ x Q, XC xms D 239 [.ref z, .int (nI (zn S0)), .ref a1, .int x, .ref a2] G5 Q = Q (.inl none) (n_if G5 z (nI (zn S0)) (some a1) x (some a2)) := fun x Q => d_if (o0 := some a1) (o2 := some a2) (by omega) hk5
      obtain ⟨f1, f2, f3, f4, f5⟩ := g_if (G := G5) (z := z) (n := nI (zn S0)) (o0 := some a1) (x1 := nI (zK t q.1)) (o2 := some a2)
      have w6 := w5.ow (rv' := 6) (own' := [z]) (q_if (z := z) (n := nI (zn S0)) (o0 := some a1) (x1 := nI (zK t q.1)) (o2 := some a2)) (fun a e => by rw [e]; exact List.mem_singleton_self _) (by omega) (by omega) (fun x hx => .inl hx) (List.mem_singleton_self _)
      simp (disch := first | omega | exact cI _ | exact cR _ | exact cK | exact cU | exact cO _ | exact cL _) only [oS, uS.2, Nat.reduceAdd, Nat.reduceSub, Nat.reduceMul, Nat.reduceLeDiff, Nat.reduceEqDiff, Nat.add_sub_cancel, xS, gS, nL, nS, dS, mX2_branch, zX2_branch, hd, w6.gk]
      generalize n_if G5 z (nI (zn S0)) (some a1) (nI (zK t q.1)) (some a2) = G6 at w6 f1 f2 f3 f4 f5 ⊢
      have ox : okC c (zaj (zan S0) q2.1) := ⟨by show c.1 = 999 ∨ c.1 < zn S0 + 1; have := hcl.1; omega, hcl.2.1, hcl.2.2.1, h801⟩
      have w6 : WH S R p t J g nk nm A b c G0 S0 6 [z] z _ c _ ([(a2, q2.2), (a1, q.2)]) [] G6 (zaj (zan S0) q2.1) := w6
      refine y_block (D := D) w6 hb hsh (by show J < q2.1 + m; omega) ox (by omega) hQ hK (fun r A2 y1 G7 hA w7 hj7 hy1 hk1 hQ => ?_)
      have w8 := w7.ow (rv' := 6) (own' := [z]) (KQ.fr (f := 1130) (a := z) (v := some y1) (P := fun a => a = z) rfl) (fun a e => by rw [e]; exact List.mem_singleton_self _) (by omega) (by omega) (fun x hx => .inl hx) (List.mem_singleton_self _)
      have hk7 : Gkd G7 z = 27 := w7.oz.1.trans (f2.trans hk5)
      have hj7 : q2.1 < zj r.1 := hj7
      have ch : ∀ Q, XC xms D 62 [.ref R, .int (nI 9)] (Sfr G7 1130 z (some y1)) Q = Q (.inl (some (.int (if zK t (zj r.1) = 2 ∧ zV t (zj r.1) = 9 then nI 1 else nI 0)))) (if zK t (zj r.1) = 2 ∧ zV t (zj r.1) = 9 then Sfi (Sfr G7 1130 z (some y1)) 5 R (nI (zj r.1 + 1)) else Sfr G7 1130 z (some y1)) := fun Q => d_has w8.re (by omega) (by omega)
      have e82 : Gfi G7 82 z = nI (zn S0) := (w7.oz.2.2.1 82).1.trans f1
      have e90 : Gfi G7 90 z = nI (zK t q.1) := (w7.oz.2.2.1 90).1.trans f4
      have e28 : Gfr G7 1128 z = some a1 := (w7.oz.2.2.1 1128).2.trans f3
      have e29 : Gfr G7 1129 z = some a2 := (w7.oz.2.2.1 1129).2.trans f5
      by_cases c9 : zK t (zj r.1) = 2 ∧ zV t (zj r.1) = 9
      · rw [if_pos c9] at hQ
        simp only [if_pos c9] at ch
        have w9 := w8.nx (show zK t (zj r.1) ≠ 0 by omega)
        simp (disch := first | omega | exact cI _ | exact cR _ | exact cK | exact cU | exact cO _ | exact cL _) only [oS, uS.2, Nat.reduceAdd, Nat.reduceSub, Nat.reduceMul, Nat.reduceLeDiff, Nat.reduceEqDiff, Nat.add_sub_cancel, xS, gS, nL, nS, dS, mX2_branch, zX2_branch, hk7, w7.gk, ch]
        generalize hG9 : Sfi (Sfr G7 1130 z (some y1)) 5 R (nI (zj r.1 + 1)) = G9 at w9 ⊢
        have ox2 : okC c (zaj r.1 (zj r.1 + 1)) := w7.pzz.2.2.2.1
        refine y_block (D := D) w9 hb hsh (by show J < zj r.1 + 1 + m; omega) ox2 (by omega) hQ hK (fun r2 A3 y2 G10 hA3 w10 hj10 hy2 hk2 hQ => ?_)
        have w11 := w10.ow (rv' := 6) (own' := [z]) (KQ.fr (f := 1131) (a := z) (v := some y2) (P := fun a => a = z) rfl) (fun a e => by rw [e]; exact List.mem_singleton_self _) (by omega) (by omega) (fun x hx => .inl hx) (List.mem_singleton_self _)
        have hk10 : Gkd G10 z = 27 := w10.oz.1.trans hk7
        have b82 : Gfi G10 82 z = nI (zn S0) := (w10.oz.2.2.1 82).1.trans e82
        have b90 : Gfi G10 90 z = nI (zK t q.1) := (w10.oz.2.2.1 90).1.trans e90
        have b28 : Gfr G10 1128 z = some a1 := (w10.oz.2.2.1 1128).2.trans ((Sfr_o (by decide)).trans e28)
        have b29 : Gfr G10 1129 z = some a2 := (w10.oz.2.2.1 1129).2.trans ((Sfr_o (by decide)).trans e29)
        have b30 : Gfr G10 1130 z = some y1 := (w10.oz.2.2.1 1130).2.trans (if_pos ⟨rfl, rfl⟩)
        have fin := w11.fin (k := 9) (a := nI (zK t q.1)) (b' := 0) (e1 := q.2) (e2 := q2.2) (l := r.2) (o := some r2.2) (cs := []) b82 (fun hN hB => ⟨hk10, b90, ⟨a1, (Sfr_o (by decide)).trans b28, hN (a1, q.2) (List.mem_cons_of_mem _ (List.mem_cons_self ..))⟩, ⟨a2, (Sfr_o (by decide)).trans b29, hN (a2, q2.2) (List.mem_cons_self ..)⟩, by
          rw [show Gfr (Sfr G10 1131 z (some y2)) 1130 z = some y1 from (Sfr_o (by decide)).trans b30]
          exact hB (y1, r.2) (List.mem_cons_of_mem _ (List.mem_cons_self ..)), by
          rw [show Gfr (Sfr G10 1131 z (some y2)) 1131 z = some y2 from if_pos ⟨rfl, rfl⟩]
          exact hB (y2, r2.2) (List.mem_cons_self ..)⟩)
        simp (disch := first | omega | exact cI _ | exact cR _ | exact cK | exact cU | exact cO _ | exact cL _) only [oS, uS.2, Nat.reduceAdd, Nat.reduceSub, Nat.reduceMul, Nat.reduceLeDiff, Nat.reduceEqDiff, Nat.add_sub_cancel, xS, gS, nL, nS, dS, fX2_branch_94, mX2_branch, zX2_branch, hk10]
        exact hQ _ _ fin
      · rw [if_neg c9] at hQ
        simp only [if_neg c9] at ch
        have k12 : KQ (fun a => a = z) 1 0 (Sfr G7 1130 z (some y1)) (Sna (Sfr G7 1130 z (some y1)) 4 0) := KQ.na
        have w12 := w8.ow (rv' := 5) (own' := [z]) (k12.trans (KQ.fr (f := 1131) (a := z) (v := some (Gtp G7)) rfl)) (fun a e => by rw [e]; exact List.mem_singleton_self _) (by omega) (by omega) (fun x hx => .inl hx) (List.mem_singleton_self _)
        have hzt := w7.zl
        have hRp := w7.Rp
        have zt : (z = Gtp G7) = False := eq_false (by omega)
        have fin := w12.fin (k := 9) (a := nI (zK t q.1)) (b' := 0) (e1 := q.2) (e2 := q2.2) (l := r.2) (o := none) (cs := []) e82 (fun hN hB => ⟨(Sna_k (by show z ≠ Gtp G7; omega)).trans hk7, e90, ⟨a1, ((Sfr_o (by decide)).trans (Sfr_o (G := G7) (by decide))).trans e28, hN (a1, q.2) (List.mem_cons_of_mem _ (List.mem_cons_self ..))⟩, ⟨a2, ((Sfr_o (by decide)).trans (Sfr_o (G := G7) (by decide))).trans e29, hN (a2, q2.2) (List.mem_cons_self ..)⟩, by
          rw [show Gfr (Sfr (Sna (Sfr G7 1130 z (some y1)) 4 0) 1131 z (some (Gtp G7))) 1130 z = some y1 from (Sfr_o (by decide)).trans (if_pos ⟨rfl, rfl⟩)]
          exact hB (y1, r.2) (List.mem_cons_self ..), by
          rw [show Gfr (Sfr (Sna (Sfr G7 1130 z (some y1)) 4 0) 1131 z (some (Gtp G7))) 1131 z = some (Gtp G7) from if_pos ⟨rfl, rfl⟩]
          exact ⟨Gtp G7, rfl, hRp.2.2, Nat.lt_succ_self _, if_pos rfl, if_pos rfl, fun i x hx => by simp at hx⟩⟩)
        simp (disch := first | omega | exact cI _ | exact cR _ | exact cK | exact cU | exact cO _ | exact cL _) only [oS, uS.2, Nat.reduceAdd, Nat.reduceSub, Nat.reduceMul, Nat.reduceLeDiff, Nat.reduceEqDiff, Nat.add_sub_cancel, xS, gS, nL, nS, dS, fX2_branch_90, fX2_branch_94, mX2_branch, zX2_branch, hk7, w7.gk, ch, zt]
        exact hQ _ _ fin
    have hRt : (R = Gtp G2) = False := eq_false (by have := w2.re.R; omega)
    rcases cs with cs | cs | cs
    · rw [cs] at goal
      simp (disch := first | omega | exact cI _ | exact cR _ | exact cK | exact cU | exact cO _ | exact cL _) only [oS, uS.2, Nat.reduceAdd, Nat.reduceSub, Nat.reduceMul, Nat.reduceLeDiff, Nat.reduceEqDiff, Nat.add_sub_cancel, xS, gS, nL, nS, dS, fX2_branch_29, fX2_branch_34, mX2_branch, zX2_branch, w2.gk, ck, cs, n1, ha2, hRt]
      exact goal
    · rw [cs] at goal
      simp (disch := first | omega | exact cI _ | exact cR _ | exact cK | exact cU | exact cO _ | exact cL _) only [oS, uS.2, Nat.reduceAdd, Nat.reduceSub, Nat.reduceMul, Nat.reduceLeDiff, Nat.reduceEqDiff, Nat.add_sub_cancel, xS, gS, nL, nS, dS, fX2_branch_29, fX2_branch_34, mX2_branch, zX2_branch, w2.gk, ck, cs, n1, ha2, hRt]
      exact goal
    · rw [cs] at goal
      simp (disch := first | omega | exact cI _ | exact cR _ | exact cK | exact cU | exact cO _ | exact cL _) only [oS, uS.2, Nat.reduceAdd, Nat.reduceSub, Nat.reduceMul, Nat.reduceLeDiff, Nat.reduceEqDiff, Nat.add_sub_cancel, xS, gS, nL, nS, dS, fX2_branch_29, fX2_branch_34, mX2_branch, zX2_branch, w2.gk, ck, cs, n1, ha2, hRt]
      exact goal
  · rw [if_neg cs] at hQ
    have c1 : ¬ zK t q.1 = 61 := by omega
    have c3 : ¬ zK t q.1 = 60 := by omega
    have c4 : ¬ zK t q.1 = 62 := by omega
    have := w_flt (g := g) hQ rfl w2.2.1 (by show q.1 - zj S0 + 1 ≤ 10 * (J + 1 - zj S0); omega) (by show 3 * (q.1 - zj S0) + 8 ≤ 400 * (J + 1 - zj S0); omega)
    simp (disch := first | omega | exact cI _ | exact cR _ | exact cK | exact cU | exact cO _ | exact cL _) only [oS, uS.2, Nat.reduceAdd, Nat.reduceSub, Nat.reduceMul, Nat.reduceLeDiff, Nat.reduceEqDiff, Nat.add_sub_cancel, xS, gS, nL, nS, dS, fX2_branch_33, fX2_branch_34, mX2_branch, zX2_branch, w2.gk, ck, c1, c3, c4, n0, zj_zaj, this]
end LIF
