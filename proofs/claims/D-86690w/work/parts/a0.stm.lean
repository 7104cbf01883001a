set_option maxRecDepth 100000
section STM
variable {D S R p : Nat} {t : Tks} {j J f nk nm b m m' : Nat} {g : Nat → Option Nat} {A : Nat → Nat} {c : Cx} {S0 Z1 Z : Zs} {G0 G G1 G2 : XG} {Q : (Option Value ⊕ Nat) → XG → Prop} {blk : StF}
theorem o_wcall (h : C0 G0 S R p t J g nk nm A b c S0) (c2 : zK t (zj S0) = 2) (hw : zV t (zj S0) = 4) (hf : J < f) (hD : 42 ≤ D) (hQ : HS S R p t J g nk nm A b c G0 S0 (pStm t f blk c S0) Q) : XC xms (D + 1) 63 [.ref R, .int (nI (zn S0))] G0 Q := by
  have hK : ∀ {pc rest L st} z G', Q (.inr z) G' → XK xms D 63 pc rest L st Q (.inr z) G' := fun {pc rest L st} z G' h => Eq.mpr (zX2_ofWord (d := D) (pc := pc) (z := z) (L := L) (G := G') (Q := Q)) h
  have h80 : ¬ 80 ≤ zn S0 := by have := h.2.2.2.2.2.1; omega
  have e : pStm t f blk c S0 = pCall t f (zn S0) 7 0 (zaj (zan S0) (zj S0)) := (if_neg h80).trans ((if_neg (by omega)).trans ((if_neg (by omega)).trans (if_pos hw)))
  rw [e] at hQ
  have w0 : WA S R p t J g nk nm A b c G0 S0 [] G0 (zaj (zan S0) (zj S0)) := h.start
  have cp : ∀ Q, XC xms D 44 [.ref R] G0 Q = Q (.inl (some (.int (nI (zP t (zj S0)))))) G0 := fun Q => d_rplace w0.re (by omega)
  have hl := w0.sl
  have ha : Gfi G0 5 R = nI (zj S0) := w0.a
  have hv : Gai G0 (S + 4) (zj S0) = nI 4 := (w0.v (show zK t (zj S0) ≠ 1 by omega)).trans (congrArg nI hw)
  have hJ := w0.lJ
  have hJ1 : zj S0 ≤ J := w0.re.lJ
  have := o_call (D := D) (k := 7) (a := 0) (a' := NN) w0 c2 hf (by omega) (.inr ⟨rfl, rfl⟩) (hQ.ret (K := XK xms D 63 27 [(30, i_ret 3)] [.ref R, .int (nI (zn S0)), .int (nI (zP t (zj S0))), .int (nI 4), xjk, xjk] [] Q) hK (fun z G' hq => by simp (disch := first | omega | exact cI _ | exact cR _ | exact cK | exact cU | exact cO _ | exact cL _) only [oS, uS.2, Nat.reduceAdd, Nat.reduceSub, Nat.reduceMul, Nat.reduceLeDiff, Nat.reduceEqDiff, Nat.add_sub_cancel, xS, gS, nL, nS, dS, mX2_ofWord, zX2_ofWord, hq]))
  rw [XC_s]
  simp (disch := first | omega | exact cI _ | exact cR _ | exact cK | exact cU | exact cO _ | exact cL _) only [oS, uS.2, Nat.reduceAdd, Nat.reduceSub, Nat.reduceMul, Nat.reduceLeDiff, Nat.reduceEqDiff, Nat.add_sub_cancel, xS, gS, nL, nS, dS, fX2_ofWord_0, mX2_ofWord, zX2_ofWord, w0.gk, cp, hl, ha, hv]
  exact this
theorem o_wgua (h : C0 G0 S R p t J g nk nm A b c S0) (c2 : zK t (zj S0) = 2) (hw : zV t (zj S0) = 16) (hf : J < f) (hb : XBk S R p t J g nk nm blk m) (hsh : BS t blk m') (hm : J < zj S0 + 1 + m) (hD : 46 + 10 * (6 - c.2.2) ≤ D) (hQ : HS S R p t J g nk nm A b c G0 S0 (pStm t f blk c S0) Q) : XC xms (D + 1) 63 [.ref R, .int (nI (zn S0))] G0 Q := by
  have hK : ∀ {pc rest L st} z G', Q (.inr z) G' → XK xms D 63 pc rest L st Q (.inr z) G' := fun {pc rest L st} z G' h => Eq.mpr (zX2_ofWord (d := D) (pc := pc) (z := z) (L := L) (G := G') (Q := Q)) h
  have h80 : ¬ 80 ≤ zn S0 := by have := h.2.2.2.2.2.1; omega
  have e : pStm t f blk c S0 = pGua t f blk (zn S0) 0 c (zaj (zan S0) (zj S0 + 1)) := (if_neg h80).trans ((if_neg (by omega)).trans ((if_neg (by omega)).trans ((if_neg (by omega)).trans ((if_neg (by omega)).trans ((if_neg (by omega)).trans ((if_neg (by omega)).trans ((if_neg (by omega)).trans ((if_neg (by omega)).trans ((if_neg (by omega)).trans ((if_neg (by omega)).trans ((if_neg (by omega)).trans (if_pos hw))))))))))))
  rw [e] at hQ
  refine o_wd (tg := 399) h c2 hw (by omega) (by omega) (fun es L st G Q => by rw [w_tsw, if_neg (by decide)]; rfl) (fun G1 w1 => ?_)
  simp (disch := first | omega | exact cI _ | exact cR _ | exact cK | exact cU | exact cO _ | exact cL _) only [oS, uS.2, Nat.reduceAdd, Nat.reduceSub, Nat.reduceMul, Nat.reduceLeDiff, Nat.reduceEqDiff, Nat.add_sub_cancel, xS, gS, nL, nS, dS, fX2_ofWord_399, mX2_ofWord, zX2_ofWord, w1.gk]
  obtain ⟨D, rfl⟩ : ∃ d, D = d + 1 := ⟨D - 1, by omega⟩
  exact o_guard w1 (Nat.lt_succ_self _) (by omega) hf hb hsh hm (by omega) (hQ.ret hK (fun z G' hq => by simp (disch := first | omega | exact cI _ | exact cR _ | exact cK | exact cU | exact cO _ | exact cL _) only [oS, uS.2, Nat.reduceAdd, Nat.reduceSub, Nat.reduceMul, Nat.reduceLeDiff, Nat.reduceEqDiff, Nat.add_sub_cancel, xS, gS, nL, nS, dS, mX2_ofWord, zX2_ofWord, hq]))
theorem o_wwith (h : C0 G0 S R p t J g nk nm A b c S0) (c2 : zK t (zj S0) = 2) (hw : zV t (zj S0) = 17) (hf : J < f) (hb : XBk S R p t J g nk nm blk m) (hsh : BS t blk m') (hm : J < zj S0 + 1 + m) (hD : 46 + 10 * (6 - c.2.2) ≤ D) (hQ : HS S R p t J g nk nm A b c G0 S0 (pStm t f blk c S0) Q) : XC xms (D + 1) 63 [.ref R, .int (nI (zn S0))] G0 Q := by
  have hK : ∀ {pc rest L st} z G', Q (.inr z) G' → XK xms D 63 pc rest L st Q (.inr z) G' := fun {pc rest L st} z G' h => Eq.mpr (zX2_ofWord (d := D) (pc := pc) (z := z) (L := L) (G := G') (Q := Q)) h
  have h80 : ¬ 80 ≤ zn S0 := by have := h.2.2.2.2.2.1; omega
  have e : pStm t f blk c S0 = zN t (zj S0 + 1) 7 (if 1 ≤ zV t (zj S0 + 1) ∧ zV t (zj S0 + 1) ≤ 3 then pGua t f blk (zn S0) (zV t (zj S0 + 1)) c (zaj (zan S0) (zj S0 + 2)) else zF t 2 (zj S0 + 1)) := (if_neg h80).trans ((if_neg (by omega)).trans ((if_neg (by omega)).trans ((if_neg (by omega)).trans ((if_neg (by omega)).trans ((if_neg (by omega)).trans ((if_neg (by omega)).trans ((if_neg (by omega)).trans ((if_neg (by omega)).trans ((if_neg (by omega)).trans ((if_neg (by omega)).trans ((if_neg (by omega)).trans (if_neg (by omega)))))))))))))
  rw [e] at hQ
  refine o_wd (tg := 406) h c2 hw (by omega) (by omega) (fun es L st G Q => by rw [w_tsw, if_pos (by decide)]) (fun G1 w1 => ?_)
  have hJ := w1.lJ
  have hJ1 : zj S0 + 1 ≤ J := w1.re.lJ
  have ck : ∀ Q, XC xms D 42 [.ref R] G1 Q = Q (.inl (some (.int (nI (zK t (zj S0 + 1)))))) G1 := fun Q => d_kind w1.re (by omega)
  have hb1 : zK t (zj S0 + 1) < 256 := (w1.re.2.1.2.2 _ hJ1).2.2.2.1
  have hv1 : zV t (zj S0 + 1) < 10000000 := (w1.re.2.1.2.2 _ hJ1).2.2.2.2.2
  have n1 := fun Q => d_need1 (D := D) (Q := Q) w1.re (by omega)
  have n0 := fun Q => d_need0 (D := D) (Q := Q) w1.re (by omega)
  have r1 := fun Q => d_room1 (D := D) (Q := Q) w1.re (by omega)
  have r0 := fun Q => d_room0 (D := D) (Q := Q) w1.re (by omega)
  have hl := w1.sl
  have ha : Gfi G1 5 R = nI (zj S0 + 1) := w1.a
  have kq1 := w1.2.1
  by_cases e7 : zK t (zj S0 + 1) = 7
  · rw [zN_1 e7] at hQ
    have hv : Gai G1 (S + 4) (zj S0 + 1) = nI (zV t (zj S0 + 1)) := w1.v (show zK t (zj S0 + 1) ≠ 1 by omega)
    have ci := fun Q => d_isIn (D := D) (G := G1) (Q := Q) (x := zV t (zj S0 + 1)) (y := 1) (z := 3) (by omega) (by omega) (by omega) (by omega)
    by_cases e3 : 1 ≤ zV t (zj S0 + 1) ∧ zV t (zj S0 + 1) ≤ 3
    · rw [if_pos e3] at hQ
      simp only [if_pos e3] at ci
      have hQ' : HS S R p t J g nk nm A b c G0 S0 (zN t (zj S0 + 1) 7 (pGua t f blk (zn S0) (zV t (zj S0 + 1)) c (zaj (zan S0) (zj S0 + 2)))) Q := by
        rw [zN_1 e7]
        exact hQ
      simp (disch := first | omega | exact cI _ | exact cR _ | exact cK | exact cU | exact cO _ | exact cL _) only [oS, uS.2, Nat.reduceAdd, Nat.reduceSub, Nat.reduceMul, Nat.reduceLeDiff, Nat.reduceEqDiff, Nat.add_sub_cancel, xS, gS, nL, nS, dS, fX2_ofWord_406, fX2_ofWord_421, mX2_ofWord, zX2_ofWord, w1.gk, ck, e7, n1, hl, ha, hv, ci, r1]
      refine x_take (k := 7) w1 (by omega) (by omega) (by omega) hQ' hK (fun G2 e2 w2 hQ => ?_)
      have w2 : WA S R p t J g nk nm A b c G0 S0 [] G2 (zaj (zan S0) (zj S0 + 2)) := w2
      simp (disch := first | omega | exact cI _ | exact cR _ | exact cK | exact cU | exact cO _ | exact cL _) only [oS, uS.2, Nat.reduceAdd, Nat.reduceSub, Nat.reduceMul, Nat.reduceLeDiff, Nat.reduceEqDiff, Nat.add_sub_cancel, xS, gS, nL, nS, dS, mX2_ofWord, zX2_ofWord, w2.gk]
      obtain ⟨D, rfl⟩ : ∃ d, D = d + 1 := ⟨D - 1, by omega⟩
      exact o_guard w2 (by omega) e3.2 hf hb hsh (by omega) (by omega) (hQ.ret hK (fun z G' hq => by simp (disch := first | omega | exact cI _ | exact cR _ | exact cK | exact cU | exact cO _ | exact cL _) only [oS, uS.2, Nat.reduceAdd, Nat.reduceSub, Nat.reduceMul, Nat.reduceLeDiff, Nat.reduceEqDiff, Nat.add_sub_cancel, xS, gS, nL, nS, dS, mX2_ofWord, zX2_ofWord, hq]))
    · rw [if_neg e3] at hQ
      simp only [if_neg e3] at ci
      have := w_flt (g := g) hQ rfl kq1 (by show zj S0 + 1 - zj S0 + 1 ≤ _; omega) (by show 3 * (zj S0 + 1 - zj S0) + 8 ≤ _; omega)
      simp (disch := first | omega | exact cI _ | exact cR _ | exact cK | exact cU | exact cO _ | exact cL _) only [oS, uS.2, Nat.reduceAdd, Nat.reduceSub, Nat.reduceMul, Nat.reduceLeDiff, Nat.reduceEqDiff, Nat.add_sub_cancel, xS, gS, nL, nS, dS, fX2_ofWord_406, fX2_ofWord_421, mX2_ofWord, zX2_ofWord, w1.gk, ck, e7, n1, hl, ha, hv, ci, r0, zj_zaj, this]
  · rw [zN_0 e7] at hQ
    have := w_flt (g := g) hQ rfl kq1 (by show zj S0 + 1 - zj S0 + 1 ≤ _; omega) (by show 3 * (zj S0 + 1 - zj S0) + 8 ≤ _; omega)
    simp (disch := first | omega | exact cI _ | exact cR _ | exact cK | exact cU | exact cO _ | exact cL _) only [oS, uS.2, Nat.reduceAdd, Nat.reduceSub, Nat.reduceMul, Nat.reduceLeDiff, Nat.reduceEqDiff, Nat.add_sub_cancel, xS, gS, nL, nS, dS, fX2_ofWord_406, fX2_ofWord_420, fX2_ofWord_421, mX2_ofWord, zX2_ofWord, w1.gk, ck, e7, n0, zj_zaj, this]
theorem o_word (h : C0 G0 S R p t J g nk nm A b c S0) (c2 : zK t (zj S0) = 2) (hbg : begins t (zj S0) = true) (hf : J < f) (hb : XBk S R p t J g nk nm blk m) (hsh : BS t blk m') (hm : J < zj S0 + 1 + m) (hD : 47 + 10 * (6 - c.2.2) ≤ D) (hQ : HS S R p t J g nk nm A b c G0 S0 (pStm t f blk c S0) Q) : XC xms (D + 1) 63 [.ref R, .int (nI (zn S0))] G0 Q := by
  have hw := begins_iff.mp hbg
  by_cases e3 : zV t (zj S0) = 3
  · exact o_mark h c2 e3 (by omega) hQ
  by_cases e4 : zV t (zj S0) = 4
  · exact o_wcall h c2 e4 hf (by omega) hQ
  by_cases e7 : zV t (zj S0) = 7
  · exact o_ret h c2 e7 hf (by omega) hQ
  by_cases e8 : zV t (zj S0) = 8
  · obtain ⟨D, rfl⟩ : ∃ d, D = d + 1 := ⟨D - 1, by omega⟩
    exact o_if h c2 e8 hf hb hsh hm (by omega) hQ
  by_cases e10 : zV t (zj S0) = 10
  · exact o_loop h c2 e10 hf hb hsh hm (by omega) hQ
  by_cases e11 : zV t (zj S0) = 11 ∨ zV t (zj S0) = 12
  · exact o_leave h c2 rfl e11 (by omega) hQ
  by_cases e13 : zV t (zj S0) = 13
  · exact o_throw h c2 e13 (by omega) hQ
  by_cases e14 : zV t (zj S0) = 14
  · exact o_wrap h c2 e14 (by omega) hQ
  by_cases e15 : zV t (zj S0) = 15
  · exact o_again h c2 e15 (by omega) hQ
  by_cases e16 : zV t (zj S0) = 16
  · exact o_wgua h c2 e16 hf hb hsh hm (by omega) hQ
  · exact o_wwith h c2 (by omega) hf hb hsh hm (by omega) hQ
/-- a statement, told from before its number is taken -/
def sS (S R p : Nat) (t : Tks) (J : Nat) (g : Nat → Option Nat) (nk nm : Nat) (A : Nat → Nat) (b : Nat) (c : Cx) (G : XG) (Z : Zs) (Z' : Zs) (o : Option Value ⊕ Nat) (G' : XG) : Prop := ∃ A' z, o = .inl (some (.ref z)) ∧ (∀ x, x < zn Z → A' x = A x) ∧ A' (zn Z) = z ∧ KQ (rP R p) (10 * (zj Z' - zj Z)) (400 * (zj Z' - zj Z)) G G' ∧ kE G G' (p + 3) (zn Z) ∧ kE G G' (R + 1) b ∧ RE G' S R p t J g (zj Z') ∧ RY G' R p nk nm A' b c Z' ∧ SA G' (Gtp G) p A' (zT Z') (zn Z) (zn Z')
def sKd : List Nat := [19, 21, 22, 23, 24, 25, 26, 27, 28, 29, 30, 31, 32]
theorem SO.kd {G : XG} {lo s : Nat} {A : Nat → Nat} {T : Pg} (h : SO G lo A T s) : Gkd G (A s) ∈ [19, 21, 22, 23, 24, 25, 26, 27, 28, 29, 30, 31, 32] := by
  obtain ⟨-, -, -, h⟩ := h
  generalize T.1 s = n at h
  have h1 : Gkd G (A s) = 25 ∨ Gkd G (A s) = 21 ∨ Gkd G (A s) = 19 ∨ Gkd G (A s) = 23 ∨ Gkd G (A s) = 24 ∨ Gkd G (A s) = 22 ∨ Gkd G (A s) = 26 ∨ Gkd G (A s) = 27 ∨ Gkd G (A s) = 28 ∨ Gkd G (A s) = 29 ∨ Gkd G (A s) = 30 ∨ Gkd G (A s) = 31 ∨ Gkd G (A s) = 32 := by
    match n with
    | 0 => exact .inl h.1
    | 1 => exact .inr (.inl h.1)
    | 2 => exact .inr (.inr (.inl h.1))
    | 3 => exact .inr (.inr (.inr (.inl h.1)))
    | 4 => exact .inr (.inr (.inr (.inr (.inl h.1))))
    | 5 => exact .inr (.inr (.inr (.inr (.inl h.1))))
    | 6 => exact .inr (.inr (.inr (.inr (.inr (.inl h.1)))))
    | 7 => exact .inr (.inr (.inl h.1))
    | 8 => exact .inr (.inr (.inr (.inr (.inr (.inr (.inl h.1))))))
    | 9 => exact .inr (.inr (.inr (.inr (.inr (.inr (.inr (.inl h.1)))))))
    | 10 => exact .inr (.inr (.inr (.inr (.inr (.inr (.inr (.inr (.inl h.1))))))))
    | 11 => exact .inr (.inr (.inr (.inr (.inr (.inr (.inr (.inr (.inr (.inl h.1)))))))))
    | 12 => exact .inr (.inr (.inr (.inr (.inr (.inr (.inr (.inr (.inr (.inl h.1)))))))))
    | 13 => exact .inr (.inr (.inr (.inr (.inr (.inr (.inr (.inr (.inr (.inr (.inl h.1))))))))))
    | 14 => exact .inr (.inr (.inr (.inr (.inr (.inr (.inr (.inr (.inr (.inr (.inr (.inl h.1)))))))))))
    | 15 => exact .inr (.inr (.inr (.inr (.inr (.inr (.inr (.inr (.inr (.inr (.inr (.inl h.1)))))))))))
    | n + 16 => exact .inr (.inr (.inr (.inr (.inr (.inr (.inr (.inr (.inr (.inr (.inr (.inr h.1)))))))))))
  rcases h1 with e | e | e | e | e | e | e | e | e | e | e | e | e <;> rw [e] <;> decide
theorem o_stm (hr : RE G S R p t J g (zj Z)) (hy : RY G R p nk nm A b c Z) (hpz : pz b c Z) (hlp : c.2.1 ≤ c.2.2) (ht : tV t) (hJ : J ≤ 200) (hnk : nk ≤ 16) (hbg : begins t (zj Z) = true) (hf : J < f) (hb : XBk S R p t J g nk nm blk m) (hsh : BS t blk m') (hm : J < zj Z + 1 + m) (hD : 49 + 10 * (6 - c.2.2) ≤ D) (hQ : HC (rP R p) (10 * (J + 1 - zj Z)) (400 * (J + 1 - zj Z)) G (sS S R p t J g nk nm A b c G Z) (pStm t f blk c Z) Q) : XC xms (D + 1) 53 [.ref R] G Q := by
  have hK : ∀ {pc rest L st} z G', Q (.inr z) G' → XK xms D 53 pc rest L st Q (.inr z) G' := fun {pc rest L st} z G' h => Eq.mpr (zX2_statement (d := D) (pc := pc) (z := z) (L := L) (G := G') (Q := Q)) h
  have hg := hr.1.2.1
  have h15 := hr.1.2.2.2.1
  have hPR := hy.1
  have hpt := hPR.t
  have hRp := hy.2.1
  unfold PR at hPR
  have h14 : Gfi G 14 p = nI (zn Z) := hy.2.2.2.2.2.2.2.2.2.2.2.1
  have h80 := hpz.2.2.2.1.2.2.2
  have r1 := fun Q => d_room1 (D := D) (Q := Q) hr (by omega)
  have r0 := fun Q => d_room0 (D := D) (Q := Q) hr (by omega)
  have hjJ := hr.lJ
  have hl1 := hr.1
  rw [XC_s]
  by_cases e80 : zn Z < 80
  · obtain ⟨a1, a2, a3, a4, a5, a6, a7, a8, a9, a10, a11, a12, a13, a14⟩ := hy
    have fo : ∀ x a, x ≠ 14 → Gfi (Sfi G 14 p (nI (zn Z + 1))) x a = Gfi G x a := fun x a e => if_neg (fun q => e q.1)
    have hr0 : RE (Sfi G 14 p (nI (zn Z + 1))) S R p t J g (zj Z) := hr.f (by decide)
    have hy0 : RY (Sfi G 14 p (nI (zn Z + 1))) R p nk nm A b c (zan Z) := ⟨a1, a2, (fo 7 R (by decide)).trans a3, (fo 6 R (by decide)).trans a4, (fo 8 R (by decide)).trans a5, a6, (fo 9 R (by decide)).trans a7, ⟨(fo 11 R (by decide)).trans a8.1, a8.2⟩, (fo 10 R (by decide)).trans a9, (fo 12 p (by decide)).trans a10, (fo 13 p (by decide)).trans a11, if_pos ⟨rfl, rfl⟩, ⟨(fo 15 p (by decide)).trans a13.1, a13.2⟩, a14⟩
    have hC : C0 (Sfi G 14 p (nI (zn Z + 1))) S R p t J g nk nm A b c Z := ⟨hr0, hy0, hpz, hJ, hnk, e80, hlp, ht⟩
    have kG : KQ (rP R p) 0 0 G (Sfi G 14 p (nI (zn Z + 1))) := KQ.fi (.inr (.inl rfl))
    have hS : HS S R p t J g nk nm A b c (Sfi G 14 p (nI (zn Z + 1))) Z (pStm t f blk c Z) (fun o G' => match o with
      | .inr z => Q (.inr z) G'
      | .inl v => ∃ z, v = some (.ref z) ∧ XL xms D 53 80 [.ref R, .int (nI (zn Z)), xjk] [.ref z] G' Q) := by
      intro o G' ho
      cases hp : pStm t f blk c Z with
      | inl e =>
        rw [hp] at ho hQ
        obtain ⟨k1, z, rfl, k2⟩ := ho
        exact hQ _ _ ⟨(kG.trans k1).mono (fun _ q => q) (by omega) (by omega), z, rfl, k2⟩
      | inr Z' =>
        rw [hp] at ho hQ
        obtain ⟨A', z, b1, b2, b3, b4, b5, b6, b7, b8, rfl, b10⟩ := ho
        have kd := b10.kd
        rw [b2] at kd
        refine ⟨z, rfl, ?_⟩
        have k5 : Q (.inl (some (.ref z))) (Sar G' (p + 3) (zn Z) (some z)) := by
          refine hQ _ _ ⟨A', z, rfl, b1, b2, ?_, fun i hi => (if_neg (by omega)).trans (b4 i hi), fun i hi => (if_neg (by omega)).trans (b5 i hi), ?_, ?_, fun s s1 s2 => ?_⟩
          · exact ((kG.trans b3).trans (KQ.ar (.inr (.inr ⟨by omega, by omega⟩)))).mono (fun _ q => q) (by omega) (by omega)
          · exact b6.ar
          · obtain ⟨d1, d2, d3, d4, d5, d6, d7, d8, d9, d10, d11, d12, d13, d14⟩ := b7
            exact ⟨d1, d2, d3, d4, d5, d6, d7, d8, d9, d10, d11, d12, ⟨d13.1, fun i x hx => ⟨(if_neg (by omega)).trans (d13.2 i x hx).1, (d13.2 i x hx).2⟩⟩, d14⟩
          · have kk : KQ (fun a => a = p + 3) 0 0 G' (Sar G' (p + 3) (zn Z) (some z)) := KQ.ar rfl
            by_cases e : s = zn Z
            · subst e
              refine ⟨(if_pos ⟨rfl, rfl⟩).trans (congrArg some b2.symm), b10.kq kk (fun a h1 h2 => ?_)⟩
              have : Gtp G ≤ a := h1
              omega
            · obtain ⟨e1, e2⟩ := b8 s (by omega) s2
              refine ⟨(if_neg (by omega)).trans e1, e2.kq kk (fun a h1 h2 => ?_)⟩
              have : Gtp G ≤ a := h1
              omega
        have k1 : xrfk G' [19, 21, 22, 23, 24, 25, 26, 27, 28, 29, 30, 31, 32] (some z) = true := decide_eq_true kd
        have k2 := b6.1.2.1
        have k3 := b6.1.2.2.2.1
        have k4 := b7.1
        unfold PR at k4
        simp (disch := first | omega | exact cI _ | exact cR _ | exact cK | exact cU | exact cO _ | exact cL _) only [oS, uS.2, Nat.reduceAdd, Nat.reduceSub, Nat.reduceMul, Nat.reduceLeDiff, Nat.reduceEqDiff, Nat.add_sub_cancel, xS, gS, nL, nS, dS, fX2_statement_80, mX2_statement, zX2_statement, k1, k2, k3, k4, k5, e80]
    have ck : ∀ Q, XC xms D 42 [.ref R] (Sfi G 14 p (nI (zn Z + 1))) Q = Q (.inl (some (.int (nI (zK t (zj Z)))))) (Sfi G 14 p (nI (zn Z + 1))) := fun Q => d_kind hr0 (by omega)
    have hb1 : zK t (zj Z) < 256 := (hr.2.1.2.2 _ hjJ).2.2.2.1
    by_cases c5 : zK t (zj Z) = 5
    · simp (disch := first | omega | exact cI _ | exact cR _ | exact cK | exact cU | exact cO _ | exact cL _) only [oS, uS.2, Nat.reduceAdd, Nat.reduceSub, Nat.reduceMul, Nat.reduceLeDiff, Nat.reduceEqDiff, Nat.add_sub_cancel, xS, gS, nL, nS, dS, fX2_statement_0, fX2_statement_18, mX2_statement, zX2_statement, hg, h15, hPR, h14, e80, r1, ck, c5]
      refine o_var (blk := blk) hC c5 hf (by omega) (fun o G' ho => ?_)
      have := hS o G' ho
      cases o with
      | inr z => exact hK z G' this
      | inl v =>
        obtain ⟨z, rfl, h⟩ := this
        simp (disch := first | omega | exact cI _ | exact cR _ | exact cK | exact cU | exact cO _ | exact cL _) only [oS, uS.2, Nat.reduceAdd, Nat.reduceSub, Nat.reduceMul, Nat.reduceLeDiff, Nat.reduceEqDiff, Nat.add_sub_cancel, xS, gS, nL, nS, dS, mX2_statement, zX2_statement, h]
    by_cases c6 : zK t (zj Z) = 6
    · simp (disch := first | omega | exact cI _ | exact cR _ | exact cK | exact cU | exact cO _ | exact cL _) only [oS, uS.2, Nat.reduceAdd, Nat.reduceSub, Nat.reduceMul, Nat.reduceLeDiff, Nat.reduceEqDiff, Nat.add_sub_cancel, xS, gS, nL, nS, dS, fX2_statement_0, fX2_statement_18, fX2_statement_58, mX2_statement, zX2_statement, hg, h15, hPR, h14, e80, r1, ck, c6]
      refine o_row (blk := blk) hC c6 hf (by omega) (fun o G' ho => ?_)
      have := hS o G' ho
      cases o with
      | inr z => exact hK z G' this
      | inl v =>
        obtain ⟨z, rfl, h⟩ := this
        simp (disch := first | omega | exact cI _ | exact cR _ | exact cK | exact cU | exact cO _ | exact cL _) only [oS, uS.2, Nat.reduceAdd, Nat.reduceSub, Nat.reduceMul, Nat.reduceLeDiff, Nat.reduceEqDiff, Nat.add_sub_cancel, xS, gS, nL, nS, dS, mX2_statement, zX2_statement, h]
    · have c2 : zK t (zj Z) = 2 := by have := begins_iff.mp hbg; omega
      simp (disch := first | omega | exact cI _ | exact cR _ | exact cK | exact cU | exact cO _ | exact cL _) only [oS, uS.2, Nat.reduceAdd, Nat.reduceSub, Nat.reduceMul, Nat.reduceLeDiff, Nat.reduceEqDiff, Nat.add_sub_cancel, xS, gS, nL, nS, dS, fX2_statement_0, fX2_statement_18, fX2_statement_58, fX2_statement_75, mX2_statement, zX2_statement, hg, h15, hPR, h14, e80, r1, ck, c2]
      obtain ⟨D, rfl⟩ : ∃ d, D = d + 1 := ⟨D - 1, by omega⟩
      refine o_word hC c2 hbg hf hb hsh hm (by omega) (fun o G' ho => ?_)
      have := hS o G' ho
      cases o with
      | inr z => exact hK z G' this
      | inl v =>
        obtain ⟨z, rfl, h⟩ := this
        simp (disch := first | omega | exact cI _ | exact cR _ | exact cK | exact cU | exact cO _ | exact cL _) only [oS, uS.2, Nat.reduceAdd, Nat.reduceSub, Nat.reduceMul, Nat.reduceLeDiff, Nat.reduceEqDiff, Nat.add_sub_cancel, xS, gS, nL, nS, dS, mX2_statement, zX2_statement, h]
  · have e : pStm t f blk c Z = .inl (2, zP t (zj Z)) := if_pos (by omega)
    have := w_flt (g := g) hQ e (KQ.refl (P := rP R p) (G := G)) (by omega) (by omega)
    simp (disch := first | omega | exact cI _ | exact cR _ | exact cK | exact cU | exact cO _ | exact cL _) only [oS, uS.2, Nat.reduceAdd, Nat.reduceSub, Nat.reduceMul, Nat.reduceLeDiff, Nat.reduceEqDiff, Nat.add_sub_cancel, xS, gS, nL, nS, dS, fX2_statement_0, fX2_statement_17, fX2_statement_18, mX2_statement, zX2_statement, hg, h15, hPR, h14, e80, r0, this]
end STM
