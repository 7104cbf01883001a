set_option maxRecDepth 100000
section DRUN
variable {T : Pg} {nm N : Nat} {pl : Nat → Int32 → Int32} {sh : Bool} {C : Cd} {bk : Wk} {n : Nat}
/-- closing at a CLOSES, nothing on its way -/
theorem clo_d {K : List Sc} {h : Hf} {q k lo hi s o e : Nat} {F F1 : Nat → Cf} {B : Bk} {v0 : Int32} {r : Rs} {na : Nat} (h17 : Tk T s = 17) (hsN : s < N) (hI : Iv 0 0 0 0 0 B) (hna : ∃ na, Ta T s = nI na ∧ 1 ≤ na ∧ na ≤ 3)
    (hC : C.1 e = (10, s, 0)) (hA : hAt T C h e) (hd : B.1 10 = k + 1) (hp : (F1 k).1 = e) (hg : prs F F1 k lo hi) (hn : (Ta T s).toNatClampNeg = na)
    (hsl : ∀ i, i < na → (F1 k).2.2 (8 * s + 4 + i) = nI (o + i)) (hl : B.1 9 ≤ B.1 11)
    (hr : (sCl pl s o na 0 0 (b2 B (oAt B) 0 (nI s))).1 ≠ 0 → r = sCl pl s o na 0 0 (b2 B (oAt B) 0 (nI s)))
    (hk : (sCl pl s o na 0 0 (b2 B (oAt B) 0 (nI s))).1 = 0 → dEnd T nm N pl sh C (0, 0, fpc F1 k (e + 1), (sCl pl s o na 0 0 (b2 B (oAt B) 0 (nI s))).2.2) K h q F k lo hi r) :
    dEnd T nm N pl sh C (0, v0, F1, B) K h q F k lo hi r := by
  refine dEnd.op hp hd hC ⟨by have := hI.1; omega, h17, hsN, hI, hna⟩ ?_
  show dEnd T nm N pl sh C (cRs (fpc F1 k (e + 1)) (cCl pl s (fpc F1 k (e + 1) k).2.2 (Ta T s).toNatClampNeg 0 0 (b2 B (oAt B) 0 (nI s)))) K h q F k lo hi r
  rw [hn, cCl_e (o := o) na 0 0 _ (fun i hi => by rw [fpc_2]; exact hsl i hi)]
  rcases sCl_p (pl := pl) (s := s) (o := o) na 0 0 (b2 B (oAt B) 0 (nI s)) (by decide) with ⟨h0, -⟩ | ⟨h45, -⟩
  · unfold cRs
    rw [if_pos h0]
    exact hk h0
  · have hr := hr (by omega)
    subst hr
    have kq := (@sCl_kp pl s o na 0 0 (b2 B (oAt B) 0 (nI s)) hl)
    generalize sCl pl s o na 0 0 (b2 B (oAt B) 0 (nI s)) = z at *
    obtain ⟨z1, z2, z3⟩ := z
    unfold cRs
    rw [if_neg (show ¬ z1 = 0 from by dsimp only at h45; omega)]
    by_cases h5 : z1 = 5
    · rw [if_pos h5]
      subst h5
      exact dEnd.now cIs.i5
    · rw [if_neg h5]
      have h4 : z1 = 4 := by dsimp only at h45; omega
      subst h4
      refine dEnd.now (cIs.i4 hg.pc ?_)
      rw [fpc_1]
      exact hA _
/-- an inner way's failure, closed at a CLOSES_ALL -/
theorem cal_d {K : List Sc} {h : Hf} {q k lo hi s o e : Nat} {F F1 : Nat → Cf} {B : Bk} {v v0 : Int32} {na : Nat} (h17 : Tk T s = 17) (hsN : s < N) (hI : Iv 0 0 0 0 0 B) (hna : ∃ na, Ta T s = nI na ∧ 1 ≤ na ∧ na ≤ 3) (hvk : vK B v)
    (hC : C.1 e = (11, s, 8 * s + 7)) (hA : hAt T C h e) (hd : B.1 10 = k + 1) (hp : (F1 k).1 = e) (hg : prs F F1 k lo hi) (hn : (Ta T s).toNatClampNeg = na)
    (hsl : ∀ i, i < na → (F1 k).2.2 (8 * s + 4 + i) = nI (o + i)) (hv : (F1 k).2.2 (8 * s + 7) = v) :
    dEnd T nm N pl sh C (0, v0, F1, B) K h q F k lo hi (sCl pl s o na 4 v (b2 B (oAt B) 0 (nI s))) := by
  refine dEnd.op hp hd hC ⟨by have := hI.1; omega, h17, hsN, hI, hna, by show vK B ((F1 k).2.2 (8 * s + 7)); rw [hv]; exact hvk, by show 8 * s + 7 < 8 * N; omega⟩ ?_
  show dEnd T nm N pl sh C (cRs (fpc F1 k (e + 1)) (cCl pl s (fpc F1 k (e + 1) k).2.2 (Ta T s).toNatClampNeg 4 ((fpc F1 k (e + 1) k).2.2 (8 * s + 7)) (b2 B (oAt B) 0 (nI s)))) K h q F k lo hi _
  rw [hn, cCl_e (o := o) na 4 _ _ (fun i hi => by rw [fpc_2]; exact hsl i hi), fpc_2, hv]
  have h45 := sCl_45 (pl := pl) (s := s) (o := o) na v (b2 B (oAt B) 0 (nI s))
  generalize sCl pl s o na 4 v (b2 B (oAt B) 0 (nI s)) = z at *
  obtain ⟨z1, z2, z3⟩ := z
  unfold cRs
  rw [if_neg (show ¬ z1 = 0 from by dsimp only at h45; omega)]
  by_cases h5 : z1 = 5
  · rw [if_pos h5]
    subst h5
    exact dEnd.now cIs.i5
  · rw [if_neg h5]
    have h4 : z1 = 4 := by dsimp only at h45; omega
    subst h4
    refine dEnd.now (cIs.i4 hg.pc ?_)
    rw [fpc_1]
    exact hA _
end DRUN
section DRUN2
variable {T : Pg} {nm N : Nat} {pl : Nat → Int32 → Int32} {sh : Bool} {C : Cd} {bk : Wk} {n : Nat}
/-- a loop: t turns are left -/
theorem lop_d {s : Nat} (hb : dBk T nm N pl sh C bk n) (hk : kpB bk n) (hs : sgB bk) (hi0 : ivB T nm bk n) (h10 : Tk T s = 10) (hsN : s < N) {m mw tg lp dp : Nat} {K : List Sc} {h : Hf} {p p1 q hi : Nat} {tk : Int32} {k : Nat}
    (c1 : C.1 p = (7, s, q)) (c2 : okBlk T sh C m ((0, s, p, q, h) :: K) h (Tl T s) (p + 1) p1) (c3 : (C.1 p1).1 = 5) (c4 : (C.1 p1).2.2 = p) (w : xB T nm N mw tg lp dp (Tl T s) (s + 1) hi) {F : Nat → Cf} (ht : tg ≠ 999 → tg < s ∧ (F k).2.2 (8 * tg) = tk) :
    ∀ (t : Nat) (F1 : Nat → Cf) (B : Bk) (v : Int32), B.1 11 - B.1 9 ≤ n → Iv 0 0 0 0 0 B → (tg ≠ 999 → vK B tk) → B.1 10 = k + 1 → (F1 k).1 = p → prs F F1 k s hi → ((t = 0 ∧ (F1 k).2.2 (8 * s) < 1) ∨ ((F1 k).2.2 (8 * s) = nI t ∧ t < 2147483648)) →
      dEnd T nm N pl sh C (0, v, F1, B) K h q F k s hi (sLoop bk (Tl T s) tk t B) := by
  have hw := xB_le T nm N mw _ _ _ _ _ _ w
  intro t
  induction t with
  | zero =>
    intro F1 B v hn hiv htv hd hp hg hx
    have hl := hiv.le
    have hx : (F1 k).2.2 (8 * s) < 1 := by
      rcases hx with ⟨-, e⟩ | ⟨e, -⟩
      · exact e
      · rw [e]; decide
    refine dEnd.op hp hd c1 ⟨by have := hiv.1; omega, h10, hsN, hiv⟩ ?_
    show dEnd T nm N pl sh C (if (fpc F1 k (p + 1) k).2.2 (8 * s) < 1 then _ else _) K h q F k s hi _
    rw [fpc_2, if_pos hx]
    exact dEnd.now (cIs.i0 hg.pc.pc fpc_1)
  | succ t ih =>
    intro F1 B v hn hiv htv hd hp hg hx
    have hl := hiv.le
    have hx : (F1 k).2.2 (8 * s) = nI (t + 1) ∧ t + 1 < 2147483648 := by
      rcases hx with ⟨e, -⟩ | e
      · omega
      · exact e
    have hx1 : ¬ nI (t + 1) < 1 := by
      show ¬ nI (t + 1) < nI 1
      rw [n_lt hx.2 (by omega)]
      omega
    refine dEnd.op hp hd c1 ⟨by have := hiv.1; omega, h10, hsN, hiv⟩ ?_
    show dEnd T nm N pl sh C (if (fpc F1 k (p + 1) k).2.2 (8 * s) < 1 then _ else if isSpent B = true then (5, 0, fpc F1 k (p + 1), B) else (0, 0, fsl (fpc F1 k (p + 1)) k (8 * s) ((fpc F1 k (p + 1) k).2.2 (8 * s) - 1), bStp B)) K h q F k s hi _
    rw [fpc_2, hx.1, if_neg hx1, nI_pred]
    rw [sLoop]
    by_cases e : isSpent B = true
    · rw [if_pos e, if_pos e]
      exact dEnd.now cIs.i5
    rw [if_neg e, if_neg e]
    have hl1 := isSpent_no e hl
    have hg1 : prs F (fsl (fpc F1 k (p + 1)) k (8 * s) (nI t)) k s hi := hg.pc.sl (Nat.le_refl _) (by omega)
    have b1 := hb m mw tg (lp) dp ((0, s, p, q, h) :: K) h (Tl T s) (p + 1) p1 (s + 1) hi tk (fsl (fpc F1 k (p + 1)) k (8 * s) (nI t)) (bStp B) 0 k c2 w (by show B.1 11 - (B.1 9 + 1) ≤ n; omega) (hiv.stp e).z hd (by rw [fsl_1, fpc_1]) (fun h9 => ⟨by have := (ht h9).1; omega, by
      rw [hg1.2 _ (by have := (ht h9).1; omega)]
      exact (ht h9).2, (htv h9).mono (Nat.le_refl _)⟩)
    have vz := hi0 mw tg lp dp (Tl T s) (s + 1) hi tk (bStp B) (xB.b _ _ _ _ _ _ _ w) (by show B.1 11 - (B.1 9 + 1) ≤ n; omega) (hiv.stp e).z (fun h9 => (htv h9).mono (Nat.le_refl _))
    have e4 : (bStp B).1 4 = B.1 4 := rfl
    obtain ⟨k1, k2, k3, k4⟩ := hk (Tl T s) tk (bStp B) (by show B.1 11 - (B.1 9 + 1) ≤ n; omega) (by show B.1 9 + 1 ≤ B.1 11; omega)
    have sq := hs (Tl T s) tk (bStp B)
    have e11 : (bStp B).1 11 = B.1 11 := rfl
    have e9 : (bStp B).1 9 = B.1 9 + 1 := rfl
    have e10 : (bStp B).1 10 = B.1 10 := rfl
    dsimp only
    generalize bk (Tl T s) tk (bStp B) = z at *
    refine b1.bind (fun y iy => ?_)
    have x8 : (fsl (fpc F1 k (p + 1)) k (8 * s) (nI t) k).2.2 (8 * s) = nI t := fsl_i
    rcases iy.case sq with ⟨z5, y5, yb⟩ | ⟨z4, F2, rfl, g2, hh⟩ | ⟨z0, v2, F2, rfl, g2, hp2⟩ | ⟨z13, v2, F2, rfl, g2, m2, n2, hn2, hw1, hw2, hL⟩
    · rw [if_neg (by omega), if_neg (by omega), if_neg (by omega)]
      exact dEnd.now (cIs.i5' z5 y5 yb)
    · rw [if_neg (by omega), if_neg (by omega), if_neg (by omega)]
      obtain ⟨z1, zv, zB⟩ := z
      dsimp only at z4
      subst z4
      exact dEnd.now (cIs.i4 (hg1.trans g2 (by omega) (Nat.le_refl _)) hh)
    · rw [if_pos (Or.inl z0)]
      have g3 := hg1.trans g2 (show s ≤ s + 1 from by omega) (Nat.le_refl hi)
      refine dEnd.jmp hp2 (by have := k4 (by omega); omega) c3 c4 (by have := hiv.1; omega) ?_
      refine ih _ _ _ (by omega) (vz (by omega)).1 (fun h9 => (htv h9).mono (by have := (vz (by omega)).2.1; omega)) (by have := k4 (by omega); omega) fpc_1 g3.pc.pc (Or.inr ⟨?_, by omega⟩)
      rw [fpc_2, fpc_2, g2.2 _ (by omega), x8]
    · have g3 := hg1.trans g2 (show s ≤ s + 1 from by omega) (Nat.le_refl hi)
      have hd2 : z.2.2.1 10 = k + 1 := by have := k4 (by omega); omega
      have hL0 := hL
      unfold okLv at hL
      rw [if_pos rfl] at hL
      by_cases w1 : z.1 = 1
      · rw [if_neg (by omega), if_neg (by omega)] at hL
        rw [if_neg (by omega), if_neg (by omega), if_neg (by omega)]
        obtain ⟨z1, zv, zB⟩ := z
        have := (hw1 w1).2
        subst this
        exact dEnd.now (cIs.iw z13 g3 hn2 hw1 hw2 hL)
      · obtain ⟨ev, n1⟩ := hw2 w1
        by_cases c2' : z.1 = 2 ∧ n2 = 1
        · rw [if_pos c2'] at hL
          have ev1 : z.2.1 = 1 := by rw [ev, c2'.2]; rfl
          rw [if_neg (by omega), if_pos ⟨c2'.1, ev1⟩]
          refine dEnd.jmp rfl hd2 hL.1 hL.2 (by have := hiv.1; omega) ?_
          exact dEnd.now (cIs.i0 g3.pc.pc fpc_1)
        · rw [if_neg c2'] at hL
          by_cases c3' : z.1 = 3 ∧ n2 = 1
          · rw [if_pos c3'] at hL
            have ev1 : z.2.1 = 1 := by rw [ev, c3'.2]; rfl
            rw [if_pos (Or.inr ⟨c3'.1, ev1⟩)]
            refine dEnd.jmp rfl hd2 hL.1 hL.2 (by have := hiv.1; omega) ?_
            refine ih _ _ _ (by omega) (vz (by omega)).1 (fun h9 => (htv h9).mono (by have := (vz (by omega)).2.1; omega)) hd2 fpc_1 g3.pc.pc (Or.inr ⟨?_, by omega⟩)
            rw [fpc_2, fpc_2, g2.2 _ (by omega), x8]
          · rw [if_neg c3'] at hL
            have hv1 : ¬ z.2.1 = 1 := by
              rw [ev]
              intro e1
              have := nI_inj (by omega) (show (1 : Nat) < 2147483648 from by omega) e1
              omega
            rw [if_neg (by intro e1; rcases e1 with e1 | e1; omega; exact hv1 e1.2), if_neg (fun e1 => hv1 e1.2), if_pos (by omega)]
            have ep : z.2.1 - 1 = nI (n2 - 1) := by
              rw [ev, show n2 = (n2 - 1) + 1 from by omega, nI_pred]
              rfl
            rw [ep]
            exact dEnd.now (cIs.iw z13 g3 (by omega) (fun e1 => absurd e1 w1) (fun _ => ⟨rfl, by omega⟩) hL)
/-- a guard's first block, with its resources -/
theorem inn_d (hb : dBk T nm N pl sh C bk n) (hk : kpB bk n) (hs : sgB bk) (hi0 : ivB T nm bk n) (hpl : vPl pl) {s : Nat} (hgd : gdS T s) (hsN : s < N) {m mw tg lp dp : Nat} {K : List Sc} {h : Hf} {p q hi hi1 : Nat} {tk : Int32} {k : Nat} {F : Nat → Cf} {B : Bk} {v : Int32}
    (c : okIn T C (okBlk T sh C m) K h s p q) (w : xB T nm N mw tg lp dp (Tl T s) (s + 1) hi1) (hhi : hi1 ≤ hi) (w3 : Tk T s ≠ 16 → ∃ na, Ta T s = nI na ∧ 1 ≤ na ∧ na ≤ 3) (ht : tg ≠ 999 → tg < s ∧ (F k).2.2 (8 * tg) = tk)
    (htv : tg ≠ 999 → vK B tk) (hn : B.1 11 - B.1 9 ≤ n) (hiv : Iv 0 0 0 0 0 B) (hd : B.1 10 = k + 1) (hp : (F k).1 = p) (hat : B.2 (oAt B) 0 = nI s) :
    dEnd T nm N pl sh C (0, v, F, B) K h q F k s hi (sInner T pl bk s tk B) := by
  have hl := hiv.le
  have hw := xB_le T nm N mw _ _ _ _ _ _ w
  unfold okIn at c
  unfold sInner
  by_cases k16 : Tk T s = 16
  · rw [if_pos k16] at c ⊢
    refine (hb m mw tg lp dp K h (Tl T s) p q (s + 1) hi1 tk F B v k c w hn hiv hd hp (fun h9 => ⟨by have := (ht h9).1; omega, (ht h9).2, htv h9⟩)).bind (fun y iy => ?_)
    exact dEnd.now (iy.up prs.refl (by omega) hhi)
  rw [if_neg k16] at c ⊢
  obtain ⟨p1, c1, a1, c2, c3, a3, c4, c5, c6, a6, rfl⟩ := c
  obtain ⟨na, ena, na1, na3⟩ := w3 k16
  have ena' : (Ta T s).toNatClampNeg = na := by rw [ena]; exact nI_c (by omega)
  refine dEnd.op hp hd c1 ⟨by have := hiv.1; omega, hgd.resolve_left k16, hsN, hiv, w3 k16⟩ ?_
  obtain ⟨x1, x2, x3, x4⟩ := @sOpens_kp pl s na 0 B hl
  have xs := @sOpens_sg pl s na 0 B
  obtain ⟨xn1, xn2⟩ := @sOpens_n pl s na 0 B
  have xo := @sOpens_o pl s na 0 B
  have xv := sOpens_iv hpl (s := s) na 0 B hiv
  show dEnd T nm N pl sh C (if (sOpens pl s (Ta T s).toNatClampNeg 0 B).2.1 = 4 then cRs (fop (fpc F k (p + 1)) k s (B.1 5) (sOpens pl s (Ta T s).toNatClampNeg 0 B).1) (cCl pl s (fop (fpc F k (p + 1)) k s (B.1 5) (sOpens pl s (Ta T s).toNatClampNeg 0 B).1 k).2.2 (sOpens pl s (Ta T s).toNatClampNeg 0 B).1 4 (sOpens pl s (Ta T s).toNatClampNeg 0 B).2.2.1 (sOpens pl s (Ta T s).toNatClampNeg 0 B).2.2.2) else cRs (fop (fpc F k (p + 1)) k s (B.1 5) (sOpens pl s (Ta T s).toNatClampNeg 0 B).1) (sOpens pl s (Ta T s).toNatClampNeg 0 B).2) K h (p1 + 3) F k s hi _
  rw [ena']
  generalize sOpens pl s na 0 B = z at *
  obtain ⟨zn, z1, zv, zB⟩ := z
  dsimp only at *
  have g1 : prs F (fop (fpc F k (p + 1)) k s (B.1 5) zn) k s hi := (prs.refl.pc).op (Nat.le_refl _) (by omega) (by omega)
  have gs : ∀ i, i < zn → (fop (fpc F k (p + 1)) k s (B.1 5) zn k).2.2 (8 * s + 4 + i) = nI (B.1 5 + i) := fun i hi => fop_i hi
  by_cases z5 : z1 = 5
  · rw [if_pos z5, if_neg (by omega)]
    subst z5
    exact dEnd.now ⟨rfl, by rw [if_pos rfl]; rfl⟩
  rw [if_neg z5]
  have x10 : zB.1 10 = k + 1 := by have := x4 z5; omega
  have eoa : oAt zB = oAt B := by unfold oAt; rw [x10, hd]
  have hat' : zB.2 (oAt zB) 0 = nI s := by rw [eoa, xo _ _ (by unfold oAt; omega)]; exact hat
  by_cases z4 : z1 = 4
  · subst z4
    rw [if_pos rfl, if_neg (show ¬ (4 : Nat) = 0 from by decide), if_neg (show ¬ ((4, zv, zB) : Rs).1 = 5 from by show ¬ 4 = 5; decide)]
    show dEnd T nm N pl sh C _ K h (p1 + 3) F k s hi (sCl pl s (B.1 5) zn 4 zv (b2 zB (oAt zB) 0 (nI s)))
    rw [b2_id hat', cCl_e (o := B.1 5) zn 4 zv zB gs]
    have h45 := sCl_45 (pl := pl) (s := s) (o := B.1 5) zn zv zB
    generalize sCl pl s (B.1 5) zn 4 zv zB = u at *
    obtain ⟨u1, uv, uB⟩ := u
    unfold cRs
    rw [if_neg (show ¬ u1 = 0 from by dsimp only at h45; omega)]
    by_cases u5 : u1 = 5
    · rw [if_pos u5]
      subst u5
      exact dEnd.now cIs.i5
    · rw [if_neg u5]
      have u4 : u1 = 4 := by dsimp only at h45; omega
      subst u4
      refine dEnd.now (cIs.i4 g1 ?_)
      rw [fop_1, fpc_1]
      exact a1 _
  have z0 : z1 = 0 := by omega
  subst z0
  have ezn : zn = na := by have := xn2 rfl; omega
  subst ezn
  rw [if_neg (show ¬ (0 : Nat) = 4 from by decide), if_pos rfl]
  show dEnd T nm N pl sh C (0, 0, fop (fpc F k (p + 1)) k s (B.1 5) zn, zB) K h (p1 + 3) F k s hi _
  have bb := hb m mw tg lp dp _ _ (Tl T s) (p + 1) p1 (s + 1) hi1 tk (fop (fpc F k (p + 1)) k s (B.1 5) zn) zB 0 k c2 w (by omega) (xv z5).1 x10 (by rw [fop_1, fpc_1]) (fun h9 => ⟨by have := (ht h9).1; omega, by rw [fop_j (by have := (ht h9).1; omega), fpc_2]; exact (ht h9).2, (htv h9).mono (xv z5).2.1⟩)
  have vr2 := hi0 mw tg lp dp (Tl T s) (s + 1) hi1 tk zB (xB.b _ _ _ _ _ _ _ w) (by omega) (xv z5).1 (fun h9 => (htv h9).mono (xv z5).2.1)
  obtain ⟨k1, k2, k3, k4⟩ := hk (Tl T s) tk zB (by omega) x3
  have sq := hs (Tl T s) tk zB
  generalize bk (Tl T s) tk zB = r at *
  refine bb.bind (fun y iy => ?_)
  rcases iy.case sq with ⟨r5, y5, yb⟩ | ⟨r4, F2, rfl, g2, hh⟩ | ⟨r0, v2, F2, rfl, g2, hp2⟩ | ⟨r13, v2, F2, rfl, g2, m2, n2, hn2, hw1, hw2, hL⟩
  · rw [if_pos r5]
    exact dEnd.now (cIs.i5' r5 y5 yb)
  · rw [if_neg (by omega)]
    have hd2 : r.2.2.1 10 = k + 1 := by have := k4 (by omega); omega
    have g3 := g1.trans g2 (show s ≤ s + 1 from by omega) hhi
    have gs2 : ∀ i, i < zn → (F2 k).2.2 (8 * s + 4 + i) = nI (B.1 5 + i) := fun i hi => by rw [g2.2 _ (by omega)]; exact gs i hi
    refine dEnd.take hd2 hh (vr2.f r4) (by have := hiv.1; omega) ?_
    rw [r4]
    refine cal_d (hgd.resolve_left k16) hsN (vr2 (by omega)).1 (w3 k16) ((vr2 (by omega)).2.2 r4) (F1 := fsl (fpc F2 k (p1 + 2)) k (8 * s + 7) r.2.1) c6 a6 hd2 (by rw [fsl_1, fpc_1]) (g3.pc.sl (by omega) (by omega)) ena' (fun i hi => ?_) fsl_i
    rw [fsl_j (by omega), fpc_2]
    exact gs2 i hi
  · rw [if_neg (by omega)]
    have hd2 : r.2.2.1 10 = k + 1 := by have := k4 (by omega); omega
    have g3 := g1.trans g2 (show s ≤ s + 1 from by omega) hhi
    have gs2 : ∀ i, i < zn → (F2 k).2.2 (8 * s + 4 + i) = nI (B.1 5 + i) := fun i hi => by rw [g2.2 _ (by omega)]; exact gs i hi
    refine clo_d (hgd.resolve_left k16) hsN (vr2 (by omega)).1 (w3 k16) (o := B.1 5) c3 a3 hd2 hp2 g3 ena' gs2 k3 (fun hne => ?_) (fun he => ?_)
    · rcases sCl_p (pl := pl) (s := s) (o := B.1 5) zn r.1 r.2.1 (b2 r.2.2 (oAt r.2.2) 0 (nI s)) (by omega) with ⟨e, -⟩ | ⟨-, e⟩
      · exact absurd e hne
      · exact e
    · rcases sCl_p (pl := pl) (s := s) (o := B.1 5) zn r.1 r.2.1 (b2 r.2.2 (oAt r.2.2) 0 (nI s)) (by omega) with ⟨-, e⟩ | ⟨e, -⟩
      · obtain ⟨-, -, -, j4⟩ := @sCl_kp pl s (B.1 5) zn 0 0 (b2 r.2.2 (oAt r.2.2) 0 (nI s)) k3
        rw [e, r0]
        refine dEnd.jmp fpc_1 (by have := j4 (by omega); have e10 : (b2 r.2.2 (oAt r.2.2) 0 (nI s)).1 10 = r.2.2.1 10 := rfl; omega) c4 c5 (by have := hiv.1; omega) ?_
        exact dEnd.now (cIs.i0 g3.pc.pc.pc fpc_1)
      · omega
  · rw [if_neg (by omega)]
    have hd2 : r.2.2.1 10 = k + 1 := by have := k4 (by omega); omega
    have g3 := g1.trans g2 (show s ≤ s + 1 from by omega) hhi
    have gs2 : ∀ i, i < zn → (F2 k).2.2 (8 * s + 4 + i) = nI (B.1 5 + i) := fun i hi => by rw [g2.2 _ (by omega)]; exact gs i hi
    unfold okLv at hL
    rw [if_neg (show ¬ (1 : Nat) = 0 from by decide), if_pos rfl] at hL
    obtain ⟨l1, l2, l3⟩ := hL
    refine clo_d (hgd.resolve_left k16) hsN (vr2 (by omega)).1 (w3 k16) (o := B.1 5) l1 l2 hd2 rfl g3 ena' gs2 k3 (fun hne => ?_) (fun he => ?_)
    · rcases sCl_p (pl := pl) (s := s) (o := B.1 5) zn r.1 r.2.1 (b2 r.2.2 (oAt r.2.2) 0 (nI s)) (by omega) with ⟨e, -⟩ | ⟨-, e⟩
      · exact absurd e hne
      · exact e
    · rcases sCl_p (pl := pl) (s := s) (o := B.1 5) zn r.1 r.2.1 (b2 r.2.2 (oAt r.2.2) 0 (nI s)) (by omega) with ⟨-, e⟩ | ⟨e, -⟩
      · rw [e]
        refine dEnd.now (cIs.iw (m := m2) r13 g3.pc hn2 (fun w1 => ?_) hw2 ?_)
        · rw [fpc_2]
          exact hw1 w1
        · rw [fpc_1]
          exact l3
      · rcases e with e | e
        · rw [e] at he; exact absurd he (by decide)
        · rw [e] at he; exact absurd he (by decide)
end DRUN2
