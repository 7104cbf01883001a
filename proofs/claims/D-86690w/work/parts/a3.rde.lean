set_option maxRecDepth 100000
/-! A PROGRAM IS READ: its object, kinds, the whole -/
section RDE
variable {D S R p : Nat} {t : Tks} {j J f nk nm b : Nat} {g : Nat → Option Nat} {A : Nat → Nat} {c : Cx} {Z : Zs} {X : Zp} {G0 G G1 G2 : XG} {Q : (Option Value ⊕ Nat) → XG → Prop}
/-- an array is made, for a field of the program -/
theorem k_na {d pa pb pc pe f t n : Nat} {v : Int32} {es : List (Nat × XI)} (hv : v = nI n) (hn : n < 1000) (hk : Gkd G p = 4) (hp : p < Gtp G) (h : ∀ G', KQ (fun a => a = p) 1 n G G' → Gtp G' = Gtp G + 1 → Gkd G' (Gtp G) = 100 + t → Gln G' (Gtp G) = n → Gfr G' f p = some (Gtp G) → (∀ x, x ≠ f → Gfr G' x p = Gfr G x p) → (∀ x, Gfi G' x p = Gfi G x p) → XW xms d 67 es [.ref p, xjk] [] G' Q) : XW xms d 67 ((pa, i_ald 0) :: (pb, i_psh (.int v)) :: (pc, i_nwa t) :: (pe, i_pur f [4]) :: es) [.ref p, xjk] [] G Q := by
  subst hv
  have e0 : (p = Gtp G) = False := eq_false (by omega)
  have := h (Sfr (Sna G t n) f p (some (Gtp G))) (KQ.na.trans KQ.rR) rfl (if_pos rfl) (if_pos rfl) (if_pos ⟨rfl, rfl⟩) (fun x hx => if_neg (fun q => hx q.1)) (fun x => rfl)
  simp (disch := first | omega | exact cI _ | exact cR _ | exact cK | exact cU | exact cO _ | exact cL _) only [oS, uS.2, Nat.reduceAdd, Nat.reduceSub, Nat.reduceMul, Nat.reduceLeDiff, Nat.reduceEqDiff, Nat.add_sub_cancel, xS, gS, nL, nS, dS, mX3_init, zX3_init, hk, e0, this]
def itA (a : Nat) : Nat → Nat → XG → XG
  | 0, _, G => G
  | m + 1, k, G => itA a m (k + 1) (Sai G a k (nI 1))
theorem itA_p {a : Nat} : ∀ m k G, KQ (fun b => b = a) 0 0 G (itA a m k G) ∧ Gtp (itA a m k G) = Gtp G ∧ ∀ i, Gai (itA a m k G) a i = if k ≤ i ∧ i < k + m then nI 1 else Gai G a i := by
  intro m
  induction m with
  | zero =>
    intro k G
    refine ⟨KQ.refl.mono (fun _ q => q) (Nat.le_refl _) (Nat.le_refl _), rfl, fun i => ?_⟩
    rw [if_neg (by omega)]
    rfl
  | succ m ih =>
    intro k G
    obtain ⟨h1, h2, h3⟩ := ih (k + 1) (Sai G a k (nI 1))
    have k0 : KQ (fun b => b = a) 0 0 G (Sai G a k (nI 1)) := KQ.ai rfl
    refine ⟨k0.trans h1, h2, fun i => ?_⟩
    show Gai (itA a m (k + 1) (Sai G a k (nI 1))) a i = _
    rw [h3 i]
    by_cases e : k + 1 ≤ i ∧ i < k + 1 + m
    · rw [if_pos e, if_pos (by omega)]
    · rw [if_neg e]
      by_cases e2 : i = k
      · rw [if_pos (by omega), e2]
        exact Sai_s
      · rw [if_neg (by omega)]
        exact Sai_o (.inr e2)
theorem d_prog_lp {d a : Nat} : ∀ m k G, k + m = 7 → Gkd G p = 4 → Gfr G 1021 p = some a → Gkd G a = 100 → Gln G a = 16 → XL xms d 67 72 [.ref p, .int (nI k)] [] G Q = Q (.inl none) (itA a m k G) := by
  intro m
  induction m with
  | zero =>
    intro k G hk h1 h2 h3 h4
    have hk : k = 7 := by omega
    subst hk
    rw [fX3_init_72]
    unfold itA
    simp (disch := first | omega | exact cI _ | exact cR _ | exact cK | exact cU | exact cO _ | exact cL _) only [oS, uS.2, Nat.reduceAdd, Nat.reduceSub, Nat.reduceMul, Nat.reduceLeDiff, Nat.reduceEqDiff, Nat.add_sub_cancel, xS, gS, nL, nS, dS, fX3_init_91, mX3_init, zX3_init, h1]
  | succ m ih =>
    intro k G hk h1 h2 h3 h4
    have hk7 : k ≤ 6 := by omega
    have := ih (k + 1) (Sai G a k (nI 1)) (by omega) h1 h2 h3 h4
    rw [fX3_init_72]
    unfold itA
    simp (disch := first | omega | exact cI _ | exact cR _ | exact cK | exact cU | exact cO _ | exact cL _) only [oS, uS.2, Nat.reduceAdd, Nat.reduceSub, Nat.reduceMul, Nat.reduceLeDiff, Nat.reduceEqDiff, Nat.add_sub_cancel, xS, gS, nL, nS, dS, mX3_init, zX3_init, h1, h2, h3, h4, hk7, this]
theorem KQ.aR {a i : Nat} {v : Int32} : KQ (fun b => b = a) 0 0 G (Sai G a i v) := KQ.ai rfl
/-- a new program -/
theorem k_prog (hD : 2 ≤ D) (hk : Gkd G p = 4) (hp : p + 1 = Gtp G) (h : ∀ G', KQ (fun a => a = p) 5 424 G G' → Gtp G' = Gtp G + 5 → PR G' p → (∀ x, x ≠ 13 → Gfi G' x p = Gfi G x p) → Gfi G' 13 p = nI 7 → Gai G' (p + 2) 0 = NN → Gai G' (p + 2) 1 = nI 0 → (∀ i, 2 ≤ i → i < 7 → Gai G' (p + 2) i = nI 1) → Q (.inl none) G') : XC xms D 67 [.ref p] G Q := by
  obtain ⟨d, rfl⟩ : ∃ d, D = d + 1 + 1 := ⟨D - 2, by omega⟩
  have b0 : ∀ es, XW xms (d + 1) 67 ((0, i_ald 0) :: (1, i_obj) :: es) [.ref p, xjk] [] G Q = XW xms (d + 1) 67 es [.ref p, xjk] [] G Q := by
    intro es
    simp (disch := first | omega | exact cI _ | exact cR _ | exact cK | exact cU | exact cO _ | exact cL _) only [oS, uS.2, Nat.reduceAdd, Nat.reduceSub, Nat.reduceMul, Nat.reduceLeDiff, Nat.reduceEqDiff, Nat.add_sub_cancel, xS, gS, nL, nS, dS, mX3_init, zX3_init, hk]
  have b5 : ∀ G1 es, Gkd G1 p = 4 → XW xms (d + 1) 67 ((21, i_ald 0) :: (22, i_psh (.int 7)) :: (24, i_pui 13 [4]) :: es) [.ref p, xjk] [] G1 Q = XW xms (d + 1) 67 es [.ref p, xjk] [] (Sfi G1 13 p (nI 7)) Q := by
    intro G1 es h1
    simp (disch := first | omega | exact cI _ | exact cR _ | exact cK | exact cU | exact cO _ | exact cL _) only [oS, uS.2, Nat.reduceAdd, Nat.reduceSub, Nat.reduceMul, Nat.reduceLeDiff, Nat.reduceEqDiff, Nat.add_sub_cancel, xS, gS, nL, nS, dS, mX3_init, zX3_init, h1]
  rw [XC_s]
  simp (disch := first | omega | exact cI _ | exact cR _ | exact cK | exact cU | exact cO _ | exact cL _) only [oS, uS.2, Nat.reduceAdd, Nat.reduceSub, Nat.reduceMul, Nat.reduceLeDiff, Nat.reduceEqDiff, Nat.add_sub_cancel, xS, gS, nL, nS, dS, mX3_init, zX3_init, hk]
  rw [fX3_init_0, b0]
  refine k_na (n := 8) rfl (by omega) hk (by omega) (fun G1 q1 t1 a1 l1 f1 o1 i1 => ?_)
  have h1 : Gkd G1 p = 4 := ((q1.2.2.2.2.1 p (by omega)).1).trans hk
  refine k_na (n := 16) rfl (by omega) h1 (by omega) (fun G2 q2 t2 a2 l2 f2 o2 i2 => ?_)
  have h2 : Gkd G2 p = 4 := ((q2.2.2.2.2.1 p (by omega)).1).trans h1
  rw [b5 _ _ h2]
  obtain ⟨G3, hG3⟩ : ∃ G3, G3 = Sfi G2 13 p (nI 7) := ⟨_, rfl⟩
  have q3 : KQ (fun a => a = p) 0 0 G2 G3 := by rw [hG3]; exact KQ.fR
  have t3 : Gtp G3 = Gtp G2 := by rw [hG3]; rfl
  have o3 : ∀ x, Gfr G3 x p = Gfr G2 x p := fun x => by rw [hG3]; rfl
  have i3 : ∀ x, x ≠ 13 → Gfi G3 x p = Gfi G2 x p := fun x hx => by rw [hG3]; exact Sfi_o hx
  have i3' : Gfi G3 13 p = nI 7 := by rw [hG3]; exact Sfi_S
  rw [← hG3]
  have h3 : Gkd G3 p = 4 := ((q3.2.2.2.2.1 p (by omega)).1).trans h2
  refine k_na (n := 80) rfl (by omega) h3 (by omega) (fun G4 q4 t4 a4 l4 f4 o4 i4 => ?_)
  have h4 : Gkd G4 p = 4 := ((q4.2.2.2.2.1 p (by omega)).1).trans h3
  refine k_na (n := 160) rfl (by omega) h4 (by omega) (fun G5 q5 t5 a5 l5 f5 o5 i5 => ?_)
  have h5 : Gkd G5 p = 4 := ((q5.2.2.2.2.1 p (by omega)).1).trans h4
  refine k_na (n := 160) rfl (by omega) h5 (by omega) (fun G6 q6 t6 a6 l6 f6 o6 i6 => ?_)
  have h6 : Gkd G6 p = 4 := ((q6.2.2.2.2.1 p (by omega)).1).trans h5
  have e1 : Gtp G = p + 1 := hp.symm
  have e2 : Gtp G1 = p + 2 := by omega
  have e3 : Gtp G3 = p + 3 := by omega
  have e4 : Gtp G4 = p + 4 := by omega
  have e5 : Gtp G5 = p + 5 := by omega
  rw [e1] at a1 l1 f1
  rw [e2] at a2 l2 f2
  rw [e3] at a4 l4 f4
  rw [e4] at a5 l5 f5
  rw [e5] at a6 l6 f6
  have s1 := q2.trans (q3.trans (q4.trans (q5.trans q6)))
  have s2 := q3.trans (q4.trans (q5.trans q6))
  have s4 := q5.trans q6
  have c1 := s1.2.2.2.2.1 (p + 1) (by omega)
  have c2 := s2.2.2.2.2.1 (p + 2) (by omega)
  have c4 := s4.2.2.2.2.1 (p + 3) (by omega)
  have c5 := q6.2.2.2.2.1 (p + 4) (by omega)
  have f21 : Gfr G6 1021 p = some (p + 2) := (o6 1021 (by decide)).trans ((o5 1021 (by decide)).trans ((o4 1021 (by decide)).trans ((o3 1021).trans f2)))
  have k2 : Gkd G6 (p + 2) = 100 := c2.1.trans a2
  have l2' : Gln G6 (p + 2) = 16 := c2.2.trans l2
  have pr : PR G6 p := ⟨h6, (o6 1020 (by decide)).trans ((o5 1020 (by decide)).trans ((o4 1020 (by decide)).trans ((o3 1020).trans ((o2 1020 (by decide)).trans f1)))), c1.1.trans a1, c1.2.trans l1, f21, k2, l2', (o6 1022 (by decide)).trans ((o5 1022 (by decide)).trans f4), c4.1.trans a4, c4.2.trans l4, (o6 1023 (by decide)).trans f5, c5.1.trans a5, c5.2.trans l5, f6, a6, l6, by omega⟩
  have qa := (((((q1.trans q2).trans q3).trans q4).trans q5).trans q6)
  have ii : ∀ x, x ≠ 13 → Gfi G6 x p = Gfi G x p := fun x hx => (i6 x).trans ((i5 x).trans ((i4 x).trans ((i3 x hx).trans ((i2 x).trans (i1 x)))))
  have i13 : Gfi G6 13 p = nI 7 := (i6 13).trans ((i5 13).trans ((i4 13).trans i3'))
  have t6' : Gtp G6 = Gtp G + 5 := by omega
  have lp := d_prog_lp (Q := Q) (d := d + 1) (p := p) (a := p + 2) 5 2 (Sai (Sai G6 (p + 2) 0 NN) (p + 2) 1 (nI 0)) rfl h6 f21 k2 l2'
  obtain ⟨z1, z2, z3⟩ := itA_p (a := p + 2) 5 2 (Sai (Sai G6 (p + 2) 0 NN) (p + 2) 1 (nI 0))
  have z0 : KQ (fun b => b = p + 2) (0 + 0) (0 + 0) G6 (Sai (Sai G6 (p + 2) 0 NN) (p + 2) 1 (nI 0)) := KQ.aR.trans KQ.aR
  have zz := z0.trans z1
  have fz := (zz.2.2.2.2.2 p (by omega) (by omega)).1
  have kq : KQ (fun a => a = p) 5 424 G (itA (p + 2) 5 2 (Sai (Sai G6 (p + 2) 0 NN) (p + 2) 1 (nI 0))) := (KQ.new ((qa.mono (fun a q => .inl q) (Nat.le_refl _) (Nat.le_refl _)).trans (zz.mono (fun a q => .inr (by have q : a = p + 2 := q; omega)) (Nat.le_refl _) (Nat.le_refl _)))).mono (fun _ q => q) (by omega) (by omega)
  have fin := h (itA (p + 2) 5 2 (Sai (Sai G6 (p + 2) 0 NN) (p + 2) 1 (nI 0))) kq (z2.trans t6') (pr.kq zz (fun f _ _ => (fz f).2)) (fun x hx => (fz x).1.trans (ii x hx)) ((fz 13).1.trans i13) (by
    rw [z3 0, if_neg (by omega)]
    exact (Sai_o (.inr (by decide))).trans Sai_s) (by
    rw [z3 1, if_neg (by omega)]
    exact Sai_s) (fun i i1 i2 => by
    rw [z3 i, if_pos (by omega)])
  rw [← lp] at fin
  simp (disch := first | omega | exact cI _ | exact cR _ | exact cK | exact cU | exact cO _ | exact cL _) only [oS, uS.2, Nat.reduceAdd, Nat.reduceSub, Nat.reduceMul, Nat.reduceLeDiff, Nat.reduceEqDiff, Nat.add_sub_cancel, xS, gS, nL, nS, dS, mX3_init, zX3_init, h6, f21, k2, l2']
  exact fin
end RDE
