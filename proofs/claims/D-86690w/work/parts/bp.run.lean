set_option maxRecDepth 100000
section RUN
variable {D d r kk lo hi p n nm nk : Nat} {A mA : Nat → Nat} {T : Pg} {pl : Nat → Int32 → Int32} {B B' : Bk} {G G' G2 : XG} {Q : (Option Value ⊕ Nat) → XG → Prop}
theorem BA.o {G : XG} {lo : Nat} {A : Nat → Nat} {o : Option Nat} {l : List Nat} (h : BA G lo A o l) : ∃ b, o = some b ∧ BA G lo A (some b) l := by
  obtain ⟨b, e, h⟩ := h
  exact ⟨b, e, b, rfl, h⟩
/-- if: the walk -/
theorem w_if {bk : Wk} {m mw tg lp dp s e : Nat} {tk : Int32} (hb : bkA r p hi n nm nk A mA T pl bk m) (hP : PGW T n nm nk pl) (hw : wS T nm (wB T nm mw) tg lp dp s e) (hs : s < n) (hk : Tk T s = 9) (hm : B.1 11 - B.1 9 ≤ m) (he : e ≤ n) (hl : lp + dp ≤ 6) (h : WK r p hi n nm nk A mA T pl kk tg s tk B G) (hI : Iv 1 1 1 1 1 B) (hD : dq kk dp ≤ D + 1) (hQ : ∀ z G', oW r kk s e nm mA pl G (stm T pl bk s tk B) z G' → Q z G') : XC xms D 241 [.ref (A s), .ref r, .ref (r + 18 + 4 * kk)] G Q := by
  have h0 := h
  obtain ⟨hr, hu, -, hkb, h10, ht⟩ := h
  have hib := hI.1
  have hk12 : kk < 12 := by omega
  have hB := hI.bv h10
  have hE := hP.2.2.2.2.2.2.1 s hs
  obtain ⟨o3, o1, o2, k1, k2, k3, k4, k5, k6⟩ := hr.sk hs hk
  obtain ⟨wp, w⟩ := hw
  rw [if_pos hk] at w
  obtain ⟨d', x, ed, wa, wb⟩ := w
  have l2 := wO_le (wB_le T nm mw) wb
  obtain ⟨b1, hb1, hv1⟩ := hr.val hu hB k3 (wp.2.2.2.2.2.2.1 (by omega))
  obtain ⟨b2, hb2, hv2⟩ := hr.val hu hB k4 (wp.2.2.2.2.2.2.2.1 (by omega))
  obtain ⟨bt, ebt, hbt⟩ := k5.o
  obtain ⟨be, ebe, hbe⟩ := k6.o
  have kz : Gkd G (A s) = 27 := k1
  have fz : Gfi G 90 (A s) = Ta T s := k2
  have ebt : Gfr G 1130 (A s) = some bt := ebt
  have ebe : Gfr G 1131 (A s) = some be := ebe
  have eq : stm T pl bk s tk B = if (evE B (T1 T s)).1 ≠ 0 then sFail (evE B (T1 T s)).1 B else if (evE B (T2 T s)).1 ≠ 0 then sFail (evE B (T2 T s)).1 B else bk (if holds (Ta T s) (evE B (T1 T s)).2 (evE B (T2 T s)).2 = true then Tl T s else (To T s).getD []) tk B := stm_9 hk
  rw [eq] at hQ
  unfold dq at hD
  obtain ⟨d, rfl⟩ : ∃ d, D = d + 1 := ⟨D - 1, by omega⟩
  have hdq : dq kk d' ≤ d := by
    unfold dq
    omega
  rw [XC_s]
  simp (disch := first | omega | exact cI _ | exact cR _ | exact cK | exact cU | exact cO _ | exact cL _) only [oS, uS.2, Nat.reduceAdd, Nat.reduceSub, Nat.reduceMul, Nat.reduceLeDiff, Nat.reduceEqDiff, Nat.add_sub_cancel, xS, gS, nL, nS, dS, fX26_walk_0, mX26_walk, zX26_walk, kz]
  refine p_holds kz hb1 hb2 hv1 hv2 (by omega) (fun q G3 a1 a2 a3 => ?_) (fun q q2 G3 a1 a2 a3 => ?_) (fun q q2 => ?_)
  · rw [if_pos q] at hQ
    have l3 := a1.1.1.1
    unfold RL0 at l3
    have fin := hQ _ _ (oW.fail a1 a2 a3 hk12)
    simp (disch := first | omega | exact cI _ | exact cR _ | exact cK | exact cU | exact cO _ | exact cL _) only [oS, uS.2, Nat.reduceAdd, Nat.reduceSub, Nat.reduceMul, Nat.reduceLeDiff, Nat.reduceEqDiff, Nat.add_sub_cancel, xS, gS, nL, nS, dS, mX26_walk, zX26_walk, l3, fin]
  · rw [if_neg (fun z => z q), if_pos q2] at hQ
    have l3 := a1.1.1.1
    unfold RL0 at l3
    have fin := hQ _ _ (oW.fail a1 a2 a3 hk12)
    simp (disch := first | omega | exact cI _ | exact cR _ | exact cK | exact cU | exact cO _ | exact cL _) only [oS, uS.2, Nat.reduceAdd, Nat.reduceSub, Nat.reduceMul, Nat.reduceLeDiff, Nat.reduceEqDiff, Nat.add_sub_cancel, xS, gS, nL, nS, dS, mX26_walk, zX26_walk, l3, fin]
  · rw [if_neg (fun z => z q), if_neg (fun z => z q2)] at hQ
    rw [fz]
    have hK : ∀ {pc rest L st} z G', (∃ v, z = .inl (some (.int v))) ∨ (∃ a, z = .inr a) → Q z G' → rest = [(25, i_ret 1)] → st = [] → XK xms d 241 pc rest L st Q z G' := by
      intro pc rest L st z G' hz fin e1 e2
      subst e1
      subst e2
      rcases hz with ⟨v, rfl⟩ | ⟨a, rfl⟩
      · simp (disch := first | omega | exact cI _ | exact cR _ | exact cK | exact cU | exact cO _ | exact cL _) only [oS, uS.2, Nat.reduceAdd, Nat.reduceSub, Nat.reduceMul, Nat.reduceLeDiff, Nat.reduceEqDiff, Nat.add_sub_cancel, xS, gS, nL, nS, dS, mX26_walk, zX26_walk, fin]
      · exact Eq.mpr (zX26_walk (d := d) (pc := pc) (z := a) (L := L) (G := G') (Q := Q)) fin
    by_cases c : holds (Ta T s) (evE B (T1 T s)).2 (evE B (T2 T s)).2 = true
    · rw [if_pos c] at hQ
      rw [if_pos c]
      simp (disch := first | omega | exact cI _ | exact cR _ | exact cK | exact cU | exact cO _ | exact cL _) only [oS, uS.2, Nat.reduceAdd, Nat.reduceSub, Nat.reduceMul, Nat.reduceLeDiff, Nat.reduceEqDiff, Nat.add_sub_cancel, xS, gS, nL, nS, dS, fX26_walk_20, mX26_walk, zX26_walk, kz, ebt]
      exact hb.go wa hm (by omega) (by omega) h0 (by omega) hbt hdq (fun z G3 o _ _ => hK z G3 o.z (hQ z G3 (o.of KT.refl (by omega) (by omega))) rfl rfl)
    · rw [if_neg c] at hQ
      rw [if_neg c]
      simp (disch := first | omega | exact cI _ | exact cR _ | exact cK | exact cU | exact cO _ | exact cL _) only [oS, uS.2, Nat.reduceAdd, Nat.reduceSub, Nat.reduceMul, Nat.reduceLeDiff, Nat.reduceEqDiff, Nat.add_sub_cancel, xS, gS, nL, nS, dS, fX26_walk_16, fX26_walk_20, mX26_walk, zX26_walk, kz, ebe]
      cases hT : To T s with
      | none =>
        rw [hT] at hQ hbe
        exact hb.go (mw := 0) (tg := tg) (lp := lp) (dp := d') (lo1 := s + 1) (hh := s + 1) ⟨rfl, rfl⟩ hm (by omega) (by omega) h0 (by omega) hbe hdq (fun z G3 o _ _ => hK z G3 o.z (hQ z G3 (o.of KT.refl (by omega) (by have := wB_le T nm mw _ _ _ _ _ _ wa; omega))) rfl rfl)
      | some bl =>
        rw [hT] at hQ hbe wb
        have l3 := wB_le T nm mw _ _ _ _ _ _ wa
        exact hb.go wb hm he (by omega) h0 (by omega) hbe hdq (fun z G3 o _ _ => hK z G3 o.z (hQ z G3 (o.of KT.refl (by omega) (by omega))) rfl rfl)
theorem sLoop_s {bk : Wk} {ss : List Nat} {tk : Int32} {t : Nat} (hs : isSpent B = true) : sLoop bk ss tk (t + 1) B = (5, 0, B) := if_pos hs
theorem sLoop_g {bk : Wk} {ss : List Nat} {tk : Int32} {t : Nat} {q : Rs} (hs : isSpent B = false) (hq : bk ss tk (bStp B) = q) : sLoop bk ss tk (t + 1) B = if q.1 = 0 ∨ (q.1 = 3 ∧ q.2.1 = 1) then sLoop bk ss tk t q.2.2 else if q.1 = 2 ∧ q.2.1 = 1 then (0, 0, q.2.2) else if q.1 = 2 ∨ q.1 = 3 then (q.1, q.2.1 - 1, q.2.2) else q := by
  subst hq
  exact if_neg (by rw [hs]; decide)
theorem WK.stp {tg x y' : Nat} {tk : Int32} (h : WK r p hi n nm nk A mA T pl kk tg lo tk B G) (hu : RU G' r mA nm pl (bStp B)) (y : YZ (rgb r) G G') (hs : isSpent B = false) : WK r p hi n nm nk A mA T pl kk tg lo tk (bStp B) G' ∧ KT r kk x y' G G' := by
  obtain ⟨w1, w2, w3, w4, w5, w6⟩ := h
  have hk12 : kk < 12 := by have := w3.1; omega
  have k : KT r kk 0 0 G G' := y.kt hk12
  refine ⟨⟨w1.ye k.1, hu, (w3.stp (by rw [hs]; decide)).z, w4.stp, w5, fun h9 => ?_⟩, y.kt hk12⟩
  obtain ⟨t1, t2, t3, t4⟩ := w6 h9
  exact ⟨t1, t2, (k.2.2.1 _ (.inr (by omega))).trans t3, t4⟩
theorem l_loop {bk : Wk} {m mw tg lp dp s e N bb : Nat} {tk : Int32} (hb : bkA r p hi n nm nk A mA T pl bk m) (hw : wB T nm mw tg (lp + 1) dp (Tl T s) (s + 1) e) (hs : s < n) (he : e ≤ n) (hl : lp + 1 + dp ≤ 6) (hN : N < 2147483648) (hA : p + 6 ≤ A s ∧ A s < hi) (hdq : dq kk dp ≤ d) : ∀ t i B G wv, i + t = N → B.1 11 - B.1 9 ≤ m → WK r p hi n nm nk A mA T pl kk tg s tk B G → Gkd G (A s) = 28 → Gfr G 1133 (A s) = some bb → BA (Tp hi G) (p + 6) A (some bb) (Tl T s) → (∀ z G', oW r kk s e nm mA pl G (sLoop bk (Tl T s) tk t B) z G' → Q z G') → XL xms d 246 10 [.ref (A s), .ref r, .ref (r + 18 + 4 * kk), .int (nI N), .int (nI i), wv] [] G Q := by
  intro t
  induction t with
  | zero =>
    intro i B G wv hi' hm h kz fz hba hQ
    have e : i = N := by omega
    subst e
    have fin := hQ (.inl (some (.int (nI 0)))) G ⟨KT.refl, .inl ⟨rfl, rfl, h.2.1⟩⟩
    rw [fX27_walk_10]
    simp (disch := first | omega | exact cI _ | exact cR _ | exact cK | exact cU | exact cO _ | exact cL _) only [oS, uS.2, Nat.reduceAdd, Nat.reduceSub, Nat.reduceMul, Nat.reduceLeDiff, Nat.reduceEqDiff, Nat.add_sub_cancel, xS, gS, nL, nS, dS, fX27_walk_77, mX27_walk, zX27_walk, kz, fin]
  | succ t ih =>
    intro i B G wv hi' hm h kz fz hba hQ
    have h0 := h
    obtain ⟨hr, hu, hI, hkb, h10, ht⟩ := h
    have hib := hI.1
    have hk12 : kk < 12 := by omega
    have l0 := hu.1.1.1
    unfold RL0 at l0
    have hiN : i < N := by omega
    have hib2 : i < 2147483648 := by omega
    have e101 : (101 : Int32) = nI 101 := rfl
    have e201 : (201 : Int32) = nI 201 := rfl
    rw [fX27_walk_10]
    simp (disch := first | omega | exact cI _ | exact cR _ | exact cK | exact cU | exact cO _ | exact cL _) only [oS, uS.2, Nat.reduceAdd, Nat.reduceSub, Nat.reduceMul, Nat.reduceLeDiff, Nat.reduceEqDiff, Nat.add_sub_cancel, xS, gS, nL, nS, dS, mX27_walk, zX27_walk, l0, hiN]
    refine k_step hu hI.cb (by unfold dq at hdq; omega) (fun sp => ?_) (fun G1 h1 y1 ns => ?_)
    · rw [sLoop_s sp] at hQ
      have fin := hQ _ _ (oW.spent (lo := s) (hi := e) hu h10)
      simp (disch := first | omega | exact cI _ | exact cR _ | exact cK | exact cU | exact cO _ | exact cL _) only [oS, uS.2, Nat.reduceAdd, Nat.reduceSub, Nat.reduceMul, Nat.reduceLeDiff, Nat.reduceEqDiff, Nat.add_sub_cancel, xS, gS, nL, nS, dS, mX27_walk, zX27_walk, l0, fin]
    · obtain ⟨w1, k1⟩ := h0.stp (x := s) (y' := e) h1 y1 ns
      have l1 := h1.1.1.1
      unfold RL0 at l1
      have e9 : (bStp B).1 9 = B.1 9 + 1 := rfl
      have e11 : (bStp B).1 11 = B.1 11 := rfl
      have kd1 : Gkd G1 (A s) = 28 := by rw [k1.1.2.2.2.1]; exact kz
      have fr1 : Gfr G1 1133 (A s) = some bb := (k1.1.1 1133 _ (.inl (by decide))).trans fz
      have hba1 : BA (Tp hi G1) (p + 6) A (some bb) (Tl T s) := hba.kq k1.1.kq (fun a q => hr.1.n (by omega))
      simp (disch := first | omega | exact cI _ | exact cR _ | exact cK | exact cU | exact cO _ | exact cL _) only [oS, uS.2, Nat.reduceAdd, Nat.reduceSub, Nat.reduceMul, Nat.reduceLeDiff, Nat.reduceEqDiff, Nat.add_sub_cancel, xS, gS, nL, nS, dS, mX27_walk, zX27_walk, l1, kd1, fr1]
      obtain ⟨q, hq⟩ : ∃ q, bk (Tl T s) tk (bStp B) = q := ⟨_, rfl⟩
      rw [sLoop_g ns hq] at hQ
      refine hb.go hw (by omega) he hl w1 (by omega) hba1 hdq (fun z G2 o wk kp2 => ?_)
      rw [hq] at o wk kp2
      have ko : KT r kk s e G G2 := k1.trans (o.1.mono (by omega) (Nat.le_refl _))
      have kd2 : Gkd G2 (A s) = 28 := by rw [ko.1.2.2.2.1]; exact kz
      have fr2 : Gfr G2 1133 (A s) = some bb := (ko.1.1 1133 _ (.inl (by decide))).trans fz
      have hba2 : BA (Tp hi G2) (p + 6) A (some bb) (Tl T s) := hba.kq ko.1.kq (fun a q => hr.1.n (by omega))
      have again : (q.1 = 0 ∨ (q.1 = 3 ∧ q.2.1 = 1)) → ∀ wv, XL xms d 246 10 [.ref (A s), .ref r, .ref (r + 18 + 4 * kk), .int (nI N), .int (nI (i + 1)), wv] [] G2 Q := by
        intro c wv
        rw [if_pos c] at hQ
        have h5 : q.1 ≠ 5 := by rcases c with c | c <;> omega
        obtain ⟨p1, p2, p3, p4⟩ := kp2
        exact ih (i + 1) q.2.2 G2 wv (by omega) (by omega) (wk h5) kd2 fr2 hba2 (fun z G' o2 => hQ z G' (o2.of ko (Nat.le_refl _) (Nat.le_refl _)))
      rcases o.2 with ⟨q0, rfl, ru⟩ | ⟨q0, rfl, g34, ru⟩ | ⟨q0, ⟨j, ej, j1, j2, rfl⟩, ru⟩ | ⟨q0, ⟨j, ej, j1, j2, rfl⟩, ru⟩ | ⟨q0, rfl, g33, ru⟩ | ⟨q0, rfl, ru⟩
      · have fin := again (.inl q0)
        simp (disch := first | omega | exact cI _ | exact cR _ | exact cK | exact cU | exact cO _ | exact cL _) only [oS, uS.2, Nat.reduceAdd, Nat.reduceSub, Nat.reduceMul, Nat.reduceLeDiff, Nat.reduceEqDiff, Nat.add_sub_cancel, xS, gS, nL, nS, dS, fX27_walk_71, mX27_walk, zX27_walk, fin]
      · rw [if_neg (by omega), if_neg (by omega), if_neg (by omega)] at hQ
        have fin := hQ (.inl (some (.int (nI 1)))) G2 ⟨ko, .inr (.inl ⟨q0, rfl, g34, ru⟩)⟩
        simp (disch := first | omega | exact cI _ | exact cR _ | exact cK | exact cU | exact cO _ | exact cL _) only [oS, uS.2, Nat.reduceAdd, Nat.reduceSub, Nat.reduceMul, Nat.reduceLeDiff, Nat.reduceEqDiff, Nat.add_sub_cancel, xS, gS, nL, nS, dS, fX27_walk_55, fX27_walk_68, fX27_walk_70, mX27_walk, zX27_walk, e101, e201, fin]
      · rw [if_neg (by omega)] at hQ
        by_cases cj : j = 1
        · subst cj
          rw [if_pos ⟨q0, ej⟩] at hQ
          have fin := hQ (.inl (some (.int (nI 0)))) G2 ⟨ko, .inl ⟨rfl, rfl, ru⟩⟩
          simp (disch := first | omega | exact cI _ | exact cR _ | exact cK | exact cU | exact cO _ | exact cL _) only [oS, uS.2, Nat.reduceAdd, Nat.reduceSub, Nat.reduceMul, Nat.reduceLeDiff, Nat.reduceEqDiff, Nat.add_sub_cancel, xS, gS, nL, nS, dS, fX27_walk_55, fX27_walk_68, fX27_walk_70, mX27_walk, zX27_walk, e101, e201, fin]
        · rw [if_neg (fun z => cj (nI_inj (by omega) (by omega) (ej.symm.trans z.2))), if_pos (.inl q0)] at hQ
          have fin := hQ (.inl (some (.int (nI (100 + (j - 1)))))) G2 ⟨ko, .inr (.inr (.inl ⟨q0, ⟨j - 1, by show q.2.1 - 1 = _; rw [ej]; exact n_sub j1, by omega, by omega, rfl⟩, ru⟩))⟩
          have ea : 100 + (j - 1) = 100 + j - 1 := by omega
          rw [ea] at fin
          simp (disch := first | omega | exact cI _ | exact cR _ | exact cK | exact cU | exact cO _ | exact cL _) only [oS, uS.2, Nat.reduceAdd, Nat.reduceSub, Nat.reduceMul, Nat.reduceLeDiff, Nat.reduceEqDiff, Nat.add_sub_cancel, xS, gS, nL, nS, dS, fX27_walk_55, fX27_walk_68, fX27_walk_70, mX27_walk, zX27_walk, e101, e201, fin]
      · by_cases cj : j = 1
        · subst cj
          have fin := again (.inr ⟨q0, ej⟩)
          simp (disch := first | omega | exact cI _ | exact cR _ | exact cK | exact cU | exact cO _ | exact cL _) only [oS, uS.2, Nat.reduceAdd, Nat.reduceSub, Nat.reduceMul, Nat.reduceLeDiff, Nat.reduceEqDiff, Nat.add_sub_cancel, xS, gS, nL, nS, dS, fX27_walk_71, mX27_walk, zX27_walk, e101, e201, fin]
        · have nj : ¬ q.2.1 = 1 := fun z => cj (nI_inj (by omega) (by omega) (ej.symm.trans z))
          rw [if_neg (fun z => by
            rcases z with z | z
            · omega
            · exact nj z.2), if_neg (fun z => by omega), if_pos (.inr q0)] at hQ
          have fin := hQ (.inl (some (.int (nI (200 + (j - 1)))))) G2 ⟨ko, .inr (.inr (.inr (.inl ⟨q0, ⟨j - 1, by show q.2.1 - 1 = _; rw [ej]; exact n_sub j1, by omega, by omega, rfl⟩, ru⟩)))⟩
          have ea : 200 + (j - 1) = 200 + j - 1 := by omega
          rw [ea] at fin
          simp (disch := first | omega | exact cI _ | exact cR _ | exact cK | exact cU | exact cO _ | exact cL _) only [oS, uS.2, Nat.reduceAdd, Nat.reduceSub, Nat.reduceMul, Nat.reduceLeDiff, Nat.reduceEqDiff, Nat.add_sub_cancel, xS, gS, nL, nS, dS, fX27_walk_55, fX27_walk_68, fX27_walk_70, mX27_walk, zX27_walk, e101, e201, fin]
      · rw [if_neg (by omega), if_neg (by omega), if_neg (by omega)] at hQ
        have fin := hQ (.inr (r + 16)) G2 ⟨ko, .inr (.inr (.inr (.inr (.inl ⟨q0, rfl, g33, ru⟩))))⟩
        simp (disch := first | omega | exact cI _ | exact cR _ | exact cK | exact cU | exact cO _ | exact cL _) only [oS, uS.2, Nat.reduceAdd, Nat.reduceSub, Nat.reduceMul, Nat.reduceLeDiff, Nat.reduceEqDiff, Nat.add_sub_cancel, xS, gS, nL, nS, dS, mX27_walk, zX27_walk, fin]
      · rw [if_neg (by omega), if_neg (by omega), if_neg (by omega)] at hQ
        have fin := hQ (.inr (r + 17)) G2 ⟨ko, .inr (.inr (.inr (.inr (.inr ⟨q0, rfl, ru⟩))))⟩
        simp (disch := first | omega | exact cI _ | exact cR _ | exact cK | exact cU | exact cO _ | exact cL _) only [oS, uS.2, Nat.reduceAdd, Nat.reduceSub, Nat.reduceMul, Nat.reduceLeDiff, Nat.reduceEqDiff, Nat.add_sub_cancel, xS, gS, nL, nS, dS, mX27_walk, zX27_walk, fin]
/-- loop: the walk -/
theorem w_loop {bk : Wk} {m mw tg lp dp s e : Nat} {tk : Int32} (hb : bkA r p hi n nm nk A mA T pl bk m) (hP : PGW T n nm nk pl) (hw : wS T nm (wB T nm mw) tg lp dp s e) (hs : s < n) (hk : Tk T s = 10) (hm : B.1 11 - B.1 9 ≤ m) (he : e ≤ n) (hl : lp + dp ≤ 6) (h : WK r p hi n nm nk A mA T pl kk tg s tk B G) (hI : Iv 1 1 1 1 1 B) (hD : dq kk dp ≤ D + 1) (hQ : ∀ z G', oW r kk s e nm mA pl G (stm T pl bk s tk B) z G' → Q z G') : XC xms D 246 [.ref (A s), .ref r, .ref (r + 18 + 4 * kk)] G Q := by
  have h0 := h
  obtain ⟨hr, hu, -, hkb, h10, ht⟩ := h
  have hib := hI.1
  have hk12 : kk < 12 := by omega
  have hB := hI.bv h10
  have hE := hP.2.2.2.2.2.2.1 s hs
  obtain ⟨o3, o1, o2, k1, k2, k3⟩ := hr.sk hs hk
  obtain ⟨wp, w⟩ := hw
  rw [if_neg (by omega), if_pos hk] at w
  obtain ⟨d', ed, wa⟩ := w
  obtain ⟨b1, hb1, hv1⟩ := hr.val hu hB k2 (wp.2.2.2.2.2.2.1 (by omega))
  obtain ⟨bb, ebb, hbb⟩ := k3.o
  have kz : Gkd G (A s) = 28 := k1
  have ebb : Gfr G 1133 (A s) = some bb := ebb
  have eq : stm T pl bk s tk B = if (evE B (T1 T s)).1 ≠ 0 then sFail (evE B (T1 T s)).1 B else sLoop bk (Tl T s) tk (turns (evE B (T1 T s)).2) B := stm_10 hk
  rw [eq] at hQ
  unfold dq at hD
  obtain ⟨d, rfl⟩ : ∃ d, D = d + 1 := ⟨D - 1, by omega⟩
  have hdq : dq kk d' ≤ d := by
    unfold dq
    omega
  rw [XC_s]
  simp (disch := first | omega | exact cI _ | exact cR _ | exact cK | exact cU | exact cO _ | exact cL _) only [oS, uS.2, Nat.reduceAdd, Nat.reduceSub, Nat.reduceMul, Nat.reduceLeDiff, Nat.reduceEqDiff, Nat.add_sub_cancel, xS, gS, nL, nS, dS, fX27_walk_0, mX27_walk, zX27_walk, kz]
  refine p_turns kz hb1 hv1 (by omega) (fun q G3 a1 a2 a3 => ?_) (fun q => ?_)
  · rw [if_pos q] at hQ
    have l3 := a1.1.1.1
    unfold RL0 at l3
    have fin := hQ _ _ (oW.fail a1 a2 a3 hk12)
    simp (disch := first | omega | exact cI _ | exact cR _ | exact cK | exact cU | exact cO _ | exact cL _) only [oS, uS.2, Nat.reduceAdd, Nat.reduceSub, Nat.reduceMul, Nat.reduceLeDiff, Nat.reduceEqDiff, Nat.add_sub_cancel, xS, gS, nL, nS, dS, mX27_walk, zX27_walk, l3, fin]
  · rw [if_neg (fun z => z q)] at hQ
    by_cases c : (evE B (T1 T s)).2 < 1
    · have et : turns (evE B (T1 T s)).2 = 0 := if_pos c
      rw [et] at hQ
      have fin := hQ (.inl (some (.int (nI 0)))) G ⟨KT.refl, .inl ⟨rfl, rfl, hu⟩⟩
      have cl : ((evE B (T1 T s)).2 ≤ nI 0) = True := by
        refine eq_true ?_
        have c : (evE B (T1 T s)).2 < nI 1 := c
        rw [Int32.lt_iff_toInt_lt] at c
        rw [Int32.le_iff_toInt_le]
        have e1 : (nI 1).toInt = 1 := by decide
        have e0 : (nI 0).toInt = 0 := by decide
        omega
      generalize (evE B (T1 T s)).2 = x at cl ⊢
      simp (disch := first | omega | exact cI _ | exact cR _ | exact cK | exact cU | exact cO _ | exact cL _) only [oS, uS.2, Nat.reduceAdd, Nat.reduceSub, Nat.reduceMul, Nat.reduceLeDiff, Nat.reduceEqDiff, Nat.add_sub_cancel, xS, gS, nL, nS, dS, fX27_walk_10, fX27_walk_77, mX27_walk, zX27_walk, kz, cl, fin]
    · have et : turns (evE B (T1 T s)).2 = (evE B (T1 T s)).2.toNatClampNeg := if_neg c
      rw [et] at hQ
      have en : (evE B (T1 T s)).2 = nI (evE B (T1 T s)).2.toNatClampNeg := by
        refine (Int32.ofNat_toNatClampNeg _ ?_).symm
        have c : ¬ (evE B (T1 T s)).2 < nI 1 := c
        rw [Int32.lt_iff_toInt_lt] at c
        rw [Int32.le_iff_toInt_le]
        have e1 : (nI 1).toInt = 1 := by decide
        have e0 : (0 : Int32).toInt = 0 := by decide
        omega
      have hN : (evE B (T1 T s)).2.toNatClampNeg < 2147483648 := Int32.toNatClampNeg_lt _
      rw [en]
      generalize (evE B (T1 T s)).2.toNatClampNeg = N at hN hQ ⊢
      have fin : ∀ wv, XL xms d 246 10 [.ref (A s), .ref r, .ref (r + 18 + 4 * kk), .int (nI N), .int (nI 0), wv] [] G Q := fun wv => l_loop hb wa hs he (by omega) hN ⟨o1, o2⟩ hdq N 0 B G wv (Nat.zero_add _) hm h0 kz ebb hbb hQ
      simp (disch := first | omega | exact cI _ | exact cR _ | exact cK | exact cU | exact cO _ | exact cL _) only [oS, uS.2, Nat.reduceAdd, Nat.reduceSub, Nat.reduceMul, Nat.reduceLeDiff, Nat.reduceEqDiff, Nat.add_sub_cancel, xS, gS, nL, nS, dS, mX27_walk, zX27_walk, kz, fin]
end RUN
