set_option maxRecDepth 100000
section RUN
variable {D d r kk lo hi p n nm nk : Nat} {A mA : Nat → Nat} {T : Pg} {pl : Nat → Int32 → Int32} {B B' : Bk} {G G' G2 : XG} {Q : (Option Value ⊕ Nat) → XG → Prop}
/-- what a method's walk comes to: k its frame -/
def oMw (r k nm : Nat) (mA : Nat → Nat) (pl : Nat → Int32 → Int32) (G : XG) (q : Rs) (z : Option Value ⊕ Nat) (G' : XG) : Prop := YE r G G' ∧ (∀ j, j < k → ∀ y, Gai G' (r + 21 + 4 * j) y = Gai G (r + 21 + 4 * j) y) ∧ (∀ j, j < k → Gfi G' 34 (r + 18 + 4 * j) = Gfi G 34 (r + 18 + 4 * j)) ∧ ((q.1 = 5 ∧ z = .inr (r + 17) ∧ RU G' r mA nm pl (b1 q.2.2 10 k)) ∨ (q.1 = 4 ∧ z = .inr (r + 16) ∧ Gfi G' 33 (r + 16) = q.2.1 ∧ RU G' r mA nm pl (bExit q.2.2)) ∨ (q.1 < 4 ∧ z = .inl (some (.int (if q.1 = 1 then q.2.1 else 0))) ∧ RU G' r mA nm pl (bExit q.2.2)))
theorem b1_b1 {c u v : Nat} : b1 (b1 B c u) c v = b1 B c v := by
  refine Prod.ext (funext fun x => ?_) rfl
  show (if x = c then v else if x = c then u else B.1 x) = (if x = c then v else B.1 x)
  by_cases e : x = c
  · rw [if_pos e, if_pos e]
  · rw [if_neg e, if_neg e, if_neg e]
theorem bExit_e {k : Nat} (h : B.1 10 = k + 1) : bExit B = b1 B 10 k := by
  unfold bExit
  rw [h]
  rfl
theorem k_walks {bk : Wk} {m mw mi lo1 hh : Nat} {tk : Int32} (hb : bkA r p hi n nm nk A mA T pl bk m) (hw : wB T nm mw 999 0 6 (Tm T mi) lo1 hh) (hhn : hh ≤ n) (hmi : mi < nm) (hm : B.1 11 - B.1 9 ≤ m) (h : WK r p hi n nm nk A mA T pl kk 999 0 tk B G) (hf : Gfr G 1056 (r + 18 + 4 * kk) = some (mA mi)) (hD : dq kk 6 + 1 ≤ D) (hQ : ∀ z G', oMw r kk nm mA pl G (bk (Tm T mi) tk B) z G' → Q z G') : XC xms D 69 [.ref p, .ref r, .ref (r + 18 + 4 * kk)] G Q := by
  have h0 := h
  obtain ⟨hr, hu, hI, hkb, h10, ht⟩ := h
  have hib := hI.1
  have hk12 : kk < 12 := by omega
  obtain ⟨q1, q2, q3, q4, q5, q6, q7, q8, q9, q10, q11⟩ := hu.1.1.2 _ hk12
  obtain ⟨-, m2, -, -, -, m6⟩ := hr.2.2.2.2.2.1 mi hmi
  obtain ⟨bb, ebb, hbb⟩ := m6.o
  have ebb : Gfr G 1117 (mA mi) = some bb := ebb
  obtain ⟨d, rfl⟩ : ∃ d, D = d + 1 := ⟨D - 1, by omega⟩
  have t9 : ∀ kd, hX3_walks 9 kd = some 41 := fun _ => rfl
  have t55 : ∀ kd, hX3_walks 55 kd = none := fun _ => rfl
  rw [XC_s]
  simp (disch := first | omega | exact cI _ | exact cR _ | exact cK | exact cU | exact cO _ | exact cL _) only [oS, uS.2, Nat.reduceAdd, Nat.reduceSub, Nat.reduceMul, Nat.reduceLeDiff, Nat.reduceEqDiff, Nat.add_sub_cancel, xS, gS, nL, nS, dS, fX3_walks_0, mX3_walks, zX3_walks, q2, hf, m2, ebb]
  refine hb.go hw hm hhn (by omega) h0 (Nat.zero_le _) hbb (by omega) (fun z G2 o wk kp2 => ?_)
  have kt := o.1
  obtain ⟨qq, hq⟩ : ∃ qq, bk (Tm T mi) tk B = qq := ⟨_, rfl⟩
  rw [hq] at hQ o wk kp2
  have key : ∀ G3, (∃ v, G3 = Sfi G2 17 r v) → YE r G G3 ∧ (∀ j, j < kk → ∀ y, Gai G3 (r + 21 + 4 * j) y = Gai G (r + 21 + 4 * j) y) ∧ (∀ j, j < kk → Gfi G3 34 (r + 18 + 4 * j) = Gfi G 34 (r + 18 + 4 * j)) := by
    rintro G3 ⟨v, rfl⟩
    exact ⟨kt.1.trans (YZ.fi (P := rgn r) ⟨by omega, by omega⟩).ye, kt.2.1, fun j hj => (Sfi_o (by decide)).trans (kt.2.2.2 j hj)⟩
  have q2' : Gkd G2 (r + 18 + 4 * kk) = 9 := by rw [kt.1.2.2.2.1]; exact q2
  have okN : qq.1 < 4 → ∀ G3, (∃ v, G3 = Sfi G2 17 r v) → RU G3 r mA nm pl (b1 qq.2.2 10 kk) → Q (.inl (some (.int (if qq.1 = 1 then qq.2.1 else 0)))) G3 := fun c G3 hv ru => by
    obtain ⟨a1, a2, a3⟩ := key G3 hv
    have e10 : qq.2.2.1 10 = kk + 1 := (kp2.2.2.2 (by omega)).trans h10
    exact hQ _ _ ⟨a1, a2, a3, .inr (.inr ⟨c, rfl, by rw [bExit_e e10]; exact ru⟩)⟩
  have ex : qq.1 ≠ 5 → qq.2.2.1 10 = kk + 1 := fun c => (kp2.2.2.2 c).trans h10
  rcases o.2 with ⟨q0, rfl, ru⟩ | ⟨q0, rfl, g34, ru⟩ | ⟨q0, ⟨j, ej, j1, j2, rfl⟩, ru⟩ | ⟨q0, ⟨j, ej, j1, j2, rfl⟩, ru⟩ | ⟨q0, rfl, g33, ru⟩ | ⟨q0, rfl, ru⟩
  · have l2 := ru.1.1.1
    unfold RL0 at l2
    have e17 : Gfi G2 17 r = nI (kk + 1) := by rw [ru.1.2.1.2.2.2.2.2.2.2.1, ex (by omega)]
    have fin := okN (by omega) (Sfi G2 17 r (nI kk)) ⟨_, rfl⟩ (ru.dec (ex (by omega)))
    rw [if_neg (by omega), nL.1] at fin
    simp (disch := first | omega | exact cI _ | exact cR _ | exact cK | exact cU | exact cO _ | exact cL _) only [oS, uS.2, Nat.reduceAdd, Nat.reduceSub, Nat.reduceMul, Nat.reduceLeDiff, Nat.reduceEqDiff, Nat.add_sub_cancel, xS, gS, nL, nS, dS, fX3_walks_25, fX3_walks_26, mX3_walks, zX3_walks, l2, e17, fin]
  · have l2 := ru.1.1.1
    unfold RL0 at l2
    have e17 : Gfi G2 17 r = nI (kk + 1) := by rw [ru.1.2.1.2.2.2.2.2.2.2.1, ex (by omega)]
    have fin := okN (by omega) (Sfi G2 17 r (nI kk)) ⟨_, rfl⟩ (ru.dec (ex (by omega)))
    rw [if_pos q0] at fin
    simp (disch := first | omega | exact cI _ | exact cR _ | exact cK | exact cU | exact cO _ | exact cL _) only [oS, uS.2, Nat.reduceAdd, Nat.reduceSub, Nat.reduceMul, Nat.reduceLeDiff, Nat.reduceEqDiff, Nat.add_sub_cancel, xS, gS, nL, nS, dS, fX3_walks_25, fX3_walks_26, mX3_walks, zX3_walks, l2, e17, q2', g34, fin]
  · have l2 := ru.1.1.1
    unfold RL0 at l2
    have e17 : Gfi G2 17 r = nI (kk + 1) := by rw [ru.1.2.1.2.2.2.2.2.2.2.1, ex (by omega)]
    have fin := okN (by omega) (Sfi G2 17 r (nI kk)) ⟨_, rfl⟩ (ru.dec (ex (by omega)))
    rw [if_neg (by omega), nL.1] at fin
    simp (disch := first | omega | exact cI _ | exact cR _ | exact cK | exact cU | exact cO _ | exact cL _) only [oS, uS.2, Nat.reduceAdd, Nat.reduceSub, Nat.reduceMul, Nat.reduceLeDiff, Nat.reduceEqDiff, Nat.add_sub_cancel, xS, gS, nL, nS, dS, fX3_walks_25, fX3_walks_26, mX3_walks, zX3_walks, l2, e17, fin]
  · have l2 := ru.1.1.1
    unfold RL0 at l2
    have e17 : Gfi G2 17 r = nI (kk + 1) := by rw [ru.1.2.1.2.2.2.2.2.2.2.1, ex (by omega)]
    have fin := okN (by omega) (Sfi G2 17 r (nI kk)) ⟨_, rfl⟩ (ru.dec (ex (by omega)))
    rw [if_neg (by omega), nL.1] at fin
    simp (disch := first | omega | exact cI _ | exact cR _ | exact cK | exact cU | exact cO _ | exact cL _) only [oS, uS.2, Nat.reduceAdd, Nat.reduceSub, Nat.reduceMul, Nat.reduceLeDiff, Nat.reduceEqDiff, Nat.add_sub_cancel, xS, gS, nL, nS, dS, fX3_walks_25, fX3_walks_26, mX3_walks, zX3_walks, l2, e17, fin]
  · have l2 := ru.1.1.1
    unfold RL0 at l2
    have e10 := ex (by omega)
    have e17 : Gfi G2 17 r = nI (kk + 1) := by rw [ru.1.2.1.2.2.2.2.2.2.2.1, e10]
    obtain ⟨a1, a2, a3⟩ := key (Sfi G2 17 r (nI kk)) ⟨_, rfl⟩
    have fin := hQ (.inr (r + 16)) (Sfi G2 17 r (nI kk)) ⟨a1, a2, a3, .inr (.inl ⟨q0, rfl, (Sfi_o (by decide)).trans g33, by rw [bExit_e e10]; exact ru.dec e10⟩)⟩
    simp (disch := first | omega | exact cI _ | exact cR _ | exact cK | exact cU | exact cO _ | exact cL _) only [oS, uS.2, Nat.reduceAdd, Nat.reduceSub, Nat.reduceMul, Nat.reduceLeDiff, Nat.reduceEqDiff, Nat.add_sub_cancel, xS, gS, nL, nS, dS, fX3_walks_41, mX3_walks, zX3_walks, l2, e17, t9, t55, XHt_s, XHt_n, fin]
  · have l2 := ru.1.1.1
    unfold RL0 at l2
    have e17 : Gfi G2 17 r = nI (kk + 1) := ru.1.2.1.2.2.2.2.2.2.2.1
    obtain ⟨a1, a2, a3⟩ := key (Sfi G2 17 r (nI kk)) ⟨_, rfl⟩
    have ru2 := ru.dec (k := kk) rfl
    rw [b1_b1] at ru2
    have fin := hQ (.inr (r + 17)) (Sfi G2 17 r (nI kk)) ⟨a1, a2, a3, .inl ⟨q0, rfl, ru2⟩⟩
    simp (disch := first | omega | exact cI _ | exact cR _ | exact cK | exact cU | exact cO _ | exact cL _) only [oS, uS.2, Nat.reduceAdd, Nat.reduceSub, Nat.reduceMul, Nat.reduceLeDiff, Nat.reduceEqDiff, Nat.add_sub_cancel, xS, gS, nL, nS, dS, fX3_walks_41, mX3_walks, zX3_walks, l2, e17, t9, t55, XHt_s, XHt_n, fin]
/-- call: the walk -/
theorem w_call {bk : Wk} {m mw tg lp dp s e : Nat} {tk : Int32} (hb : bkA r p hi n nm nk A mA T pl bk m) (hP : PGW T n nm nk pl) (hw : wS T nm (wB T nm mw) tg lp dp s e) (hs : s < n) (hk : Tk T s = 2 ∨ Tk T s = 7) (hm : B.1 11 - B.1 9 ≤ m) (he : e ≤ n) (h : WK r p hi n nm nk A mA T pl kk tg s tk B G) (hI : Iv 1 1 1 1 1 B) (hD : dq kk dp ≤ D + 1) (hQ : ∀ z G', oW r kk s e nm mA pl G (stm T pl bk s tk B) z G' → Q z G') : XC xms D 219 [.ref (A s), .ref r, .ref (r + 18 + 4 * kk)] G Q := by
  have h0 := h
  obtain ⟨hr, hu, -, hkb, h10, ht⟩ := h
  have hib := hI.1
  have hk12 : kk < 12 := by omega
  have hB := hI.bv h10
  have hE := hP.2.2.2.2.2.2.1 s hs
  obtain ⟨wp, -⟩ := hw
  obtain ⟨mi, em, hmi⟩ := wp.2.2.2.2.2.2.2.2.1 hk
  have hnm := hP.2.1
  obtain ⟨mw2, lo2, hh2, w2, hhn⟩ := hP.1 mi hmi
  have ks : Gkd G (A s) = 19 ∧ Gfi G 84 (A s) = Tb T s ∧ NR (Tp hi G) (p + 6) 1121 (A s) (T1 T s) ∧ NR (Tp hi G) (p + 6) 1122 (A s) (T2 T s) := by
    rcases hk with hk | hk
    · obtain ⟨-, -, -, k1, -, k3, k4, k5⟩ := hr.sk hs hk
      exact ⟨k1, k3, k4, k5⟩
    · obtain ⟨-, -, -, k1, -, k3, k4, k5⟩ := hr.sk hs hk
      exact ⟨k1, k3, k4, k5⟩
  obtain ⟨kz, fz, n1, n2⟩ := ks
  rw [em] at fz
  obtain ⟨b1', hb1, hv1⟩ := hr.val hu hB n1 (wp.2.2.2.2.2.2.1 (by omega))
  obtain ⟨b2', hb2, hv2⟩ := hr.val hu hB n2 (wp.2.2.2.2.2.2.2.1 (by omega))
  have hPR := hr.2.2.2.1
  unfold PR at hPR
  have p1 : Gkd G p = 4 := hPR.1
  have p2 : Gfr G 1020 p = some (p + 1) := hPR.2.1
  have p3 : Gkd G (p + 1) = 106 ∧ Gln G (p + 1) = 8 := ⟨hPR.2.2.1, hPR.2.2.2.1⟩
  have l0 := hu.1.1.1
  unfold RL0 at l0
  have hrp := hr.2.2.1
  have eq : stm T pl bk s tk B = if (evE B (T1 T s)).1 ≠ 0 then sFail (evE B (T1 T s)).1 B else if (evE B (T2 T s)).1 ≠ 0 then sFail (evE B (T2 T s)).1 B else sCall T bk s tk (evE B (T1 T s)).2 (evE B (T2 T s)).2 B := stm_2 hk
  rw [eq] at hQ
  unfold dq at hD
  obtain ⟨d, rfl⟩ : ∃ d, D = d + 1 := ⟨D - 1, by omega⟩
  rw [XC_s]
  simp (disch := first | omega | exact cI _ | exact cR _ | exact cK | exact cU | exact cO _ | exact cL _) only [oS, uS.2, Nat.reduceAdd, Nat.reduceSub, Nat.reduceMul, Nat.reduceLeDiff, Nat.reduceEqDiff, Nat.add_sub_cancel, xS, gS, nL, nS, dS, fX18_walk_0, mX18_walk, zX18_walk, kz]
  refine p_enters hu hB kz hb1 hb2 fz hmi hrp p1 p2 p3 (hr.2.2.2.2.2.1 mi hmi).1 hv1 hv2 (by omega) (fun q G3 a1 a2 a3 => ?_) (fun q q2 G3 a1 a2 a3 => ?_) (fun q q2 q3 G3 a1 a2 a3 => ?_) (fun q q2 q3 G3 a1 a2 a3 a4 a5 a6 a7 => ?_)
  · rw [if_pos q] at hQ
    have l3 := a1.1.1.1
    unfold RL0 at l3
    have fin := hQ _ _ (oW.fail a1 a2 a3 hk12)
    simp (disch := first | omega | exact cI _ | exact cR _ | exact cK | exact cU | exact cO _ | exact cL _) only [oS, uS.2, Nat.reduceAdd, Nat.reduceSub, Nat.reduceMul, Nat.reduceLeDiff, Nat.reduceEqDiff, Nat.add_sub_cancel, xS, gS, nL, nS, dS, mX18_walk, zX18_walk, l3, fin]
  · rw [if_neg (fun z => z q), if_pos q2] at hQ
    have l3 := a1.1.1.1
    unfold RL0 at l3
    have fin := hQ _ _ (oW.fail a1 a2 a3 hk12)
    simp (disch := first | omega | exact cI _ | exact cR _ | exact cK | exact cU | exact cO _ | exact cL _) only [oS, uS.2, Nat.reduceAdd, Nat.reduceSub, Nat.reduceMul, Nat.reduceLeDiff, Nat.reduceEqDiff, Nat.add_sub_cancel, xS, gS, nL, nS, dS, mX18_walk, zX18_walk, l3, fin]
  · rw [if_neg (fun z => z q), if_neg (fun z => z q2)] at hQ
    have es : sCall T bk s tk (evE B (T1 T s)).2 (evE B (T2 T s)).2 B = sFail 6 B := if_pos q3
    rw [es] at hQ
    have l3 := a1.1.1.1
    unfold RL0 at l3
    have fin := hQ _ _ (oW.fail a1 a2 a3 hk12)
    simp (disch := first | omega | exact cI _ | exact cR _ | exact cK | exact cU | exact cO _ | exact cL _) only [oS, uS.2, Nat.reduceAdd, Nat.reduceSub, Nat.reduceMul, Nat.reduceLeDiff, Nat.reduceEqDiff, Nat.add_sub_cancel, xS, gS, nL, nS, dS, mX18_walk, zX18_walk, l3, fin]
  · rw [if_neg (fun z => z q), if_neg (fun z => z q2)] at hQ
    have hk11 : kk + 1 < 12 := by omega
    generalize (evE B (T1 T s)).2 = x at hQ a1
    generalize (evE B (T2 T s)).2 = y at hQ a1
    obtain ⟨w, hwq⟩ : ∃ w, bk (Tm T mi) tk (bEnter mi x y B) = w := ⟨_, rfl⟩
    have es : sCall T bk s tk x y B = if w.1 = 5 then w else if w.1 = 4 then (4, w.2.1, bExit w.2.2) else (0, 0, if Tk T s = 2 then b2 (bExit w.2.2) (oVar (bExit w.2.2)) (Ta T s).toNatClampNeg (if w.1 = 1 then w.2.1 else 0) else bExit w.2.2) := by
      unfold sCall
      rw [if_neg (show ¬ B.1 10 = 12 by omega), em, n_clamp (by omega)]
      dsimp only
      rw [hwq]
    rw [es] at hQ
    clear es
    rw [h10] at a4 a5 a6 a7
    have e9 : (bEnter mi x y B).1 9 = B.1 9 := bEn_1 (by decide) (by decide) (by omega)
    have e11 : (bEnter mi x y B).1 11 = B.1 11 := bEn_1 (by decide) (by decide) (by omega)
    have wk3 : WK r p hi n nm nk A mA T pl (kk + 1) 999 0 tk (bEnter mi x y B) G3 := ⟨hr.ye a2, a1, hI.z.ent (by omega), hkb.ent, by show B.1 10 + 1 = _; omega, fun h9 => absurd rfl h9⟩
    have r3 := hr.ye a2
    have kz3 : Gkd G3 (A s) = 19 := by rw [a2.2.2.2.1]; exact kz
    have p13 : Gkd G3 p = 4 := by rw [a2.2.2.2.1]; exact p1
    have rp3 : Gfr G3 1029 r = some p := r3.2.2.1
    have l3 := a1.1.1.1
    unfold RL0 at l3
    have ho := hr.sk hs rfl
    have nsr : ¬ rgn r (A s) := hr.out (by omega) ho.2.2.1
    simp (disch := first | omega | exact cI _ | exact cR _ | exact cK | exact cU | exact cO _ | exact cL _) only [oS, uS.2, Nat.reduceAdd, Nat.reduceSub, Nat.reduceMul, Nat.reduceLeDiff, Nat.reduceEqDiff, Nat.add_sub_cancel, xS, gS, nL, nS, dS, mX18_walk, zX18_walk, l3, h10, rp3, p13]
    refine k_walks hb w2 hhn hmi (by omega) wk3 (by rw [h10] at *; exact a7) (by unfold dq; omega) (fun z G4 o => ?_)
    rw [hwq] at o
    obtain ⟨o1, o2, o3, o4⟩ := o
    have ye : YE r G G4 := a2.trans o1
    have kt : ∀ G5, (G5 = G4 ∨ ∃ i v, G5 = Sai G4 (r + 19 + 4 * kk) i v) → KT r kk s e G G5 := by
      intro G5 h5
      have h4 : KT r kk s e G G4 := ⟨ye, fun j hj y => (o2 j (by omega) y).trans (a3 j y), fun y _ => (o2 kk (by omega) y).trans (a3 kk y), fun j hj => (o3 j (by omega)).trans (a4 _ 34 (by omega) (by decide))⟩
      rcases h5 with rfl | ⟨i, v, rfl⟩
      · exact h4
      · refine h4.trans ⟨(YZ.ai (P := rgn r) ⟨by omega, by omega⟩).ye, fun j hj y => Sai_o (.inl (by omega)), fun y _ => Sai_o (.inl (by omega)), fun j hj => rfl⟩
    rcases o4 with ⟨c5, rfl, ru⟩ | ⟨c4, rfl, g33, ru⟩ | ⟨c3, rfl, ru⟩
    · rw [if_pos c5] at hQ
      have fin := hQ (.inr (r + 17)) G4 ⟨kt G4 (.inl rfl), .inr (.inr (.inr (.inr (.inr ⟨c5, rfl, ru⟩))))⟩
      simp (disch := first | omega | exact cI _ | exact cR _ | exact cK | exact cU | exact cO _ | exact cL _) only [oS, uS.2, Nat.reduceAdd, Nat.reduceSub, Nat.reduceMul, Nat.reduceLeDiff, Nat.reduceEqDiff, Nat.add_sub_cancel, xS, gS, nL, nS, dS, mX18_walk, zX18_walk, fin]
    · rw [if_neg (by omega), if_pos c4] at hQ
      have fin := hQ (.inr (r + 16)) G4 ⟨kt G4 (.inl rfl), .inr (.inr (.inr (.inr (.inl ⟨rfl, rfl, g33, ru⟩))))⟩
      simp (disch := first | omega | exact cI _ | exact cR _ | exact cK | exact cU | exact cO _ | exact cL _) only [oS, uS.2, Nat.reduceAdd, Nat.reduceSub, Nat.reduceMul, Nat.reduceLeDiff, Nat.reduceEqDiff, Nat.add_sub_cancel, xS, gS, nL, nS, dS, mX18_walk, zX18_walk, fin]
    · rw [if_neg (by omega), if_neg (by omega)] at hQ
      have kz4 : Gkd G4 (A s) = 19 := by rw [ye.2.2.2.1]; exact kz
      have fo4 : Gfi G4 83 (A s) = Gfi G 83 (A s) := ye.2.2.2.2.2.2.2.2.1 83 _ nsr
      obtain ⟨u1, u2, u3, u4, u5, u6, u7, u8, u9, u10, u11⟩ := ru.1.1.2 _ hk12
      rcases hk with hk | hk
      · rw [if_pos hk] at hQ
        obtain ⟨-, -, -, -, k2, -⟩ := hr.sk hs hk
        obtain ⟨j, ej, hj⟩ := wp.2.2.1 (.inr hk)
        have k2 : Gfi G 83 (A s) = nI j := Eq.trans k2 ej
        rw [k2] at fo4
        have eb : bk (Tm T mi) tk (bEnter mi x y B) = w := hwq
        have kpw := hb.2.2.1 (Tm T mi) tk (bEnter mi x y B) (by omega) (by rw [e9, e11]; exact hI.le)
        rw [hwq] at kpw
        have e10 : (bExit w.2.2).1 10 = kk + 1 := by
          show w.2.2.1 10 - 1 = _
          have : w.2.2.1 10 = B.1 10 + 1 := kpw.2.2.2 (by omega)
          omega
        have ev : oVar (bExit w.2.2) = 19 + 4 * kk := by unfold oVar; omega
        rw [ev, ej, n_clamp (by omega)] at hQ
        generalize (if w.1 = 1 then w.2.1 else 0 : Int32) = vv at hQ ⊢
        have fin := hQ (.inl (some (.int (nI 0)))) (Sai G4 (r + 19 + 4 * kk) j vv) ⟨kt _ (.inr ⟨_, _, rfl⟩), .inl ⟨rfl, rfl, by
          have := ru.aw (o := 19 + 4 * kk) (i := j) (v := vv) (by omega)
          rw [show r + (19 + 4 * kk) = r + 19 + 4 * kk from by omega] at this
          exact this⟩⟩
        simp (disch := first | omega | exact cI _ | exact cR _ | exact cK | exact cU | exact cO _ | exact cL _) only [oS, uS.2, Nat.reduceAdd, Nat.reduceSub, Nat.reduceMul, Nat.reduceLeDiff, Nat.reduceEqDiff, Nat.add_sub_cancel, xS, gS, nL, nS, dS, fX18_walk_38, mX18_walk, zX18_walk, kz4, fo4, u2, u3, u6, u7, hj, fin]
      · rw [if_neg (by omega)] at hQ
        obtain ⟨-, -, -, -, k2, -⟩ := hr.sk hs hk
        have k2 : Gfi G 83 (A s) = NN := k2
        rw [k2] at fo4
        have fin := hQ (.inl (some (.int (nI 0)))) G4 ⟨kt _ (.inl rfl), .inl ⟨rfl, rfl, ru⟩⟩
        simp (disch := first | omega | exact cI _ | exact cR _ | exact cK | exact cU | exact cO _ | exact cL _) only [oS, uS.2, Nat.reduceAdd, Nat.reduceSub, Nat.reduceMul, Nat.reduceLeDiff, Nat.reduceEqDiff, Nat.add_sub_cancel, xS, gS, nL, nS, dS, fX18_walk_38, mX18_walk, zX18_walk, kz4, fo4, fin]
end RUN
