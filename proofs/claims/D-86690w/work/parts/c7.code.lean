set_option maxRecDepth 100000
section CODEX
variable {D d r k lo hi p n nm nk a b : Nat} {A mA : Nat → Nat} {T : Pg} {C : Cd} {lw oa ta : Nat} {F F' : Nat → Cf} {pl : Nat → Int32 → Int32} {B B' : Bk} {G G' G2 : XG} {Q : (Option Value ⊕ Nat) → XG → Prop}
/-- what a go comes to -/
def oC (r nm : Nat) (mA : Nat → Nat) (pl : Nat → Int32 → Int32) (G : XG) (y : Cs) (z : Option Value ⊕ Nat) (G' : XG) : Prop := (y.1 = 0 ∧ z = .inl none ∧ YE r G G' ∧ RU G' r mA nm pl y.2.2.2 ∧ CF r y.2.2.1 (y.2.2.2.1 10) G') ∨ (y.1 = 4 ∧ z = .inr (r + 16) ∧ 1 ≤ y.2.2.2.1 10 ∧ YE r G G' ∧ Gfi G' 33 (r + 16) = y.2.1 ∧ RU G' r mA nm pl y.2.2.2 ∧ CF r y.2.2.1 (y.2.2.2.1 10) G') ∨ (y.1 = 5 ∧ z = .inr (r + 17) ∧ YE r G G' ∧ RU G' r mA nm pl y.2.2.2) ∨ (y.1 = 1 ∧ z = .inl none ∧ YR r G G' ∧ Gfi G' 28 r = nI 0 ∧ Gfi G' 29 r = y.2.1 ∧ Gfi G' 30 r = Gfi G 30 r ∧ RU G' r mA nm pl y.2.2.2)
theorem oC.on {v : Int32} (e10 : B'.1 10 = k + 1) (ye : YE r G G') (ru : RU G' r mA nm pl B') (cf : CF r F' (k + 1) G') : oC r nm mA pl G (0, v, F', B') (.inl none) G' := .inl ⟨rfl, rfl, ye, ru, by show CF r F' (B'.1 10) G'; rw [e10]; exact cf⟩
theorem oC.fl {v : Int32} (e10 : B'.1 10 = k + 1) (ye : YE r G G') (g33 : Gfi G' 33 (r + 16) = v) (ru : RU G' r mA nm pl B') (cf : CF r F' (k + 1) G') : oC r nm mA pl G (4, v, F', B') (.inr (r + 16)) G' := .inr (.inl ⟨rfl, rfl, (by show 1 ≤ B'.1 10; omega), ye, g33, ru, by show CF r F' (B'.1 10) G'; rw [e10]; exact cf⟩)
theorem oC.sp {v : Int32} (ye : YE r G G') (ru : RU G' r mA nm pl B') : oC r nm mA pl G (5, v, F', B') (.inr (r + 17)) G' := .inr (.inr (.inl ⟨rfl, rfl, ye, ru⟩))
theorem oC.cf {kd : Int32} (h10 : B.1 10 = k + 1) (ru : RU G' r mA nm pl (bMakes kd NN B)) (g33 : Gfi G' 33 (r + 16) = nI (B.1 4)) (y : YZ (rgb r) G G') (hf : CF r F (k + 1) G) : oC r nm mA pl G (cFl kd F B) (.inr (r + 16)) G' := oC.fl (bMakes_c.2.1.trans h10) y.big.ye g33 ru (hf.yv (y.yv (kk := k)))
theorem YV.ye (h : YV r k G G') (hk : k < 12) : YE r G G' := (h.kt (lo := 0) (hi := 0) hk).1
/-- a statement of a program, as the code finds it -/
theorem RP.st {s : Nat} (h : RP r p hi n nm nk A mA T G) (hs : s < n) (hn : n ≤ 80) : Gkd G p = 4 ∧ Gfr G 1022 p = some (p + 3) ∧ Gkd G (p + 3) = 104 ∧ Gln G (p + 3) = 80 ∧ Gar G (p + 3) s = some (A s) ∧ s < 80 ∧ s < 2147483648 := by
  have hPR := h.2.2.2.1
  unfold PR at hPR
  obtain ⟨q1, -, -, -, -, -, -, q2, q3, q4, -⟩ := hPR
  exact ⟨q1, q2, q3, q4, (h.so hs).1, by omega, by omega⟩
theorem cx_0 (hr : RP r p hi n nm nk A mA T G) (hu : RU G r mA nm pl B) (hf : CF r F (k + 1) G) (h10 : B.1 10 = k + 1) (hk12 : k < 12) (hI : Iv 0 0 0 0 0 B) (hD : 285 ≤ D) (hQ : ∀ z G', oC r nm mA pl G (cOp T pl C k (0, a, b) F B) z G' → Q z G') : XC xms D 73 [.ref p, .ref r, .ref (r + 18 + 4 * k), .int (nI 0), .int (nI a), .int (nI b)] G Q := by
  obtain ⟨d, rfl⟩ : ∃ d, D = d + 1 + 1 := ⟨D - 2, by omega⟩
  have l0 := hu.1.1.1
  unfold RL0 at l0
  obtain ⟨u1, u2, u3, u4, u5, u6, u7, u8, u9, u10, u11⟩ := hu.1.1.2 _ hk12
  have tt : ((0 : Int) < 0 ∨ 0 + ((23 : Nat) : Int) ≤ 0) = False := eq_false (by decide)
  have uu : ([108, 121, 139, 159, 177, 211, 220, 245, 298, 333, 333, 333, 333, 333, 333, 333, 333, 333, 333, 333, 333, 325, 316] : List Nat)[((0 : Int) - 0).toNat]? = some 108 := rfl
  have nn : (nI 0).toInt = 0 := rfl
  have e : cOp T pl C k (0, a, b) F B = if isSpent B = true then (5, 0, F, B) else (0, 0, F, b2 (bStp B) (oAt B) 0 (nI a)) := rfl
  rw [e] at hQ
  rw [XC_s]
  simp (disch := first | omega | exact cI _ | exact cR _ | exact cK | exact cU | exact cO _ | exact cL _) only [oS, uS.2, Nat.reduceAdd, Nat.reduceSub, Nat.reduceMul, Nat.reduceLeDiff, Nat.reduceEqDiff, Nat.add_sub_cancel, xS, gS, nL, nS, dS, fX3_does_0, fX3_does_108, mX3_does, zX3_does, l0, nn, tt, uu]
  refine k_step (D := d + 1) hu hI.cb (by omega) (fun sp => ?_) (fun G1 h1 y1 ns => ?_)
  · rw [if_pos sp] at hQ
    have fi := hQ _ _ (oC.sp YE.refl hu)
    simp (disch := first | omega | exact cI _ | exact cR _ | exact cK | exact cU | exact cO _ | exact cL _) only [oS, uS.2, Nat.reduceAdd, Nat.reduceSub, Nat.reduceMul, Nat.reduceLeDiff, Nat.reduceEqDiff, Nat.add_sub_cancel, xS, gS, nL, nS, dS, mX3_does, zX3_does, fi]
  · rw [if_neg (by rw [ns]; decide), show oAt B = 18 + 4 * k from by unfold oAt; omega] at hQ
    have u21 : Gkd G1 (r + 18 + 4 * k) = 9 := by rw [y1.2.2.2.1]; exact u2
    have fi := hQ (.inl none) (Sfi G1 35 (r + 18 + 4 * k) (nI a)) (oC.on (k := k) h10 (y1.big.ye.trans (YZ.fi (P := rgn r) ⟨by omega, by omega⟩).ye) (h1.at hk12) ((hf.yv (y1.yv (kk := k))).fi (by decide)))
    simp (disch := first | omega | exact cI _ | exact cR _ | exact cK | exact cU | exact cO _ | exact cL _) only [oS, uS.2, Nat.reduceAdd, Nat.reduceSub, Nat.reduceMul, Nat.reduceLeDiff, Nat.reduceEqDiff, Nat.add_sub_cancel, xS, gS, nL, nS, dS, fX3_does_344, mX3_does, zX3_does, u21, fi]
theorem cx_1 (hr : RP r p hi n nm nk A mA T G) (hu : RU G r mA nm pl B) (hf : CF r F (k + 1) G) (h10 : B.1 10 = k + 1) (hk12 : k < 12) (hn : n ≤ 80) (ha : a < n) (hp : isPl (Tk T a)) (hw : wP T nm a) (hI : Iv 1 1 1 1 1 B) (hE : (T1 T a).length + (T2 T a).length ≤ 250) (hD : 285 ≤ D) (hQ : ∀ z G', oC r nm mA pl G (cOp T pl C k (1, a, b) F B) z G' → Q z G') : XC xms D 73 [.ref p, .ref r, .ref (r + 18 + 4 * k), .int (nI 1), .int (nI a), .int (nI b)] G Q := by
  obtain ⟨d, rfl⟩ : ∃ d, D = d + 1 + 1 := ⟨D - 2, by omega⟩
  have l0 := hu.1.1.1
  unfold RL0 at l0
  obtain ⟨u1, u2, u3, u4, u5, u6, u7, u8, u9, u10, u11⟩ := hu.1.1.2 _ hk12
  have tt : ((1 : Int) < 0 ∨ 0 + ((23 : Nat) : Int) ≤ 1) = False := eq_false (by decide)
  have uu : ([108, 121, 139, 159, 177, 211, 220, 245, 298, 333, 333, 333, 333, 333, 333, 333, 333, 333, 333, 333, 333, 325, 316] : List Nat)[((1 : Int) - 0).toNat]? = some 121 := rfl
  have nn : (nI 1).toInt = 1 := rfl
  obtain ⟨s1, s2, s3, s4, s5, s6, s7⟩ := hr.st ha hn
  obtain ⟨m, hx, hkd, hst⟩ := st_pl (bk := fun _ _ B => (0, 0, B)) (tk := NN) hr hu hI h10 ha hn hp hw hE
  have e : cOp T pl C k (1, a, b) F B = cRs F (stm T pl (fun _ _ B => (0, 0, B)) a NN B) := rfl
  have h04 := stm_04 (T := T) (pl := pl) (bk := fun _ _ B => (0, 0, B)) (s := a) (tk := NN) (B := B) hp
  have hkp := @stm_kp T pl (fun _ _ B => (0, 0, B)) (B.1 11 - B.1 9) a NN B (fun _ _ _ _ h => kp.of h rfl rfl rfl) (Nat.le_refl _) hI.le
  rw [e] at hQ
  rw [XC_s]
  simp (disch := first | omega | exact cI _ | exact cR _ | exact cK | exact cU | exact cO _ | exact cL _) only [oS, uS.2, Nat.reduceAdd, Nat.reduceSub, Nat.reduceMul, Nat.reduceLeDiff, Nat.reduceEqDiff, Nat.add_sub_cancel, xS, gS, nL, nS, dS, fX3_does_0, fX3_does_121, mX3_does, zX3_does, xrfk_s, nn, tt, uu, s1, s2, s3, s4, s5, s6, s7, hx]
  refine ⟨hkd, hst (d + 1) _ (by omega) (fun z G1 o => ?_)⟩
  generalize stm T pl (fun _ _ B => (0, 0, B)) a NN B = q at *
  obtain ⟨q1, qv, qB⟩ := q
  obtain ⟨o1, o2, o3⟩ := o
  have e10 : qB.1 10 = k + 1 := (hkp.2.2.2 (by rcases h04 with h | h <;> omega)).trans h10
  rcases o3 with ⟨c0, rfl⟩ | ⟨c4, rfl, g33⟩
  · have c0 : q1 = 0 := c0
    subst c0
    have fi := hQ (.inl none) G1 (oC.on e10 (o1.ye hk12) o2 (hf.yv o1))
    simp (disch := first | omega | exact cI _ | exact cR _ | exact cK | exact cU | exact cO _ | exact cL _) only [oS, uS.2, Nat.reduceAdd, Nat.reduceSub, Nat.reduceMul, Nat.reduceLeDiff, Nat.reduceEqDiff, Nat.add_sub_cancel, xS, gS, nL, nS, dS, fX3_does_344, mX3_does, zX3_does, fi]
  · have c4 : q1 = 4 := c4
    subst c4
    have l3 := o2.1.1.1
    unfold RL0 at l3
    have fi := hQ (.inr (r + 16)) G1 (oC.fl e10 (o1.ye hk12) g33 o2 (hf.yv o1))
    simp (disch := first | omega | exact cI _ | exact cR _ | exact cK | exact cU | exact cO _ | exact cL _) only [oS, uS.2, Nat.reduceAdd, Nat.reduceSub, Nat.reduceMul, Nat.reduceLeDiff, Nat.reduceEqDiff, Nat.add_sub_cancel, xS, gS, nL, nS, dS, mX3_does, zX3_does, l3, fi]
theorem cx_2 (hr : RP r p hi n nm nk A mA T G) (hu : RU G r mA nm pl B) (hf : CF r F (k + 1) G) (h10 : B.1 10 = k + 1) (hk12 : k < 12) (hc : CR G r p nm mA C lw oa ta) (hk : Tk T a = 2 ∨ Tk T a = 7) (hn : n ≤ 80) (ha : a < n) (hw : wP T nm a) (hI : Iv 1 1 1 1 1 B) (hE : (T1 T a).length + (T2 T a).length ≤ 250) (hD : 285 ≤ D) (hQ : ∀ z G', oC r nm mA pl G (cOp T pl C k (2, a, b) F B) z G' → Q z G') : XC xms D 73 [.ref p, .ref r, .ref (r + 18 + 4 * k), .int (nI 2), .int (nI a), .int (nI b)] G Q := by
  obtain ⟨d, rfl⟩ : ∃ d, D = d + 1 + 1 := ⟨D - 2, by omega⟩
  have l0 := hu.1.1.1
  unfold RL0 at l0
  obtain ⟨u1, u2, u3, u4, u5, u6, u7, u8, u9, u10, u11⟩ := hu.1.1.2 _ hk12
  have tt : ((2 : Int) < 0 ∨ 0 + ((23 : Nat) : Int) ≤ 2) = False := eq_false (by decide)
  have uu : ([108, 121, 139, 159, 177, 211, 220, 245, 298, 333, 333, 333, 333, 333, 333, 333, 333, 333, 333, 333, 333, 325, 316] : List Nat)[((2 : Int) - 0).toNat]? = some 139 := rfl
  have nn : (nI 2).toInt = 2 := rfl
  obtain ⟨s1, s2, s3, s4, s5, s6, s7⟩ := hr.st ha hn
  have hB := hI.bv h10
  have ks : Gkd G (A a) = 19 ∧ Gfi G 84 (A a) = Tb T a ∧ NR (Tp hi G) (p + 6) 1121 (A a) (T1 T a) ∧ NR (Tp hi G) (p + 6) 1122 (A a) (T2 T a) := by
    rcases hk with hk | hk
    · obtain ⟨-, -, -, k1, -, k3, k4, k5⟩ := hr.sk ha hk
      exact ⟨k1, k3, k4, k5⟩
    · obtain ⟨-, -, -, k1, -, k3, k4, k5⟩ := hr.sk ha hk
      exact ⟨k1, k3, k4, k5⟩
  obtain ⟨kz, fz, n1, n2⟩ := ks
  obtain ⟨mi, em, hmi⟩ := hw.2.2.2.2.2.2.2.2.1 hk
  rw [em] at fz
  obtain ⟨b1', hb1, hv1⟩ := hr.val hu hB n1 (hw.2.2.2.2.2.2.1 (by omega))
  obtain ⟨b2', hb2, hv2⟩ := hr.val hu hB n2 (hw.2.2.2.2.2.2.2.1 (by omega))
  have hPR := hr.2.2.2.1
  unfold PR at hPR
  have p2 : Gfr G 1020 p = some (p + 1) := hPR.2.1
  have p3 : Gkd G (p + 1) = 106 ∧ Gln G (p + 1) = 8 := ⟨hPR.2.2.1, hPR.2.2.2.1⟩
  have hnm := hu.2.2.2.1
  have e : cOp T pl C k (2, a, b) F B = if (evE B (T1 T a)).1 ≠ 0 then cFl (evE B (T1 T a)).1 F B else if (evE B (T2 T a)).1 ≠ 0 then cFl (evE B (T2 T a)).1 F B else if B.1 10 = 12 then cFl 6 F B else (0, 0, (fun j => if j = k + 1 then (C.2.2 mi, 0, (F j).2.2) else F j), bEnter mi (evE B (T1 T a)).2 (evE B (T2 T a)).2 B) := by
    have e0 : cOp T pl C k (2, a, b) F B = if (evE B (T1 T a)).1 ≠ 0 then cFl (evE B (T1 T a)).1 F B else if (evE B (T2 T a)).1 ≠ 0 then cFl (evE B (T2 T a)).1 F B else if B.1 10 = 12 then cFl 6 F B else (0, 0, (fun j => if j = k + 1 then (C.2.2 (Tb T a).toNatClampNeg, 0, (F j).2.2) else F j), bEnter (Tb T a).toNatClampNeg (evE B (T1 T a)).2 (evE B (T2 T a)).2 B) := rfl
    rw [e0, em, n_clamp (by omega)]
  rw [e] at hQ
  rw [XC_s]
  simp (disch := first | omega | exact cI _ | exact cR _ | exact cK | exact cU | exact cO _ | exact cL _) only [oS, uS.2, Nat.reduceAdd, Nat.reduceSub, Nat.reduceMul, Nat.reduceLeDiff, Nat.reduceEqDiff, Nat.add_sub_cancel, xS, gS, nL, nS, dS, fX3_does_0, fX3_does_139, mX3_does, zX3_does, xrfk_s, nn, tt, uu, s1, s2, s3, s4, s5, s6, s7, kz]
  refine p_enters (D := d + 1) hu hB kz hb1 hb2 fz hmi hr.2.2.1 s1 p2 p3 (hr.2.2.2.2.2.1 mi hmi).1 hv1 hv2 (by omega) (fun q G3 a1 a2 a3 => ?_) (fun q q2 G3 a1 a2 a3 => ?_) (fun q q2 q3 G3 a1 a2 a3 => ?_) (fun q q2 q3 G3 a1 a2 a3 a4 a5 a6 a7 => ?_)
  · rw [if_pos q] at hQ
    have l3 := a1.1.1.1
    unfold RL0 at l3
    have fi := hQ _ _ (oC.cf h10 a1 a2 a3 hf)
    simp (disch := first | omega | exact cI _ | exact cR _ | exact cK | exact cU | exact cO _ | exact cL _) only [oS, uS.2, Nat.reduceAdd, Nat.reduceSub, Nat.reduceMul, Nat.reduceLeDiff, Nat.reduceEqDiff, Nat.add_sub_cancel, xS, gS, nL, nS, dS, mX3_does, zX3_does, l3, fi]
  · rw [if_neg (fun z => z q), if_pos q2] at hQ
    have l3 := a1.1.1.1
    unfold RL0 at l3
    have fi := hQ _ _ (oC.cf h10 a1 a2 a3 hf)
    simp (disch := first | omega | exact cI _ | exact cR _ | exact cK | exact cU | exact cO _ | exact cL _) only [oS, uS.2, Nat.reduceAdd, Nat.reduceSub, Nat.reduceMul, Nat.reduceLeDiff, Nat.reduceEqDiff, Nat.add_sub_cancel, xS, gS, nL, nS, dS, mX3_does, zX3_does, l3, fi]
  · rw [if_neg (fun z => z q), if_neg (fun z => z q2), if_pos q3] at hQ
    have l3 := a1.1.1.1
    unfold RL0 at l3
    have fi := hQ _ _ (oC.cf h10 a1 a2 a3 hf)
    simp (disch := first | omega | exact cI _ | exact cR _ | exact cK | exact cU | exact cO _ | exact cL _) only [oS, uS.2, Nat.reduceAdd, Nat.reduceSub, Nat.reduceMul, Nat.reduceLeDiff, Nat.reduceEqDiff, Nat.add_sub_cancel, xS, gS, nL, nS, dS, mX3_does, zX3_does, l3, fi]
  · rw [if_neg (fun z => z q), if_neg (fun z => z q2), if_neg (by omega)] at hQ
    have hk11 : k + 1 < 12 := by omega
    rw [h10] at a4 a5 a6
    have fi := hQ (.inl none) G3 (oC.on (k := k + 1) (by show B.1 10 + 1 = _; omega) a2 a1 ⟨fun j hj i hi' => ?_, fun j hj => ?_⟩)
    · rw [h10]
      simp (disch := first | omega | exact cI _ | exact cR _ | exact cK | exact cU | exact cO _ | exact cL _) only [oS, uS.2, Nat.reduceAdd, Nat.reduceSub, Nat.reduceMul, Nat.reduceLeDiff, Nat.reduceEqDiff, Nat.add_sub_cancel, xS, gS, nL, nS, dS, fX3_does_344, mX3_does, zX3_does, fi]
    · rw [a3]
      by_cases c : j = k + 1
      · show _ = (if j = k + 1 then ((C.2.2 mi, 0, (F j).2.2) : Cf) else F j).2.2 i
        rw [if_pos c]
        exact hf.1 j hj i hi'
      · show _ = (if j = k + 1 then ((C.2.2 mi, 0, (F j).2.2) : Cf) else F j).2.2 i
        rw [if_neg c]
        exact hf.1 j hj i hi'
    · by_cases c : j = k + 1
      · show Gfi G3 36 (r + 18 + 4 * j) = nI (if j = k + 1 then ((C.2.2 mi, 0, (F j).2.2) : Cf) else F j).1 ∧ Gfi G3 34 (r + 18 + 4 * j) = (if j = k + 1 then ((C.2.2 mi, 0, (F j).2.2) : Cf) else F j).2.1
        rw [if_pos c, c]
        exact ⟨a6.trans (hc.2.2.2.2.2.2.2.2.2.2.2.2.1 mi hmi), a5⟩
      · show Gfi G3 36 (r + 18 + 4 * j) = nI (if j = k + 1 then ((C.2.2 mi, 0, (F j).2.2) : Cf) else F j).1 ∧ Gfi G3 34 (r + 18 + 4 * j) = (if j = k + 1 then ((C.2.2 mi, 0, (F j).2.2) : Cf) else F j).2.1
        rw [if_neg c, a4 _ 36 (by omega) (by decide), a4 _ 34 (by omega) (by decide)]
        exact hf.2 j (by omega)
theorem cx_3 (hr : RP r p hi n nm nk A mA T G) (hu : RU G r mA nm pl B) (hf : CF r F (k + 1) G) (h10 : B.1 10 = k + 1) (hk12 : k < 12) (hk : Tk T a = 8) (hn : n ≤ 80) (ha : a < n) (hw : wP T nm a) (hI : Iv 1 1 1 1 1 B) (hE : (T1 T a).length + (T2 T a).length ≤ 250) (hD : 285 ≤ D) (hQ : ∀ z G', oC r nm mA pl G (cOp T pl C k (3, a, b) F B) z G' → Q z G') : XC xms D 73 [.ref p, .ref r, .ref (r + 18 + 4 * k), .int (nI 3), .int (nI a), .int (nI b)] G Q := by
  obtain ⟨d, rfl⟩ : ∃ d, D = d + 1 + 1 := ⟨D - 2, by omega⟩
  have l0 := hu.1.1.1
  unfold RL0 at l0
  obtain ⟨u1, u2, u3, u4, u5, u6, u7, u8, u9, u10, u11⟩ := hu.1.1.2 _ hk12
  have tt : ((3 : Int) < 0 ∨ 0 + ((23 : Nat) : Int) ≤ 3) = False := eq_false (by decide)
  have uu : ([108, 121, 139, 159, 177, 211, 220, 245, 298, 333, 333, 333, 333, 333, 333, 333, 333, 333, 333, 333, 333, 325, 316] : List Nat)[((3 : Int) - 0).toNat]? = some 159 := rfl
  have nn : (nI 3).toInt = 3 := rfl
  obtain ⟨s1, s2, s3, s4, s5, s6, s7⟩ := hr.st ha hn
  have hB := hI.bv h10
  obtain ⟨-, -, -, kz, n1⟩ := hr.sk ha hk
  have kz : Gkd G (A a) = 26 := kz
  obtain ⟨b1', hb1, hv1⟩ := hr.val hu hB n1 (hw.2.2.2.2.2.2.1 (by omega))
  have e : cOp T pl C k (3, a, b) F B = if (evE B (T1 T a)).1 ≠ 0 then cFl (evE B (T1 T a)).1 F B else (0, 0, fre F k (evE B (T1 T a)).2, B) := rfl
  rw [e] at hQ
  rw [XC_s]
  simp (disch := first | omega | exact cI _ | exact cR _ | exact cK | exact cU | exact cO _ | exact cL _) only [oS, uS.2, Nat.reduceAdd, Nat.reduceSub, Nat.reduceMul, Nat.reduceLeDiff, Nat.reduceEqDiff, Nat.add_sub_cancel, xS, gS, nL, nS, dS, fX3_does_0, fX3_does_159, mX3_does, zX3_does, xrfk_s, nn, tt, uu, s1, s2, s3, s4, s5, s6, s7, kz]
  refine p_result (D := d + 1) (kk := k) hu hk12 kz hb1 hv1 (by omega) (fun q G3 a1 a2 a3 => ?_) (fun q => ?_)
  · rw [if_pos q] at hQ
    have l3 := a1.1.1.1
    unfold RL0 at l3
    have fi := hQ _ _ (oC.cf h10 a1 a2 a3 hf)
    simp (disch := first | omega | exact cI _ | exact cR _ | exact cK | exact cU | exact cO _ | exact cL _) only [oS, uS.2, Nat.reduceAdd, Nat.reduceSub, Nat.reduceMul, Nat.reduceLeDiff, Nat.reduceEqDiff, Nat.add_sub_cancel, xS, gS, nL, nS, dS, mX3_does, zX3_does, l3, fi]
  · rw [if_neg (fun z => z q)] at hQ
    have fi := hQ (.inl none) (Sfi G 34 (r + 18 + 4 * k) (evE B (T1 T a)).2) (oC.on (k := k) h10 (YZ.fi (P := rgn r) ⟨by omega, by omega⟩).ye (hu.fi (by decide) (by decide) ⟨by omega, by omega⟩) hf.re)
    simp (disch := first | omega | exact cI _ | exact cR _ | exact cK | exact cU | exact cO _ | exact cL _) only [oS, uS.2, Nat.reduceAdd, Nat.reduceSub, Nat.reduceMul, Nat.reduceLeDiff, Nat.reduceEqDiff, Nat.add_sub_cancel, xS, gS, nL, nS, dS, fX3_does_344, mX3_does, zX3_does, fi]
theorem cx_4 (hr : RP r p hi n nm nk A mA T G) (hu : RU G r mA nm pl B) (hf : CF r F (k + 1) G) (h10 : B.1 10 = k + 1) (hk12 : k < 12) (hk : Tk T a = 9) (hn : n ≤ 80) (ha : a < n) (hw : wP T nm a) (hI : Iv 1 1 1 1 1 B) (hE : (T1 T a).length + (T2 T a).length ≤ 250) (hD : 285 ≤ D) (hQ : ∀ z G', oC r nm mA pl G (cOp T pl C k (4, a, b) F B) z G' → Q z G') : XC xms D 73 [.ref p, .ref r, .ref (r + 18 + 4 * k), .int (nI 4), .int (nI a), .int (nI b)] G Q := by
  obtain ⟨d, rfl⟩ : ∃ d, D = d + 1 + 1 := ⟨D - 2, by omega⟩
  have l0 := hu.1.1.1
  unfold RL0 at l0
  obtain ⟨u1, u2, u3, u4, u5, u6, u7, u8, u9, u10, u11⟩ := hu.1.1.2 _ hk12
  have tt : ((4 : Int) < 0 ∨ 0 + ((23 : Nat) : Int) ≤ 4) = False := eq_false (by decide)
  have uu : ([108, 121, 139, 159, 177, 211, 220, 245, 298, 333, 333, 333, 333, 333, 333, 333, 333, 333, 333, 333, 333, 325, 316] : List Nat)[((4 : Int) - 0).toNat]? = some 177 := rfl
  have nn : (nI 4).toInt = 4 := rfl
  obtain ⟨s1, s2, s3, s4, s5, s6, s7⟩ := hr.st ha hn
  have hB := hI.bv h10
  obtain ⟨-, -, -, kz, fz, n1, n2, -⟩ := hr.sk ha hk
  have kz : Gkd G (A a) = 27 := kz
  have fz : Gfi G 90 (A a) = Ta T a := fz
  obtain ⟨b1', hb1, hv1⟩ := hr.val hu hB n1 (hw.2.2.2.2.2.2.1 (by omega))
  obtain ⟨b2', hb2, hv2⟩ := hr.val hu hB n2 (hw.2.2.2.2.2.2.2.1 (by omega))
  have e : cOp T pl C k (4, a, b) F B = if (evE B (T1 T a)).1 ≠ 0 then cFl (evE B (T1 T a)).1 F B else if (evE B (T2 T a)).1 ≠ 0 then cFl (evE B (T2 T a)).1 F B else (0, 0, if holds (Ta T a) (evE B (T1 T a)).2 (evE B (T2 T a)).2 = true then F else fpc F k b, B) := rfl
  rw [e] at hQ
  rw [XC_s]
  simp (disch := first | omega | exact cI _ | exact cR _ | exact cK | exact cU | exact cO _ | exact cL _) only [oS, uS.2, Nat.reduceAdd, Nat.reduceSub, Nat.reduceMul, Nat.reduceLeDiff, Nat.reduceEqDiff, Nat.add_sub_cancel, xS, gS, nL, nS, dS, fX3_does_0, fX3_does_177, mX3_does, zX3_does, xrfk_s, nn, tt, uu, s1, s2, s3, s4, s5, s6, s7, kz]
  refine p_holds (D := d + 1) (kk := k) kz hb1 hb2 hv1 hv2 (by omega) (fun q G3 a1 a2 a3 => ?_) (fun q q2 G3 a1 a2 a3 => ?_) (fun q q2 => ?_)
  · rw [if_pos q] at hQ
    have l3 := a1.1.1.1
    unfold RL0 at l3
    have fi := hQ _ _ (oC.cf h10 a1 a2 a3 hf)
    simp (disch := first | omega | exact cI _ | exact cR _ | exact cK | exact cU | exact cO _ | exact cL _) only [oS, uS.2, Nat.reduceAdd, Nat.reduceSub, Nat.reduceMul, Nat.reduceLeDiff, Nat.reduceEqDiff, Nat.add_sub_cancel, xS, gS, nL, nS, dS, mX3_does, zX3_does, l3, fi]
  · rw [if_neg (fun z => z q), if_pos q2] at hQ
    have l3 := a1.1.1.1
    unfold RL0 at l3
    have fi := hQ _ _ (oC.cf h10 a1 a2 a3 hf)
    simp (disch := first | omega | exact cI _ | exact cR _ | exact cK | exact cU | exact cO _ | exact cL _) only [oS, uS.2, Nat.reduceAdd, Nat.reduceSub, Nat.reduceMul, Nat.reduceLeDiff, Nat.reduceEqDiff, Nat.add_sub_cancel, xS, gS, nL, nS, dS, mX3_does, zX3_does, l3, fi]
  · rw [if_neg (fun z => z q), if_neg (fun z => z q2)] at hQ
    rw [fz]
    have hpc : Gfi G 36 (r + 18 + 4 * k) = nI (F k).1 := (hf.2 k (by omega)).1
    by_cases c : holds (Ta T a) (evE B (T1 T a)).2 (evE B (T2 T a)).2 = true
    · rw [if_pos c] at hQ
      rw [if_pos c]
      have fi := hQ (.inl none) (Sfi G 36 (r + 18 + 4 * k) (nI (F k).1)) (oC.on (k := k) h10 (YZ.fi (P := rgn r) ⟨by omega, by omega⟩).ye (hu.fi (by decide) (by decide) ⟨by omega, by omega⟩) (by
        have := hf.pc (k := k) (v := (F k).1)
        have e2 : fpc F k (F k).1 = F := by
          funext j
          by_cases c : j = k
          · subst c
            exact if_pos rfl
          · exact if_neg c
        rw [e2] at this
        exact this))
      simp (disch := first | omega | exact cI _ | exact cR _ | exact cK | exact cU | exact cO _ | exact cL _) only [oS, uS.2, Nat.reduceAdd, Nat.reduceSub, Nat.reduceMul, Nat.reduceLeDiff, Nat.reduceEqDiff, Nat.add_sub_cancel, xS, gS, nL, nS, dS, fX3_does_205, fX3_does_344, mX3_does, zX3_does, u2, hpc, fi]
    · rw [if_neg c] at hQ
      rw [if_neg c]
      have fi := hQ (.inl none) (Sfi G 36 (r + 18 + 4 * k) (nI b)) (oC.on (k := k) h10 (YZ.fi (P := rgn r) ⟨by omega, by omega⟩).ye (hu.fi (by decide) (by decide) ⟨by omega, by omega⟩) hf.pc)
      simp (disch := first | omega | exact cI _ | exact cR _ | exact cK | exact cU | exact cO _ | exact cL _) only [oS, uS.2, Nat.reduceAdd, Nat.reduceSub, Nat.reduceMul, Nat.reduceLeDiff, Nat.reduceEqDiff, Nat.add_sub_cancel, xS, gS, nL, nS, dS, fX3_does_203, fX3_does_205, fX3_does_344, mX3_does, zX3_does, u2, fi]
theorem cx_5 (hr : RP r p hi n nm nk A mA T G) (hu : RU G r mA nm pl B) (hf : CF r F (k + 1) G) (h10 : B.1 10 = k + 1) (hk12 : k < 12)  (hD : 285 ≤ D) (hQ : ∀ z G', oC r nm mA pl G (cOp T pl C k (5, a, b) F B) z G' → Q z G') : XC xms D 73 [.ref p, .ref r, .ref (r + 18 + 4 * k), .int (nI 5), .int (nI a), .int (nI b)] G Q := by
  obtain ⟨d, rfl⟩ : ∃ d, D = d + 1 + 1 := ⟨D - 2, by omega⟩
  have l0 := hu.1.1.1
  unfold RL0 at l0
  obtain ⟨u1, u2, u3, u4, u5, u6, u7, u8, u9, u10, u11⟩ := hu.1.1.2 _ hk12
  have tt : ((5 : Int) < 0 ∨ 0 + ((23 : Nat) : Int) ≤ 5) = False := eq_false (by decide)
  have uu : ([108, 121, 139, 159, 177, 211, 220, 245, 298, 333, 333, 333, 333, 333, 333, 333, 333, 333, 333, 333, 333, 325, 316] : List Nat)[((5 : Int) - 0).toNat]? = some 211 := rfl
  have nn : (nI 5).toInt = 5 := rfl
  have e : cOp T pl C k (5, a, b) F B = (0, 0, fpc F k b, B) := rfl
  rw [e] at hQ
  have fi := hQ (.inl none) (Sfi G 36 (r + 18 + 4 * k) (nI b)) (oC.on (k := k) h10 (YZ.fi (P := rgn r) ⟨by omega, by omega⟩).ye (hu.fi (by decide) (by decide) ⟨by omega, by omega⟩) hf.pc)
  rw [XC_s]
  simp (disch := first | omega | exact cI _ | exact cR _ | exact cK | exact cU | exact cO _ | exact cL _) only [oS, uS.2, Nat.reduceAdd, Nat.reduceSub, Nat.reduceMul, Nat.reduceLeDiff, Nat.reduceEqDiff, Nat.add_sub_cancel, xS, gS, nL, nS, dS, fX3_does_0, fX3_does_211, fX3_does_344, mX3_does, zX3_does, nn, tt, uu, u2, fi]
theorem cx_6 (hr : RP r p hi n nm nk A mA T G) (hu : RU G r mA nm pl B) (hf : CF r F (k + 1) G) (h10 : B.1 10 = k + 1) (hk12 : k < 12) (hk : Tk T a = 10) (hb : b = 8 * a) (hn : n ≤ 80) (ha : a < n) (hw : wP T nm a) (hI : Iv 1 1 1 1 1 B) (hE : (T1 T a).length + (T2 T a).length ≤ 250) (hD : 285 ≤ D) (hQ : ∀ z G', oC r nm mA pl G (cOp T pl C k (6, a, b) F B) z G' → Q z G') : XC xms D 73 [.ref p, .ref r, .ref (r + 18 + 4 * k), .int (nI 6), .int (nI a), .int (nI b)] G Q := by
  obtain ⟨d, rfl⟩ : ∃ d, D = d + 1 + 1 := ⟨D - 2, by omega⟩
  have l0 := hu.1.1.1
  unfold RL0 at l0
  obtain ⟨u1, u2, u3, u4, u5, u6, u7, u8, u9, u10, u11⟩ := hu.1.1.2 _ hk12
  have tt : ((6 : Int) < 0 ∨ 0 + ((23 : Nat) : Int) ≤ 6) = False := eq_false (by decide)
  have uu : ([108, 121, 139, 159, 177, 211, 220, 245, 298, 333, 333, 333, 333, 333, 333, 333, 333, 333, 333, 333, 333, 325, 316] : List Nat)[((6 : Int) - 0).toNat]? = some 220 := rfl
  have nn : (nI 6).toInt = 6 := rfl
  obtain ⟨s1, s2, s3, s4, s5, s6, s7⟩ := hr.st ha hn
  have hB := hI.bv h10
  obtain ⟨-, -, -, kz, n1, -⟩ := hr.sk ha hk
  have kz : Gkd G (A a) = 28 := kz
  obtain ⟨b1', hb1, hv1⟩ := hr.val hu hB n1 (hw.2.2.2.2.2.2.1 (by omega))
  have e : cOp T pl C k (6, a, b) F B = if (evE B (T1 T a)).1 ≠ 0 then cFl (evE B (T1 T a)).1 F B else (0, 0, fsl F k b (evE B (T1 T a)).2, B) := rfl
  rw [e] at hQ
  have hb6 : b < 640 := by omega
  have hb7 : b < 2147483648 := by omega
  rw [XC_s]
  simp (disch := first | omega | exact cI _ | exact cR _ | exact cK | exact cU | exact cO _ | exact cL _) only [oS, uS.2, Nat.reduceAdd, Nat.reduceSub, Nat.reduceMul, Nat.reduceLeDiff, Nat.reduceEqDiff, Nat.add_sub_cancel, xS, gS, nL, nS, dS, fX3_does_0, fX3_does_220, mX3_does, zX3_does, xrfk_s, nn, tt, uu, s1, s2, s3, s4, s5, s6, s7, kz, u2, u5]
  refine p_turns (D := d + 1) (kk := k) kz hb1 hv1 (by omega) (fun q G3 a1 a2 a3 => ?_) (fun q => ?_)
  · rw [if_pos q] at hQ
    have l3 := a1.1.1.1
    unfold RL0 at l3
    have fi := hQ _ _ (oC.cf h10 a1 a2 a3 hf)
    simp (disch := first | omega | exact cI _ | exact cR _ | exact cK | exact cU | exact cO _ | exact cL _) only [oS, uS.2, Nat.reduceAdd, Nat.reduceSub, Nat.reduceMul, Nat.reduceLeDiff, Nat.reduceEqDiff, Nat.add_sub_cancel, xS, gS, nL, nS, dS, mX3_does, zX3_does, l3, fi]
  · rw [if_neg (fun z => z q)] at hQ
    have fi := hQ (.inl none) (Sai G (r + 21 + 4 * k) b (evE B (T1 T a)).2) (oC.on (k := k) h10 (YZ.ai (P := rgn r) ⟨by omega, by omega⟩).ye (hu.sl hk12) hf.sl)
    simp (disch := first | omega | exact cI _ | exact cR _ | exact cK | exact cU | exact cO _ | exact cL _) only [oS, uS.2, Nat.reduceAdd, Nat.reduceSub, Nat.reduceMul, Nat.reduceLeDiff, Nat.reduceEqDiff, Nat.add_sub_cancel, xS, gS, nL, nS, dS, fX3_does_344, mX3_does, zX3_does, u10, u11, hb6, hb7, fi]
theorem cx_7 (hr : RP r p hi n nm nk A mA T G) (hu : RU G r mA nm pl B) (hf : CF r F (k + 1) G) (h10 : B.1 10 = k + 1) (hk12 : k < 12) (hn : n ≤ 80) (ha : a < n) (hk : Tk T a = 10) (hI : Iv 0 0 0 0 0 B) (hD : 285 ≤ D) (hQ : ∀ z G', oC r nm mA pl G (cOp T pl C k (7, a, b) F B) z G' → Q z G') : XC xms D 73 [.ref p, .ref r, .ref (r + 18 + 4 * k), .int (nI 7), .int (nI a), .int (nI b)] G Q := by
  obtain ⟨d, rfl⟩ : ∃ d, D = d + 1 + 1 := ⟨D - 2, by omega⟩
  have l0 := hu.1.1.1
  unfold RL0 at l0
  obtain ⟨u1, u2, u3, u4, u5, u6, u7, u8, u9, u10, u11⟩ := hu.1.1.2 _ hk12
  have tt : ((7 : Int) < 0 ∨ 0 + ((23 : Nat) : Int) ≤ 7) = False := eq_false (by decide)
  have uu : ([108, 121, 139, 159, 177, 211, 220, 245, 298, 333, 333, 333, 333, 333, 333, 333, 333, 333, 333, 333, 333, 325, 316] : List Nat)[((7 : Int) - 0).toNat]? = some 245 := rfl
  have nn : (nI 7).toInt = 7 := rfl
  obtain ⟨s1, s2, s3, s4, s5, s6, s7⟩ := hr.st ha hn
  obtain ⟨o3, -, -, kz, -⟩ := hr.sk ha hk
  have kz : Gkd G (A a) = 28 := kz
  have hb6 : 8 * a < 640 := by omega
  have hb7 : 8 * a < 2147483648 := by omega
  have esl : Gai G (r + 21 + 4 * k) (8 * a) = (F k).2.2 (8 * a) := hf.1 k hk12 _ hb6
  have e : cOp T pl C k (7, a, b) F B = if (F k).2.2 (8 * a) < 1 then (0, 0, fpc F k b, B) else if isSpent B = true then (5, 0, F, B) else (0, 0, fsl F k (8 * a) ((F k).2.2 (8 * a) - 1), bStp B) := rfl
  rw [e] at hQ
  generalize hx : (F k).2.2 (8 * a) = x at esl hQ
  have e1 : (1 : Int32) = nI 1 := rfl
  rw [e1] at hQ
  rw [XC_s]
  by_cases c : x < nI 1
  · rw [if_pos c] at hQ
    have fi := hQ (.inl none) (Sfi G 36 (r + 18 + 4 * k) (nI b)) (oC.on (k := k) h10 (YZ.fi (P := rgn r) ⟨by omega, by omega⟩).ye (hu.fi (by decide) (by decide) ⟨by omega, by omega⟩) hf.pc)
    have c1 : (x < nI 1) = True := eq_true c
    have c2 : (nI 1 ≤ x) = False := eq_false (Int32.not_le.mpr c)
    simp (disch := first | omega | exact cI _ | exact cR _ | exact cK | exact cU | exact cO _ | exact cL _) only [oS, uS.2, Nat.reduceAdd, Nat.reduceSub, Nat.reduceMul, Nat.reduceLeDiff, Nat.reduceEqDiff, Nat.add_sub_cancel, xS, gS, nL, nS, dS, fX3_does_0, fX3_does_245, fX3_does_344, mX3_does, zX3_does, FX27_slot, mX27_slot, zX27_slot, XC_s (k := 245), xrfk_s, nn, tt, uu, s1, s2, s3, s4, s5, s6, s7, kz, o3, u2, u5, u10, u11, hb6, hb7, esl, c1, c2, fi]
  · rw [if_neg c] at hQ
    have c1 : (x < nI 1) = False := eq_false c
    have c2 : (nI 1 ≤ x) = True := eq_true (Int32.not_lt.mp c)
    simp (disch := first | omega | exact cI _ | exact cR _ | exact cK | exact cU | exact cO _ | exact cL _) only [oS, uS.2, Nat.reduceAdd, Nat.reduceSub, Nat.reduceMul, Nat.reduceLeDiff, Nat.reduceEqDiff, Nat.add_sub_cancel, xS, gS, nL, nS, dS, fX3_does_0, fX3_does_245, fX3_does_280, mX3_does, zX3_does, FX27_slot, mX27_slot, zX27_slot, XC_s (k := 245), l0, xrfk_s, nn, tt, uu, s1, s2, s3, s4, s5, s6, s7, kz, o3, u2, u5, u10, u11, hb6, hb7, esl, c1, c2]
    refine k_step (D := d + 1) hu hI.cb (by omega) (fun sp => ?_) (fun G1 h1 y1 ns => ?_)
    · rw [if_pos sp] at hQ
      have fi := hQ _ _ (oC.sp YE.refl hu)
      simp (disch := first | omega | exact cI _ | exact cR _ | exact cK | exact cU | exact cO _ | exact cL _) only [oS, uS.2, Nat.reduceAdd, Nat.reduceSub, Nat.reduceMul, Nat.reduceLeDiff, Nat.reduceEqDiff, Nat.add_sub_cancel, xS, gS, nL, nS, dS, mX3_does, zX3_does, fi]
    · rw [if_neg (by rw [ns]; decide)] at hQ
      have yv := y1.yv (kk := k)
      have hf1 := hf.yv yv
      have v2 : Gkd G1 (r + 18 + 4 * k) = 9 := by rw [y1.2.2.2.1]; exact u2
      have v5 : Gfr G1 1055 (r + 18 + 4 * k) = some (r + 21 + 4 * k) := by rw [y1.1]; exact u5
      have v10 : Gkd G1 (r + 21 + 4 * k) = 100 := by rw [y1.2.2.2.1]; exact u10
      have v11 : Gln G1 (r + 21 + 4 * k) = 640 := by rw [y1.2.2.2.2.1]; exact u11
      have esl1 : Gai G1 (r + 21 + 4 * k) (8 * a) = x := (hf1.1 k hk12 _ hb6).trans hx
      have fi := hQ (.inl none) (Sai G1 (r + 21 + 4 * k) (8 * a) (x - nI 1)) (oC.on (k := k) h10 (y1.big.ye.trans (YZ.ai (P := rgn r) ⟨by omega, by omega⟩).ye) (h1.sl hk12) hf1.sl)
      simp (disch := first | omega | exact cI _ | exact cR _ | exact cK | exact cU | exact cO _ | exact cL _) only [oS, uS.2, Nat.reduceAdd, Nat.reduceSub, Nat.reduceMul, Nat.reduceLeDiff, Nat.reduceEqDiff, Nat.add_sub_cancel, xS, gS, nL, nS, dS, fX3_does_344, mX3_does, zX3_does, v2, v5, v10, v11, hb6, hb7, esl1, fi]
theorem cx_8 (hr : RP r p hi n nm nk A mA T G) (hu : RU G r mA nm pl B) (hf : CF r F (k + 1) G) (h10 : B.1 10 = k + 1) (hk12 : k < 12) (hk : Tk T a = 14 ∨ Tk T a = 15) {t : Nat} (ht : Tb T a = nI t) (hta : t < a) (htg : gdS T t) (hn : n ≤ 80) (ha : a < n) (hw : wP T nm a) (hI : Iv 1 1 1 1 1 B) (hE : (T1 T a).length + (T2 T a).length ≤ 250) (hD : 285 ≤ D) (hQ : ∀ z G', oC r nm mA pl G (cOp T pl C k (8, a, b) F B) z G' → Q z G') : XC xms D 73 [.ref p, .ref r, .ref (r + 18 + 4 * k), .int (nI 8), .int (nI a), .int (nI b)] G Q := by
  obtain ⟨d, rfl⟩ : ∃ d, D = d + 1 + 1 := ⟨D - 2, by omega⟩
  have l0 := hu.1.1.1
  unfold RL0 at l0
  obtain ⟨u1, u2, u3, u4, u5, u6, u7, u8, u9, u10, u11⟩ := hu.1.1.2 _ hk12
  have tt : ((8 : Int) < 0 ∨ 0 + ((23 : Nat) : Int) ≤ 8) = False := eq_false (by decide)
  have uu : ([108, 121, 139, 159, 177, 211, 220, 245, 298, 333, 333, 333, 333, 333, 333, 333, 333, 333, 333, 333, 333, 325, 316] : List Nat)[((8 : Int) - 0).toNat]? = some 298 := rfl
  have nn : (nI 8).toInt = 8 := rfl
  obtain ⟨s1, s2, s3, s4, s5, s6, s7⟩ := hr.st ha hn
  have hB := hI.bv h10
  have hyk : Gkd G (A t) = 32 ∧ Gfi G 82 (A t) = nI t := by
    obtain ⟨a1, -, -, a2, -⟩ := hr.gd (s := t) (by omega) htg
    exact ⟨a2, a1⟩
  have nt : t ≠ 999 := by omega
  have hz : Gkd G (A a) = 31 ∧ Gfi G 93 (A a) = (if Tk T a = 14 then Ta T a else NN) ∧ Gfr G 1134 (A a) = some (A t) := by
    rcases hk with hk | hk
    · obtain ⟨-, -, -, k1, k2, m, em, hm, k3⟩ := hr.sk ha hk
      have emt : m = t := nI_inj (by omega) (by omega) (em.symm.trans ht)
      subst emt
      rw [if_neg nt] at k3
      rw [if_pos hk]
      exact ⟨k1, k2, k3⟩
    · obtain ⟨-, -, -, k1, k2, m, em, hm, k3⟩ := hr.sk ha hk
      have emt : m = t := nI_inj (by omega) (by omega) (em.symm.trans ht)
      subst emt
      rw [if_neg nt] at k3
      rw [if_neg (by omega)]
      exact ⟨k1, k2, k3⟩
  obtain ⟨kz, fz, yz⟩ := hz
  have esl : Gai G (r + 21 + 4 * k) (8 * t) = (F k).2.2 (8 * t) := hf.1 k hk12 _ (by omega)
  have e : cOp T pl C k (8, a, b) F B = if Tk T a = 15 then (4, (F k).2.2 (8 * t), F, B) else (4, nI (B.1 4), F, bMakes (Ta T a) ((F k).2.2 (8 * t)) B) := by
    have e0 : cOp T pl C k (8, a, b) F B = if Tk T a = 15 then (4, (F k).2.2 (8 * (Tb T a).toNatClampNeg), F, B) else (4, nI (B.1 4), F, bMakes (Ta T a) ((F k).2.2 (8 * (Tb T a).toNatClampNeg)) B) := rfl
    rw [e0, ht, n_clamp (by omega)]
  rw [e] at hQ
  rw [XC_s]
  simp (disch := first | omega | exact cI _ | exact cR _ | exact cK | exact cU | exact cO _ | exact cL _) only [oS, uS.2, Nat.reduceAdd, Nat.reduceSub, Nat.reduceMul, Nat.reduceLeDiff, Nat.reduceEqDiff, Nat.add_sub_cancel, xS, gS, nL, nS, dS, fX3_does_0, fX3_does_298, mX3_does, zX3_does, xrfk_s, nn, tt, uu, s1, s2, s3, s4, s5, s6, s7, kz]
  refine p_again (D := d + 1) hu hB.1 hB.2.1 hk12 kz yz hyk.1 hyk.2 (by omega) esl (by omega) (fun q G3 a1 a2 a3 => ?_) (fun q G3 a1 a2 a3 => ?_)
  · have hk15 : Tk T a = 15 := by
      rcases hk with hk | hk
      · rw [fz, if_pos hk] at q
        obtain ⟨j, ej, hj⟩ := hw.2.2.2.2.2.1 (.inr hk)
        rw [ej, n_NN (by omega)] at q
        exact q.elim
      · exact hk
    rw [if_pos hk15] at hQ
    have l3 := a1.1.1.1
    unfold RL0 at l3
    have fi := hQ (.inr (r + 16)) G3 (oC.fl (k := k) h10 a3.big.ye a2 a1 (hf.yv (a3.yv (kk := k))))
    simp (disch := first | omega | exact cI _ | exact cR _ | exact cK | exact cU | exact cO _ | exact cL _) only [oS, uS.2, Nat.reduceAdd, Nat.reduceSub, Nat.reduceMul, Nat.reduceLeDiff, Nat.reduceEqDiff, Nat.add_sub_cancel, xS, gS, nL, nS, dS, mX3_does, zX3_does, l3, fi]
  · have hk14 : Tk T a = 14 := by
      rcases hk with hk | hk
      · exact hk
      · rw [fz, if_neg (by omega)] at q
        exact absurd rfl q
    rw [if_neg (by omega)] at hQ
    rw [fz, if_pos hk14] at a1
    have l3 := a1.1.1.1
    unfold RL0 at l3
    have fi := hQ (.inr (r + 16)) G3 (oC.fl (k := k) (bMakes_c.2.1.trans h10) a3.big.ye a2 a1 (hf.yv (a3.yv (kk := k))))
    simp (disch := first | omega | exact cI _ | exact cR _ | exact cK | exact cU | exact cO _ | exact cL _) only [oS, uS.2, Nat.reduceAdd, Nat.reduceSub, Nat.reduceMul, Nat.reduceLeDiff, Nat.reduceEqDiff, Nat.add_sub_cancel, xS, gS, nL, nS, dS, mX3_does, zX3_does, l3, fi]
theorem cx_21 (hr : RP r p hi n nm nk A mA T G) (hu : RU G r mA nm pl B) (hf : CF r F (k + 1) G) (h10 : B.1 10 = k + 1) (hk12 : k < 12)  (hD : 285 ≤ D) (hQ : ∀ z G', oC r nm mA pl G (cOp T pl C k (21, a, b) F B) z G' → Q z G') : XC xms D 73 [.ref p, .ref r, .ref (r + 18 + 4 * k), .int (nI 21), .int (nI a), .int (nI b)] G Q := by
  obtain ⟨d, rfl⟩ : ∃ d, D = d + 1 + 1 := ⟨D - 2, by omega⟩
  have l0 := hu.1.1.1
  unfold RL0 at l0
  obtain ⟨u1, u2, u3, u4, u5, u6, u7, u8, u9, u10, u11⟩ := hu.1.1.2 _ hk12
  have tt : ((21 : Int) < 0 ∨ 0 + ((23 : Nat) : Int) ≤ 21) = False := eq_false (by decide)
  have uu : ([108, 121, 139, 159, 177, 211, 220, 245, 298, 333, 333, 333, 333, 333, 333, 333, 333, 333, 333, 333, 333, 325, 316] : List Nat)[((21 : Int) - 0).toNat]? = some 325 := rfl
  have nn : (nI 21).toInt = 21 := rfl
  have e : cOp T pl C k (21, a, b) F B = (0, 0, fre F k 0, B) := rfl
  rw [e] at hQ
  have fi := hQ (.inl none) (Sfi G 34 (r + 18 + 4 * k) (nI 0)) (oC.on (k := k) h10 (YZ.fi (P := rgn r) ⟨by omega, by omega⟩).ye (hu.fi (by decide) (by decide) ⟨by omega, by omega⟩) hf.re)
  rw [XC_s]
  simp (disch := first | omega | exact cI _ | exact cR _ | exact cK | exact cU | exact cO _ | exact cL _) only [oS, uS.2, Nat.reduceAdd, Nat.reduceSub, Nat.reduceMul, Nat.reduceLeDiff, Nat.reduceEqDiff, Nat.add_sub_cancel, xS, gS, nL, nS, dS, fX3_does_0, fX3_does_325, fX3_does_344, mX3_does, zX3_does, nn, tt, uu, u2, fi]
end CODEX
