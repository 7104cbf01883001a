set_option maxRecDepth 100000
theorem cCl_iv {pl : Nat → Int32 → Int32} (hp : vPl pl) {s : Nat} {sl : Nat → Int32} : ∀ (n p : Nat) (v : Int32) (B : Bk), Iv 0 0 0 0 0 B → (p = 4 → vK B v) → ivR B (cCl pl s sl n p v B) := by
  intro n
  induction n with
  | zero => intro p v B h hv _; exact ⟨h, Nat.le_refl _, fun e => hv e⟩
  | succ n ih =>
    intro p v B h hv
    unfold cCl
    split
    · exact fun h5 => absurd rfl h5
    · next hs =>
      have h1 := h.stp hs
      dsimp only
      have h2 : Iv 1 1 1 0 1 (bPass (7 * s + 4 + n) (b1 (b2 (bStp B) 10 ((bStp B).1 6) (sl (8 * s + 4 + n))) 6 ((bStp B).1 6 + 1))) := ((h1.s2 (o := 10) (i := (bStp B).1 6) (v := sl (8 * s + 4 + n)) (by omega)).s6).pass
      have e4 : (bPass (7 * s + 4 + n) (b1 (b2 (bStp B) 10 ((bStp B).1 6) (sl (8 * s + 4 + n))) 6 ((bStp B).1 6 + 1))).1 4 = B.1 4 := bPass_4
      generalize bPass (7 * s + 4 + n) (b1 (b2 (bStp B) 10 ((bStp B).1 6) (sl (8 * s + 4 + n))) 6 ((bStp B).1 6 + 1)) = B2 at *
      split
      · exact (ih p v B2 h2.z (fun e => (hv e).mono (by omega))).from (by omega)
      · next hk =>
        have hd := (hp (7 * s + 4 + n) (B2.2 12 (7 * s + 4 + n))).resolve_left hk
        have m1 := h2.makes (c := NN) hd
        split
        · next hp4 =>
          obtain ⟨f, rfl, hf⟩ := hv hp4
          have hb := h2.1
          have hch := h2.2.1
          have m2 : Iv 1 0 1 0 1 (bSup f (nI (B2.1 4)) (bMakes (pl (7 * s + 4 + n) (B2.2 12 (7 * s + 4 + n))) NN B2)) := by
            refine m1.1.sup (by rw [m1.2]) (by omega) (fun x hx => ?_)
            have r5 : ∀ o, 3 ≤ o → o ≤ 8 → (bMakes (pl (7 * s + 4 + n) (B2.2 12 (7 * s + 4 + n))) NN B2).2 o x = B2.2 o x := by
              intro o h1 h2
              simp only [bMakes]
              rw [if_neg (by omega), if_neg (by omega)]
            rw [r5 5 (by omega) (by omega), r5 6 (by omega) (by omega)]
            exact ⟨(hch x hx).2.1, (hch x hx).2.2⟩
          rw [nI_clamp (by omega)]
          refine (ih 4 (nI f) _ m2.z (fun _ => ⟨f, rfl, ?_⟩)).from ?_
          · rw [bSup_c, m1.2]; omega
          · rw [bSup_c, m1.2]; omega
        · refine (ih 4 _ _ m1.1.z (fun _ => ⟨B2.1 4, rfl, by rw [m1.2]; omega⟩)).from (by rw [m1.2]; omega)
theorem cCl_kb {P : Int32 → Prop} {pl : Nat → Int32 → Int32} (hp : ∀ k t, pl k t = NN ∨ P (pl k t)) {s : Nat} {sl : Nat → Int32} : ∀ (n p : Nat) (v : Int32) (B : Bk), kB P B → kB P (cCl pl s sl n p v B).2.2 := by
  intro n
  induction n with
  | zero => intro p v B h; exact h
  | succ n ih =>
    intro p v B h
    unfold cCl
    split
    · exact h
    · dsimp only
      have h2 : kB P (bPass (7 * s + 4 + n) (b1 (b2 (bStp B) 10 ((bStp B).1 6) (sl (8 * s + 4 + n))) 6 ((bStp B).1 6 + 1))) := ((h.stp.s2 (by decide)).s1 (by decide)).pass
      generalize bPass (7 * s + 4 + n) (b1 (b2 (bStp B) 10 ((bStp B).1 6) (sl (8 * s + 4 + n))) 6 ((bStp B).1 6 + 1)) = B2 at *
      split
      · exact ih _ _ _ h2
      · next hk =>
        have hd := (hp (7 * s + 4 + n) (B2.2 12 (7 * s + 4 + n))).resolve_left hk
        split
        · exact ih _ _ _ (h2.makes hd).sup
        · exact ih _ _ _ (h2.makes hd)
theorem cCl_10 {pl : Nat → Int32 → Int32} {s : Nat} {sl : Nat → Int32} : ∀ (n p : Nat) (v : Int32) (B : Bk), (cCl pl s sl n p v B).2.2.1 10 = B.1 10 := by
  intro n
  induction n with
  | zero => intro p v B; rfl
  | succ n ih =>
    intro p v B
    unfold cCl
    split
    · rfl
    · dsimp only
      have e : (bPass (7 * s + 4 + n) (b1 (b2 (bStp B) 10 ((bStp B).1 6) (sl (8 * s + 4 + n))) 6 ((bStp B).1 6 + 1))).1 10 = B.1 10 := bPass_c.2.1
      split
      · rw [ih]
        exact e
      · split
        · rw [ih, bSup_c]
          exact bMakes_c.2.1.trans e
        · rw [ih]
          exact bMakes_c.2.1.trans e
theorem cCl_c {pl : Nat → Int32 → Int32} {s : Nat} {sl : Nat → Int32} : ∀ (n p : Nat) (v : Int32) (B : Bk), (cCl pl s sl n p v B).1 = p ∨ (cCl pl s sl n p v B).1 = 4 ∨ (cCl pl s sl n p v B).1 = 5 := by
  intro n
  induction n with
  | zero => intro p v B; exact .inl rfl
  | succ n ih =>
    intro p v B
    unfold cCl
    split
    · exact .inr (.inr rfl)
    · dsimp only
      split
      · exact ih _ _ _
      · split
        · rcases ih 4 v _ with h | h | h
          · exact .inr (.inl h)
          · exact .inr (.inl h)
          · exact .inr (.inr h)
        · rcases ih 4 _ _ with h | h | h
          · exact .inr (.inl h)
          · exact .inr (.inl h)
          · exact .inr (.inr h)
section CODEX
variable {D d r k lo hi p n nm nk a b : Nat} {A mA : Nat → Nat} {T : Pg} {C : Cd} {lw oa ta : Nat} {F F' : Nat → Cf} {pl : Nat → Int32 → Int32} {B B' : Bk} {G G' G2 : XG} {Q : (Option Value ⊕ Nat) → XG → Prop}
theorem oC.z {y : Cs} {z : Option Value ⊕ Nat} (h : oC r nm mA pl G y z G') : z = .inl none ∨ ∃ a, z = .inr a := by
  rcases h with ⟨-, h, -⟩ | ⟨-, h, -⟩ | ⟨-, h, -⟩ | ⟨-, h, -⟩
  · exact .inl h
  · exact .inr ⟨_, h⟩
  · exact .inr ⟨_, h⟩
  · exact .inl h
theorem CF.op {s o w : Nat} (h : CF r F (k + 1) G) (y : YZ (fun a => rgb r a ∨ a = r + 21 + 4 * k) G G') (hs : ∀ x, Gai G' (r + 21 + 4 * k) x = if 8 * s + 4 ≤ x ∧ x < 8 * s + 4 + w then nI (o + (x - (8 * s + 4))) else Gai G (r + 21 + 4 * k) x) : CF r (fop F k s o w) (k + 1) G' := by
  have pp : ∀ j, ¬ (rgb r (r + 18 + 4 * j) ∨ r + 18 + 4 * j = r + 21 + 4 * k) := fun j q => by
    rcases q with q | q
    · have := q.2
      omega
    · omega
  refine ⟨fun j hj i hi => ?_, fun j hj => ?_⟩
  · by_cases c : j = k
    · subst c
      rw [hs]
      show _ = (if j = j then ((F j).1, (F j).2.1, fun x => if 8 * s + 4 ≤ x ∧ x < 8 * s + 4 + w then nI (o + (x - (8 * s + 4))) else (F j).2.2 x) else F j : Cf).2.2 i
      rw [if_pos rfl]
      show _ = if 8 * s + 4 ≤ i ∧ i < 8 * s + 4 + w then nI (o + (i - (8 * s + 4))) else (F j).2.2 i
      rw [h.1 j hj i hi]
    · rw [fop_o c, y.2.2.2.2.2.2.2.2.2.1 _ i (fun q => by
        rcases q with q | q
        · have := q.2
          omega
        · omega)]
      exact h.1 j hj i hi
  · have e : (fop F k s o w j).1 = (F j).1 ∧ (fop F k s o w j).2.1 = (F j).2.1 := by
      by_cases c : j = k
      · subst c
        exact ⟨fop_1, by unfold fop; rw [if_pos rfl]⟩
      · rw [fop_o c]
        exact ⟨rfl, rfl⟩
    rw [e.1, e.2, y.2.2.2.2.2.2.2.2.1 36 _ (pp j), y.2.2.2.2.2.2.2.2.1 34 _ (pp j)]
    exact h.2 j hj
theorem YZ.ye2 (y : YZ (fun a => rgb r a ∨ a = r + 21 + 4 * k) G G') (hk : k < 12) : YE r G G' := (y.mono (P' := rgn r) (fun a q => by
  rcases q with q | q
  · exact ⟨q.1, by have := q.2; omega⟩
  · exact ⟨by omega, by omega⟩)).ye
theorem cw_9 (hr : RP r p hi n nm nk A mA T G) (hu : RU G r mA nm pl B) (hf : CF r F (k + 1) G) (h10 : B.1 10 = k + 1) (hk12 : k < 12) (hn : n ≤ 80) (ha : a < n) (hpl : vPl pl) (hk : Tk T a = 17) (hI : Iv 0 0 0 0 0 B) {na : Nat} (hna : Ta T a = nI na) (na3 : na ≤ 3) (hD : 280 ≤ D) (hQ : ∀ z G', oC r nm mA pl G (cOp T pl C k (9, a, b) F B) z G' → Q z G') : XC xms D 75 [.ref p, .ref r, .ref (r + 18 + 4 * k), .int (nI 9), .int (nI a), .int (nI b)] G Q := by
  obtain ⟨d, rfl⟩ : ∃ d, D = d + 1 + 1 := ⟨D - 2, by omega⟩
  have l0 := hu.1.1.1
  unfold RL0 at l0
  obtain ⟨u1, u2, u3, u4, u5, u6, u7, u8, u9, u10, u11⟩ := hu.1.1.2 _ hk12
  have tt : ((9 : Int) < 9 ∨ 9 + ((11 : Nat) : Int) ≤ 9) = False := eq_false (by decide)
  have uu : ([100, 154, 154, 214, 228, 242, 256, 271, 284, 313, 325] : List Nat)[((9 : Int) - 9).toNat]? = some 100 := rfl
  have nn : (nI 9).toInt = 9 := rfl
  obtain ⟨s1, s2, s3, s4, s5, s6, s7⟩ := hr.st ha hn
  obtain ⟨o3, -, o2, kz, fz, -⟩ := hr.gd ha (.inr hk)
  have fz : Gfi G 94 (A a) = nI na := fz.trans hna
  have nsr : ¬ rgn r (A a) := hr.out (by have := (hr.gd ha (.inr hk)).2.1; omega) o2
  have hat : 8 * a + 4 < 2147483648 := by omega
  have e : cOp T pl C k (9, a, b) F B = if (sOpens pl a na 0 B).2.1 = 4 then cRs (fop F k a (B.1 5) (sOpens pl a na 0 B).1) (cCl pl a (fop F k a (B.1 5) (sOpens pl a na 0 B).1 k).2.2 (sOpens pl a na 0 B).1 4 (sOpens pl a na 0 B).2.2.1 (sOpens pl a na 0 B).2.2.2) else cRs (fop F k a (B.1 5) (sOpens pl a na 0 B).1) (sOpens pl a na 0 B).2 := by
    have e0 : cOp T pl C k (9, a, b) F B = if (sOpens pl a (Ta T a).toNatClampNeg 0 B).2.1 = 4 then cRs (fop F k a (B.1 5) (sOpens pl a (Ta T a).toNatClampNeg 0 B).1) (cCl pl a (fop F k a (B.1 5) (sOpens pl a (Ta T a).toNatClampNeg 0 B).1 k).2.2 (sOpens pl a (Ta T a).toNatClampNeg 0 B).1 4 (sOpens pl a (Ta T a).toNatClampNeg 0 B).2.2.1 (sOpens pl a (Ta T a).toNatClampNeg 0 B).2.2.2) else cRs (fop F k a (B.1 5) (sOpens pl a (Ta T a).toNatClampNeg 0 B).1) (sOpens pl a (Ta T a).toNatClampNeg 0 B).2 := rfl
    rw [e0, hna, n_clamp (by omega)]
  rw [e] at hQ
  rw [XC_s]
  simp (disch := first | omega | exact cI _ | exact cR _ | exact cK | exact cU | exact cO _ | exact cL _) only [oS, uS.2, Nat.reduceAdd, Nat.reduceSub, Nat.reduceMul, Nat.reduceLeDiff, Nat.reduceEqDiff, Nat.add_sub_cancel, xS, gS, nL, nS, dS, fX3_ways_0, fX3_ways_20, fX3_ways_31, fX3_ways_37, fX3_ways_100, mX3_ways, zX3_ways, FX31_slot, mX31_slot, zX31_slot, XC_s (k := 261), xrfk_s, nn, tt, uu, l0, s1, s2, s3, s4, s5, s6, s7, kz, o3, fz, u2, u5]
  refine k_opens (D := d + 1) (s := a) (k := k) (n := na) hpl (by omega) hk12 (by omega) na3 hu hI (fun z G1 o => ?_)
  have hov := sOpens_iv hpl (s := a) na 0 B hI
  have ho10 := sOpens_10 (pl := pl) (s := a) na 0 B
  have ho04 := sOpens_04 (pl := pl) (s := a) na 0 B
  generalize sOpens pl a na 0 B = w at *
  obtain ⟨wn, w1, wv, wB⟩ := w
  dsimp only at hov ho10 ho04 hQ
  obtain ⟨c1, c2, c3⟩ := o
  dsimp only at c1 c3
  have l1 := c1.1.1.1
  unfold RL0 at l1
  rcases c3 with ⟨c5, rfl, -⟩ | ⟨c5, rfl, c31, -, cw3, csl⟩
  · subst c5
    rw [if_neg (by decide)] at hQ
    have fi := hQ (.inr (r + 17)) G1 (oC.sp (c2.ye2 hk12) c1)
    simp (disch := first | omega | exact cI _ | exact cR _ | exact cK | exact cU | exact cO _ | exact cL _) only [oS, uS.2, Nat.reduceAdd, Nat.reduceSub, Nat.reduceMul, Nat.reduceLeDiff, Nat.reduceEqDiff, Nat.add_sub_cancel, xS, gS, nL, nS, dS, mX3_ways, zX3_ways, l1, fi]
  · have cf1 : CF r (fop F k a (B.1 5) wn) (k + 1) G1 := hf.op c2 csl
    by_cases c4 : w1 = 4
    · subst c4
      rw [if_pos rfl] at hQ c31
      obtain ⟨f, ef, hfl⟩ := (hov (show ¬ (4 : Nat) = 5 by decide)).2.2 rfl
      have hI1 := (hov (show ¬ (4 : Nat) = 5 by decide)).1
      have ef : wv = nI f := ef
      have hfb : f < 2147483648 := by
        have := hI1.1
        omega
      rw [ef] at c31 hQ
      have hwn : wn < 2147483648 := by omega
      have v2 : Gkd G1 (r + 18 + 4 * k) = 9 := by rw [c2.2.2.2.1]; exact u2
      have v5 : Gfr G1 1055 (r + 18 + 4 * k) = some (r + 21 + 4 * k) := by rw [c2.1]; exact u5
      simp (disch := first | omega | exact cI _ | exact cR _ | exact cK | exact cU | exact cO _ | exact cL _) only [oS, uS.2, Nat.reduceAdd, Nat.reduceSub, Nat.reduceMul, Nat.reduceLeDiff, Nat.reduceEqDiff, Nat.add_sub_cancel, xS, gS, nL, nS, dS, mX3_ways, zX3_ways, l1, c31, v2, v5]
      have ek := fun Q hh => k_closes (D := d + 1) (s := a) (k := k) (n := wn) (p := 4) (v := nI f) (sl := (fop F k a (B.1 5) wn k).2.2) (Q := Q) hpl (by omega) hk12 (by omega) cw3 c1 hI1 (fun i hi' => cf1.1 k hk12 _ (by omega)) (fun _ => ⟨f, rfl, hfl⟩) (by decide) hh
      rw [if_pos rfl] at ek
      refine ek _ (fun z G2 o2 => ?_)
      have q10 := cCl_10 (pl := pl) (s := a) (sl := (fop F k a (B.1 5) wn k).2.2) wn 4 (nI f) wB
      have q45 := cCl_c (pl := pl) (s := a) (sl := (fop F k a (B.1 5) wn k).2.2) wn 4 (nI f) wB
      generalize cCl pl a (fop F k a (B.1 5) wn k).2.2 wn 4 (nI f) wB = q at *
      obtain ⟨q1, qv, qB⟩ := q
      obtain ⟨x1, x2, x3⟩ := o2
      dsimp only at q10 q45 x1 x3
      have l2 := x1.1.1.1
      unfold RL0 at l2
      rcases x3 with ⟨x5, rfl⟩ | ⟨x5, rfl⟩
      · subst x5
        have fi := hQ (.inr (r + 17)) G2 (oC.sp ((c2.ye2 hk12).trans x2.big.ye) x1)
        simp (disch := first | omega | exact cI _ | exact cR _ | exact cK | exact cU | exact cO _ | exact cL _) only [oS, uS.2, Nat.reduceAdd, Nat.reduceSub, Nat.reduceMul, Nat.reduceLeDiff, Nat.reduceEqDiff, Nat.add_sub_cancel, xS, gS, nL, nS, dS, mX3_ways, zX3_ways, l2, fi]
      · have x4 : q1 = 4 := by omega
        subst x4
        rw [if_pos rfl]
        have fi := hQ (.inr (r + 16)) (Sfi G2 33 (r + 16) qv) (oC.fl (k := k) (q10.trans (ho10.trans h10)) (((c2.ye2 hk12).trans x2.big.ye).trans (YZ.fi (P := rgn r) ⟨by omega, by omega⟩).ye) Sfi_S (x1.fi (by decide) (by decide) ⟨by omega, by omega⟩) ((cf1.yv (x2.yv (kk := k))).fi (by decide)))
        simp (disch := first | omega | exact cI _ | exact cR _ | exact cK | exact cU | exact cO _ | exact cL _) only [oS, uS.2, Nat.reduceAdd, Nat.reduceSub, Nat.reduceMul, Nat.reduceLeDiff, Nat.reduceEqDiff, Nat.add_sub_cancel, xS, gS, nL, nS, dS, mX3_ways, zX3_ways, FX6_with, mX6_with, zX6_with, XC_s (k := 93), l2, fi]
    · have c0 : w1 = 0 := by omega
      subst c0
      rw [if_neg (by decide)] at hQ c31
      have fi := hQ (.inl none) G1 (oC.on (k := k) (ho10.trans h10) (c2.ye2 hk12) c1 cf1)
      simp (disch := first | omega | exact cI _ | exact cR _ | exact cK | exact cU | exact cO _ | exact cL _) only [oS, uS.2, Nat.reduceAdd, Nat.reduceSub, Nat.reduceMul, Nat.reduceLeDiff, Nat.reduceEqDiff, Nat.add_sub_cancel, xS, gS, nL, nS, dS, fX3_ways_348, mX3_ways, zX3_ways, l1, c31, fi]
theorem cw_10 (hr : RP r p hi n nm nk A mA T G) (hu : RU G r mA nm pl B) (hf : CF r F (k + 1) G) (h10 : B.1 10 = k + 1) (hk12 : k < 12) (hn : n ≤ 80) (ha : a < n) (hpl : vPl pl) (hk : Tk T a = 17) (hI : Iv 0 0 0 0 0 B) {na : Nat} (hna : Ta T a = nI na) (na3 : na ≤ 3) (hD : 280 ≤ D) (hQ : ∀ z G', oC r nm mA pl G (cOp T pl C k (10, a, b) F B) z G' → Q z G') : XC xms D 75 [.ref p, .ref r, .ref (r + 18 + 4 * k), .int (nI 10), .int (nI a), .int (nI b)] G Q := by
  obtain ⟨d, rfl⟩ : ∃ d, D = d + 1 + 1 := ⟨D - 2, by omega⟩
  have l0 := hu.1.1.1
  unfold RL0 at l0
  obtain ⟨u1, u2, u3, u4, u5, u6, u7, u8, u9, u10, u11⟩ := hu.1.1.2 _ hk12
  have tt : ((10 : Int) < 9 ∨ 9 + ((11 : Nat) : Int) ≤ 10) = False := eq_false (by decide)
  have uu : ([100, 154, 154, 214, 228, 242, 256, 271, 284, 313, 325] : List Nat)[((10 : Int) - 9).toNat]? = some 154 := rfl
  have nn : (nI 10).toInt = 10 := rfl
  obtain ⟨s1, s2, s3, s4, s5, s6, s7⟩ := hr.st ha hn
  obtain ⟨o3, -, o2, kz, fz, -⟩ := hr.gd ha (.inr hk)
  have fz : Gfi G 94 (A a) = nI na := fz.trans hna
  have nsr : ¬ rgn r (A a) := hr.out (by have := (hr.gd ha (.inr hk)).2.1; omega) o2
  have hat : 8 * a + 4 < 2147483648 := by omega
  have e : cOp T pl C k (10, a, b) F B = cRs F (cCl pl a (F k).2.2 na 0 0 (b2 B (oAt B) 0 (nI a))) := by
    have e0 : cOp T pl C k (10, a, b) F B = cRs F (cCl pl a (F k).2.2 (Ta T a).toNatClampNeg 0 0 (b2 B (oAt B) 0 (nI a))) := rfl
    rw [e0, hna, n_clamp (by omega)]
  rw [e] at hQ
  rw [show oAt B = 18 + 4 * k from by unfold oAt; omega] at hQ
  have ru1 := hu.at (v := nI a) hk12
  have I1 : Iv 0 0 0 0 0 (b2 B (18 + 4 * k) 0 (nI a)) := hI.s2 (by omega)
  have cf1 : CF r F (k + 1) (Sfi G 35 (r + 18 + 4 * k) (nI a)) := hf.fi (by decide)
  have ne35 : (A a = r + 18 + 4 * k) = False := eq_false (fun q => nsr ⟨by omega, by omega⟩)
  rw [XC_s]
  simp (disch := first | omega | exact cI _ | exact cR _ | exact cK | exact cU | exact cO _ | exact cL _) only [oS, uS.2, Nat.reduceAdd, Nat.reduceSub, Nat.reduceMul, Nat.reduceLeDiff, Nat.reduceEqDiff, Nat.add_sub_cancel, xS, gS, nL, nS, dS, fX3_ways_0, fX3_ways_20, fX3_ways_31, fX3_ways_37, fX3_ways_154, fX3_ways_192, mX3_ways, zX3_ways, FX31_slot, mX31_slot, zX31_slot, XC_s (k := 261), xrfk_s, nn, tt, uu, l0, s1, s2, s3, s4, s5, s6, s7, kz, o3, fz, u2, u5, u10, u11, ne35]
  have ye1 : YE r G (Sfi G 35 (r + 18 + 4 * k) (nI a)) := (YZ.fi (P := rgn r) ⟨by omega, by omega⟩).ye
  generalize Sfi G 35 (r + 18 + 4 * k) (nI a) = G1 at ru1 cf1 ye1 ⊢
  have ek := fun Q hh => k_closes (D := d + 1) (s := a) (k := k) (n := na) (p := 0) (v := 0) (sl := (F k).2.2) (Q := Q) hpl (by omega) hk12 (by omega) na3 ru1 I1 (fun i hi' => cf1.1 k hk12 _ (by omega)) (fun e => absurd e (by decide)) (by decide) hh
  rw [if_neg (by decide)] at ek
  refine ek _ (fun z G2 o2 => ?_)
  have qiv := cCl_iv hpl (s := a) (sl := (F k).2.2) na 0 (0) (b2 B (18 + 4 * k) 0 (nI a)) I1 (fun e => absurd e (by decide))
  have q10 : (cCl pl a (F k).2.2 na 0 (0) (b2 B (18 + 4 * k) 0 (nI a))).2.2.1 10 = k + 1 := (cCl_10 (pl := pl) (s := a) (sl := (F k).2.2) na 0 (0) (b2 B (18 + 4 * k) 0 (nI a))).trans h10
  have q45 := cCl_c (pl := pl) (s := a) (sl := (F k).2.2) na 0 (0) (b2 B (18 + 4 * k) 0 (nI a))
  generalize cCl pl a (F k).2.2 na 0 (0) (b2 B (18 + 4 * k) 0 (nI a)) = q at *
  obtain ⟨q1, qv, qB⟩ := q
  obtain ⟨x1, x2, x3⟩ := o2
  dsimp only at q10 q45 x1 x3
  have l2 := x1.1.1.1
  unfold RL0 at l2
  rcases x3 with ⟨x5, rfl⟩ | ⟨x5, rfl⟩
  · subst x5
    have fi := hQ (.inr (r + 17)) G2 (oC.sp (ye1.trans x2.big.ye) x1)
    simp (disch := first | omega | exact cI _ | exact cR _ | exact cK | exact cU | exact cO _ | exact cL _) only [oS, uS.2, Nat.reduceAdd, Nat.reduceSub, Nat.reduceMul, Nat.reduceLeDiff, Nat.reduceEqDiff, Nat.add_sub_cancel, xS, gS, nL, nS, dS, mX3_ways, zX3_ways, l2, fi]
  · by_cases x4 : q1 = 4
    · subst x4
      obtain ⟨g, eg, hg⟩ := (qiv (show ¬ (4 : Nat) = 5 by decide)).2.2 rfl
      have hI9 := (qiv (show ¬ (4 : Nat) = 5 by decide)).1.1
      have eg : qv = nI g := eg
      have hgb : g < 2147483648 := by
        have hg : g < qB.1 4 := hg
        dsimp only at hI9
        omega
      rw [if_pos rfl]
      have fi := hQ (.inr (r + 16)) (Sfi G2 33 (r + 16) qv) (oC.fl (k := k) q10 ((ye1.trans x2.big.ye).trans (YZ.fi (P := rgn r) ⟨by omega, by omega⟩).ye) Sfi_S (x1.fi (by decide) (by decide) ⟨by omega, by omega⟩) ((cf1.yv (x2.yv (kk := k))).fi (by decide)))
      rw [eg] at fi ⊢
      simp (disch := first | omega | exact cI _ | exact cR _ | exact cK | exact cU | exact cO _ | exact cL _) only [oS, uS.2, Nat.reduceAdd, Nat.reduceSub, Nat.reduceMul, Nat.reduceLeDiff, Nat.reduceEqDiff, Nat.add_sub_cancel, xS, gS, nL, nS, dS, mX3_ways, zX3_ways, FX6_with, mX6_with, zX6_with, XC_s (k := 93), l2, fi]
    · have x0 : q1 = 0 := by omega
      subst x0
      rw [if_neg (by decide)]
      have fi := hQ (.inl none) G2 (oC.on (k := k) q10 (ye1.trans x2.big.ye) x1 (cf1.yv (x2.yv (kk := k))))
      simp (disch := first | omega | exact cI _ | exact cR _ | exact cK | exact cU | exact cO _ | exact cL _) only [oS, uS.2, Nat.reduceAdd, Nat.reduceSub, Nat.reduceMul, Nat.reduceLeDiff, Nat.reduceEqDiff, Nat.add_sub_cancel, xS, gS, nL, nS, dS, fX3_ways_348, mX3_ways, zX3_ways, l2, fi]
theorem cw_11 (hr : RP r p hi n nm nk A mA T G) (hu : RU G r mA nm pl B) (hf : CF r F (k + 1) G) (h10 : B.1 10 = k + 1) (hk12 : k < 12) (hn : n ≤ 80) (ha : a < n) (hpl : vPl pl) (hk : Tk T a = 17) (hI : Iv 0 0 0 0 0 B) {na : Nat} (hna : Ta T a = nI na) (na3 : na ≤ 3) (hb : b < 640) (hvk : vK B ((F k).2.2 b)) (hD : 280 ≤ D) (hQ : ∀ z G', oC r nm mA pl G (cOp T pl C k (11, a, b) F B) z G' → Q z G') : XC xms D 75 [.ref p, .ref r, .ref (r + 18 + 4 * k), .int (nI 11), .int (nI a), .int (nI b)] G Q := by
  obtain ⟨d, rfl⟩ : ∃ d, D = d + 1 + 1 := ⟨D - 2, by omega⟩
  have l0 := hu.1.1.1
  unfold RL0 at l0
  obtain ⟨u1, u2, u3, u4, u5, u6, u7, u8, u9, u10, u11⟩ := hu.1.1.2 _ hk12
  have tt : ((11 : Int) < 9 ∨ 9 + ((11 : Nat) : Int) ≤ 11) = False := eq_false (by decide)
  have uu : ([100, 154, 154, 214, 228, 242, 256, 271, 284, 313, 325] : List Nat)[((11 : Int) - 9).toNat]? = some 154 := rfl
  have nn : (nI 11).toInt = 11 := rfl
  obtain ⟨s1, s2, s3, s4, s5, s6, s7⟩ := hr.st ha hn
  obtain ⟨o3, -, o2, kz, fz, -⟩ := hr.gd ha (.inr hk)
  have fz : Gfi G 94 (A a) = nI na := fz.trans hna
  have nsr : ¬ rgn r (A a) := hr.out (by have := (hr.gd ha (.inr hk)).2.1; omega) o2
  have hat : 8 * a + 4 < 2147483648 := by omega
  have e : cOp T pl C k (11, a, b) F B = cRs F (cCl pl a (F k).2.2 na 4 ((F k).2.2 b) (b2 B (oAt B) 0 (nI a))) := by
    have e0 : cOp T pl C k (11, a, b) F B = cRs F (cCl pl a (F k).2.2 (Ta T a).toNatClampNeg 4 ((F k).2.2 b) (b2 B (oAt B) 0 (nI a))) := rfl
    rw [e0, hna, n_clamp (by omega)]
  obtain ⟨f, ef, hfl⟩ := hvk
  rw [ef] at e
  have hb1 : b < 640 := hb
  have hb2 : b < 2147483648 := by omega
  have esl : Gai G (r + 21 + 4 * k) b = nI f := (hf.1 k hk12 _ hb).trans ef
  rw [e] at hQ
  rw [show oAt B = 18 + 4 * k from by unfold oAt; omega] at hQ
  have ru1 := hu.at (v := nI a) hk12
  have I1 : Iv 0 0 0 0 0 (b2 B (18 + 4 * k) 0 (nI a)) := hI.s2 (by omega)
  have cf1 : CF r F (k + 1) (Sfi G 35 (r + 18 + 4 * k) (nI a)) := hf.fi (by decide)
  have ne35 : (A a = r + 18 + 4 * k) = False := eq_false (fun q => nsr ⟨by omega, by omega⟩)
  rw [XC_s]
  simp (disch := first | omega | exact cI _ | exact cR _ | exact cK | exact cU | exact cO _ | exact cL _) only [oS, uS.2, Nat.reduceAdd, Nat.reduceSub, Nat.reduceMul, Nat.reduceLeDiff, Nat.reduceEqDiff, Nat.add_sub_cancel, xS, gS, nL, nS, dS, fX3_ways_0, fX3_ways_20, fX3_ways_31, fX3_ways_37, fX3_ways_154, fX3_ways_185, fX3_ways_192, mX3_ways, zX3_ways, FX31_slot, mX31_slot, zX31_slot, XC_s (k := 261), xrfk_s, nn, tt, uu, l0, s1, s2, s3, s4, s5, s6, s7, kz, o3, fz, u2, u5, u10, u11, ne35, hb1, hb2, esl]
  have ye1 : YE r G (Sfi G 35 (r + 18 + 4 * k) (nI a)) := (YZ.fi (P := rgn r) ⟨by omega, by omega⟩).ye
  generalize Sfi G 35 (r + 18 + 4 * k) (nI a) = G1 at ru1 cf1 ye1 ⊢
  have ek := fun Q hh => k_closes (D := d + 1) (s := a) (k := k) (n := na) (p := 4) (v := nI f) (sl := (F k).2.2) (Q := Q) hpl (by omega) hk12 (by omega) na3 ru1 I1 (fun i hi' => cf1.1 k hk12 _ (by omega)) (fun _ => ⟨f, rfl, hfl⟩) (by decide) hh
  rw [if_pos rfl] at ek
  refine ek _ (fun z G2 o2 => ?_)
  have qiv := cCl_iv hpl (s := a) (sl := (F k).2.2) na 4 (nI f) (b2 B (18 + 4 * k) 0 (nI a)) I1 (fun _ => ⟨f, rfl, hfl⟩)
  have q10 : (cCl pl a (F k).2.2 na 4 (nI f) (b2 B (18 + 4 * k) 0 (nI a))).2.2.1 10 = k + 1 := (cCl_10 (pl := pl) (s := a) (sl := (F k).2.2) na 4 (nI f) (b2 B (18 + 4 * k) 0 (nI a))).trans h10
  have q45 := cCl_c (pl := pl) (s := a) (sl := (F k).2.2) na 4 (nI f) (b2 B (18 + 4 * k) 0 (nI a))
  generalize cCl pl a (F k).2.2 na 4 (nI f) (b2 B (18 + 4 * k) 0 (nI a)) = q at *
  obtain ⟨q1, qv, qB⟩ := q
  obtain ⟨x1, x2, x3⟩ := o2
  dsimp only at q10 q45 x1 x3
  have l2 := x1.1.1.1
  unfold RL0 at l2
  rcases x3 with ⟨x5, rfl⟩ | ⟨x5, rfl⟩
  · subst x5
    have fi := hQ (.inr (r + 17)) G2 (oC.sp (ye1.trans x2.big.ye) x1)
    simp (disch := first | omega | exact cI _ | exact cR _ | exact cK | exact cU | exact cO _ | exact cL _) only [oS, uS.2, Nat.reduceAdd, Nat.reduceSub, Nat.reduceMul, Nat.reduceLeDiff, Nat.reduceEqDiff, Nat.add_sub_cancel, xS, gS, nL, nS, dS, mX3_ways, zX3_ways, l2, fi]
  · by_cases x4 : q1 = 4
    · subst x4
      obtain ⟨g, eg, hg⟩ := (qiv (show ¬ (4 : Nat) = 5 by decide)).2.2 rfl
      have hI9 := (qiv (show ¬ (4 : Nat) = 5 by decide)).1.1
      have eg : qv = nI g := eg
      have hgb : g < 2147483648 := by
        have hg : g < qB.1 4 := hg
        dsimp only at hI9
        omega
      rw [if_pos rfl]
      have fi := hQ (.inr (r + 16)) (Sfi G2 33 (r + 16) qv) (oC.fl (k := k) q10 ((ye1.trans x2.big.ye).trans (YZ.fi (P := rgn r) ⟨by omega, by omega⟩).ye) Sfi_S (x1.fi (by decide) (by decide) ⟨by omega, by omega⟩) ((cf1.yv (x2.yv (kk := k))).fi (by decide)))
      rw [eg] at fi ⊢
      simp (disch := first | omega | exact cI _ | exact cR _ | exact cK | exact cU | exact cO _ | exact cL _) only [oS, uS.2, Nat.reduceAdd, Nat.reduceSub, Nat.reduceMul, Nat.reduceLeDiff, Nat.reduceEqDiff, Nat.add_sub_cancel, xS, gS, nL, nS, dS, mX3_ways, zX3_ways, FX6_with, mX6_with, zX6_with, XC_s (k := 93), l2, fi]
    · have x0 : q1 = 0 := by omega
      subst x0
      rw [if_neg (by decide)]
      have fi := hQ (.inl none) G2 (oC.on (k := k) q10 (ye1.trans x2.big.ye) x1 (cf1.yv (x2.yv (kk := k))))
      simp (disch := first | omega | exact cI _ | exact cR _ | exact cK | exact cU | exact cO _ | exact cL _) only [oS, uS.2, Nat.reduceAdd, Nat.reduceSub, Nat.reduceMul, Nat.reduceLeDiff, Nat.reduceEqDiff, Nat.add_sub_cancel, xS, gS, nL, nS, dS, fX3_ways_348, mX3_ways, zX3_ways, l2, fi]
theorem cw_12 (hr : RP r p hi n nm nk A mA T G) (hu : RU G r mA nm pl B) (hf : CF r F (k + 1) G) (h10 : B.1 10 = k + 1) (hk12 : k < 12) (ha : a < 80) (hD : 280 ≤ D) (hQ : ∀ z G', oC r nm mA pl G (cOp T pl C k (12, a, b) F B) z G' → Q z G') : XC xms D 75 [.ref p, .ref r, .ref (r + 18 + 4 * k), .int (nI 12), .int (nI a), .int (nI b)] G Q := by
  obtain ⟨d, rfl⟩ : ∃ d, D = d + 1 + 1 := ⟨D - 2, by omega⟩
  have l0 := hu.1.1.1
  unfold RL0 at l0
  obtain ⟨u1, u2, u3, u4, u5, u6, u7, u8, u9, u10, u11⟩ := hu.1.1.2 _ hk12
  have tt : ((12 : Int) < 9 ∨ 9 + ((11 : Nat) : Int) ≤ 12) = False := eq_false (by decide)
  have uu : ([100, 154, 154, 214, 228, 242, 256, 271, 284, 313, 325] : List Nat)[((12 : Int) - 9).toNat]? = some 214 := rfl
  have nn : (nI 12).toInt = 12 := rfl
  have ha2 : a < 2147483648 := by omega
  have e11 : Gai G (r + 11) a = B.2 11 a := hu.1.2.2.1 11 a (.inr (.inr (.inr (.inr (.inl ⟨rfl, ha⟩)))))
  have e : cOp T pl C k (12, a, b) F B = (0, 0, F, b2 B 11 a (B.2 11 a + nI 1)) := rfl
  rw [e] at hQ
  have fi := hQ (.inl none) (Sai G (r + 11) a (B.2 11 a + nI 1)) (oC.on (k := k) h10 (YZ.ai (P := rgn r) ⟨by omega, by omega⟩).ye (hu.ai (by decide)) (hf.ai (by decide)))
  rw [XC_s]
  simp (disch := first | omega | exact cI _ | exact cR _ | exact cK | exact cU | exact cO _ | exact cL _) only [oS, uS.2, Nat.reduceAdd, Nat.reduceSub, Nat.reduceMul, Nat.reduceLeDiff, Nat.reduceEqDiff, Nat.add_sub_cancel, xS, gS, nL, nS, dS, fX3_ways_0, fX3_ways_19, fX3_ways_20, fX3_ways_37, fX3_ways_214, fX3_ways_348, mX3_ways, zX3_ways, nn, tt, uu, l0, ha, ha2, e11, fi]
theorem cw_13 (hr : RP r p hi n nm nk A mA T G) (hu : RU G r mA nm pl B) (hf : CF r F (k + 1) G) (h10 : B.1 10 = k + 1) (hk12 : k < 12) (hb : b < 640) (hD : 280 ≤ D) (hQ : ∀ z G', oC r nm mA pl G (cOp T pl C k (13, a, b) F B) z G' → Q z G') : XC xms D 75 [.ref p, .ref r, .ref (r + 18 + 4 * k), .int (nI 13), .int (nI a), .int (nI b)] G Q := by
  obtain ⟨d, rfl⟩ : ∃ d, D = d + 1 + 1 := ⟨D - 2, by omega⟩
  have l0 := hu.1.1.1
  unfold RL0 at l0
  obtain ⟨u1, u2, u3, u4, u5, u6, u7, u8, u9, u10, u11⟩ := hu.1.1.2 _ hk12
  have tt : ((13 : Int) < 9 ∨ 9 + ((11 : Nat) : Int) ≤ 13) = False := eq_false (by decide)
  have uu : ([100, 154, 154, 214, 228, 242, 256, 271, 284, 313, 325] : List Nat)[((13 : Int) - 9).toNat]? = some 228 := rfl
  have nn : (nI 13).toInt = 13 := rfl
  have hb2 : b < 2147483648 := by omega
  have esl : Gai G (r + 21 + 4 * k) b = (F k).2.2 b := hf.1 k hk12 _ hb
  have ere : Gfi G 34 (r + 18 + 4 * k) = (F k).2.1 := (hf.2 k (by omega)).2
  have e : cOp T pl C k (13, a, b) F B = (0, 0, fsl F k b (F k).2.1, B) := rfl
  rw [e] at hQ
  have fi := hQ (.inl none) (Sai G (r + 21 + 4 * k) b (F k).2.1) (oC.on (k := k) h10 (YZ.ai (P := rgn r) ⟨by omega, by omega⟩).ye (hu.sl hk12) hf.sl)
  rw [XC_s]
  simp (disch := first | omega | exact cI _ | exact cR _ | exact cK | exact cU | exact cO _ | exact cL _) only [oS, uS.2, Nat.reduceAdd, Nat.reduceSub, Nat.reduceMul, Nat.reduceLeDiff, Nat.reduceEqDiff, Nat.add_sub_cancel, xS, gS, nL, nS, dS, fX3_ways_0, fX3_ways_19, fX3_ways_20, fX3_ways_37, fX3_ways_228, fX3_ways_348, mX3_ways, zX3_ways, nn, tt, uu, u2, u5, u10, u11, hb, hb2, ere, fi]
theorem cw_14 (hr : RP r p hi n nm nk A mA T G) (hu : RU G r mA nm pl B) (hf : CF r F (k + 1) G) (h10 : B.1 10 = k + 1) (hk12 : k < 12) (hb : b < 640) (hD : 280 ≤ D) (hQ : ∀ z G', oC r nm mA pl G (cOp T pl C k (14, a, b) F B) z G' → Q z G') : XC xms D 75 [.ref p, .ref r, .ref (r + 18 + 4 * k), .int (nI 14), .int (nI a), .int (nI b)] G Q := by
  obtain ⟨d, rfl⟩ : ∃ d, D = d + 1 + 1 := ⟨D - 2, by omega⟩
  have l0 := hu.1.1.1
  unfold RL0 at l0
  obtain ⟨u1, u2, u3, u4, u5, u6, u7, u8, u9, u10, u11⟩ := hu.1.1.2 _ hk12
  have tt : ((14 : Int) < 9 ∨ 9 + ((11 : Nat) : Int) ≤ 14) = False := eq_false (by decide)
  have uu : ([100, 154, 154, 214, 228, 242, 256, 271, 284, 313, 325] : List Nat)[((14 : Int) - 9).toNat]? = some 242 := rfl
  have nn : (nI 14).toInt = 14 := rfl
  have hb2 : b < 2147483648 := by omega
  have esl : Gai G (r + 21 + 4 * k) b = (F k).2.2 b := hf.1 k hk12 _ hb
  have e : cOp T pl C k (14, a, b) F B = (0, 0, fre F k ((F k).2.2 b), B) := rfl
  rw [e] at hQ
  have fi := hQ (.inl none) (Sfi G 34 (r + 18 + 4 * k) ((F k).2.2 b)) (oC.on (k := k) h10 (YZ.fi (P := rgn r) ⟨by omega, by omega⟩).ye (hu.fi (by decide) (by decide) ⟨by omega, by omega⟩) hf.re)
  rw [XC_s]
  simp (disch := first | omega | exact cI _ | exact cR _ | exact cK | exact cU | exact cO _ | exact cL _) only [oS, uS.2, Nat.reduceAdd, Nat.reduceSub, Nat.reduceMul, Nat.reduceLeDiff, Nat.reduceEqDiff, Nat.add_sub_cancel, xS, gS, nL, nS, dS, fX3_ways_0, fX3_ways_19, fX3_ways_20, fX3_ways_37, fX3_ways_242, fX3_ways_348, mX3_ways, zX3_ways, nn, tt, uu, u2, u5, u10, u11, hb, hb2, esl, fi]
theorem cw_15 (hr : RP r p hi n nm nk A mA T G) (hu : RU G r mA nm pl B) (hf : CF r F (k + 1) G) (h10 : B.1 10 = k + 1) (hk12 : k < 12) (hb : b < 640) (hD : 280 ≤ D) (hQ : ∀ z G', oC r nm mA pl G (cOp T pl C k (15, a, b) F B) z G' → Q z G') : XC xms D 75 [.ref p, .ref r, .ref (r + 18 + 4 * k), .int (nI 15), .int (nI a), .int (nI b)] G Q := by
  obtain ⟨d, rfl⟩ : ∃ d, D = d + 1 + 1 := ⟨D - 2, by omega⟩
  have l0 := hu.1.1.1
  unfold RL0 at l0
  obtain ⟨u1, u2, u3, u4, u5, u6, u7, u8, u9, u10, u11⟩ := hu.1.1.2 _ hk12
  have tt : ((15 : Int) < 9 ∨ 9 + ((11 : Nat) : Int) ≤ 15) = False := eq_false (by decide)
  have uu : ([100, 154, 154, 214, 228, 242, 256, 271, 284, 313, 325] : List Nat)[((15 : Int) - 9).toNat]? = some 256 := rfl
  have nn : (nI 15).toInt = 15 := rfl
  have hb2 : b < 2147483648 := by omega
  have esl : Gai G (r + 21 + 4 * k) b = (F k).2.2 b := hf.1 k hk12 _ hb
  have e : cOp T pl C k (15, a, b) F B = (4, (F k).2.2 b, F, B) := rfl
  rw [e] at hQ
  have fi := hQ (.inr (r + 16)) (Sfi G 33 (r + 16) ((F k).2.2 b)) (oC.fl (k := k) h10 (YZ.fi (P := rgn r) ⟨by omega, by omega⟩).ye Sfi_S (hu.fi (by decide) (by decide) ⟨by omega, by omega⟩) (hf.fi (by decide)))
  rw [XC_s]
  simp (disch := first | omega | exact cI _ | exact cR _ | exact cK | exact cU | exact cO _ | exact cL _) only [oS, uS.2, Nat.reduceAdd, Nat.reduceSub, Nat.reduceMul, Nat.reduceLeDiff, Nat.reduceEqDiff, Nat.add_sub_cancel, xS, gS, nL, nS, dS, fX3_ways_0, fX3_ways_19, fX3_ways_20, fX3_ways_37, fX3_ways_256, mX3_ways, zX3_ways, FX6_with, mX6_with, zX6_with, XC_s (k := 93), nn, tt, uu, l0, u2, u5, u10, u11, hb, hb2, esl, fi]
theorem cw_16 (hr : RP r p hi n nm nk A mA T G) (hu : RU G r mA nm pl B) (hf : CF r F (k + 1) G) (h10 : B.1 10 = k + 1) (hk12 : k < 12)  (hD : 280 ≤ D) (hQ : ∀ z G', oC r nm mA pl G (cOp T pl C k (16, a, b) F B) z G' → Q z G') : XC xms D 75 [.ref p, .ref r, .ref (r + 18 + 4 * k), .int (nI 16), .int (nI a), .int (nI b)] G Q := by
  obtain ⟨d, rfl⟩ : ∃ d, D = d + 1 + 1 := ⟨D - 2, by omega⟩
  have l0 := hu.1.1.1
  unfold RL0 at l0
  obtain ⟨u1, u2, u3, u4, u5, u6, u7, u8, u9, u10, u11⟩ := hu.1.1.2 _ hk12
  have tt : ((16 : Int) < 9 ∨ 9 + ((11 : Nat) : Int) ≤ 16) = False := eq_false (by decide)
  have uu : ([100, 154, 154, 214, 228, 242, 256, 271, 284, 313, 325] : List Nat)[((16 : Int) - 9).toNat]? = some 271 := rfl
  have nn : (nI 16).toInt = 16 := rfl
  have e7 : Gfi G 25 r = nI (B.1 7) := hu.1.2.1.2.2.2.2.1
  have e : cOp T pl C k (16, a, b) F B = (0, 0, F, b1 B 7 (B.1 7 + 1)) := rfl
  rw [e] at hQ
  have fi := hQ (.inl none) (Sfi G 25 r (nI (B.1 7 + 1))) (oC.on (k := k) h10 (YZ.fi (P := rgn r) ⟨by omega, by omega⟩).ye hu.c7 (hf.fi (by decide)))
  rw [XC_s]
  simp (disch := first | omega | exact cI _ | exact cR _ | exact cK | exact cU | exact cO _ | exact cL _) only [oS, uS.2, Nat.reduceAdd, Nat.reduceSub, Nat.reduceMul, Nat.reduceLeDiff, Nat.reduceEqDiff, Nat.add_sub_cancel, xS, gS, nL, nS, dS, fX3_ways_0, fX3_ways_19, fX3_ways_20, fX3_ways_37, fX3_ways_271, fX3_ways_348, mX3_ways, zX3_ways, nn, tt, uu, l0, e7, fi]
theorem cw_17 (hr : RP r p hi n nm nk A mA T G) (hu : RU G r mA nm pl B) (hf : CF r F (k + 1) G) (h10 : B.1 10 = k + 1) (hk12 : k < 12) (hb : b < 640) (hD : 280 ≤ D) (hQ : ∀ z G', oC r nm mA pl G (cOp T pl C k (17, a, b) F B) z G' → Q z G') : XC xms D 75 [.ref p, .ref r, .ref (r + 18 + 4 * k), .int (nI 17), .int (nI a), .int (nI b)] G Q := by
  obtain ⟨d, rfl⟩ : ∃ d, D = d + 1 + 1 := ⟨D - 2, by omega⟩
  have l0 := hu.1.1.1
  unfold RL0 at l0
  obtain ⟨u1, u2, u3, u4, u5, u6, u7, u8, u9, u10, u11⟩ := hu.1.1.2 _ hk12
  have tt : ((17 : Int) < 9 ∨ 9 + ((11 : Nat) : Int) ≤ 17) = False := eq_false (by decide)
  have uu : ([100, 154, 154, 214, 228, 242, 256, 271, 284, 313, 325] : List Nat)[((17 : Int) - 9).toNat]? = some 284 := rfl
  have nn : (nI 17).toInt = 17 := rfl
  have hb2 : b < 2147483648 := by omega
  have esl : Gai G (r + 21 + 4 * k) b = (F k).2.2 b := hf.1 k hk12 _ hb
  have e7 : Gfi G 25 r = nI (B.1 7) := hu.1.2.1.2.2.2.2.1
  have e : cOp T pl C k (17, a, b) F B = (0, 0, F, if (F k).2.2 b = NN then B else b1 B 7 (B.1 7 + 1)) := rfl
  rw [e] at hQ
  rw [XC_s]
  by_cases c : (F k).2.2 b = NN
  · rw [if_pos c] at hQ
    rw [c] at esl
    have fi := hQ (.inl none) (Sfi G 25 r (nI (B.1 7))) (oC.on (k := k) h10 (YZ.fi (P := rgn r) ⟨by omega, by omega⟩).ye (by
      have := hu.c7 (v := B.1 7)
      rw [b1_id rfl] at this
      exact this) (hf.fi (by decide)))
    simp (disch := first | omega | exact cI _ | exact cR _ | exact cK | exact cU | exact cO _ | exact cL _) only [oS, uS.2, Nat.reduceAdd, Nat.reduceSub, Nat.reduceMul, Nat.reduceLeDiff, Nat.reduceEqDiff, Nat.add_sub_cancel, xS, gS, nL, nS, dS, fX3_ways_0, fX3_ways_19, fX3_ways_20, fX3_ways_37, fX3_ways_284, fX3_ways_306, fX3_ways_348, mX3_ways, zX3_ways, nn, tt, uu, l0, u2, u5, u10, u11, hb, hb2, esl, e7, Nat.add_zero, fi]
  · rw [if_neg c] at hQ
    have c' := eq_false c
    have fi := hQ (.inl none) (Sfi G 25 r (nI (B.1 7 + 1))) (oC.on (k := k) h10 (YZ.fi (P := rgn r) ⟨by omega, by omega⟩).ye hu.c7 (hf.fi (by decide)))
    simp (disch := first | omega | exact cI _ | exact cR _ | exact cK | exact cU | exact cO _ | exact cL _) only [oS, uS.2, Nat.reduceAdd, Nat.reduceSub, Nat.reduceMul, Nat.reduceLeDiff, Nat.reduceEqDiff, Nat.add_sub_cancel, xS, gS, nL, nS, dS, fX3_ways_0, fX3_ways_19, fX3_ways_20, fX3_ways_37, fX3_ways_284, fX3_ways_305, fX3_ways_306, fX3_ways_348, mX3_ways, zX3_ways, nn, tt, uu, l0, u2, u5, u10, u11, hb, hb2, esl, c', e7, fi]
theorem cw_18 (hr : RP r p hi n nm nk A mA T G) (hu : RU G r mA nm pl B) (hf : CF r F (k + 1) G) (h10 : B.1 10 = k + 1) (hk12 : k < 12) (hb : b < 640) (hD : 280 ≤ D) (hQ : ∀ z G', oC r nm mA pl G (cOp T pl C k (18, a, b) F B) z G' → Q z G') : XC xms D 75 [.ref p, .ref r, .ref (r + 18 + 4 * k), .int (nI 18), .int (nI a), .int (nI b)] G Q := by
  obtain ⟨d, rfl⟩ : ∃ d, D = d + 1 + 1 := ⟨D - 2, by omega⟩
  have l0 := hu.1.1.1
  unfold RL0 at l0
  obtain ⟨u1, u2, u3, u4, u5, u6, u7, u8, u9, u10, u11⟩ := hu.1.1.2 _ hk12
  have tt : ((18 : Int) < 9 ∨ 9 + ((11 : Nat) : Int) ≤ 18) = False := eq_false (by decide)
  have uu : ([100, 154, 154, 214, 228, 242, 256, 271, 284, 313, 325] : List Nat)[((18 : Int) - 9).toNat]? = some 313 := rfl
  have nn : (nI 18).toInt = 18 := rfl
  have hb2 : b < 2147483648 := by omega
  have esl : Gai G (r + 21 + 4 * k) b = (F k).2.2 b := hf.1 k hk12 _ hb
  have e : cOp T pl C k (18, a, b) F B = (0, 0, fsl F k b NN, B) := rfl
  rw [e] at hQ
  have fi := hQ (.inl none) (Sai G (r + 21 + 4 * k) b NN) (oC.on (k := k) h10 (YZ.ai (P := rgn r) ⟨by omega, by omega⟩).ye (hu.sl hk12) hf.sl)
  rw [XC_s]
  simp (disch := first | omega | exact cI _ | exact cR _ | exact cK | exact cU | exact cO _ | exact cL _) only [oS, uS.2, Nat.reduceAdd, Nat.reduceSub, Nat.reduceMul, Nat.reduceLeDiff, Nat.reduceEqDiff, Nat.add_sub_cancel, xS, gS, nL, nS, dS, fX3_ways_0, fX3_ways_19, fX3_ways_20, fX3_ways_37, fX3_ways_313, fX3_ways_348, mX3_ways, zX3_ways, nn, tt, uu, u2, u5, u10, u11, hb, hb2, fi]
theorem cw_19 (hr : RP r p hi n nm nk A mA T G) (hu : RU G r mA nm pl B) (hf : CF r F (k + 1) G) (h10 : B.1 10 = k + 1) (hk12 : k < 12) (ha : a < 640) (hD : 280 ≤ D) (hQ : ∀ z G', oC r nm mA pl G (cOp T pl C k (19, a, b) F B) z G' → Q z G') : XC xms D 75 [.ref p, .ref r, .ref (r + 18 + 4 * k), .int (nI 19), .int (nI a), .int (nI b)] G Q := by
  obtain ⟨d, rfl⟩ : ∃ d, D = d + 1 + 1 := ⟨D - 2, by omega⟩
  have l0 := hu.1.1.1
  unfold RL0 at l0
  obtain ⟨u1, u2, u3, u4, u5, u6, u7, u8, u9, u10, u11⟩ := hu.1.1.2 _ hk12
  have tt : ((19 : Int) < 9 ∨ 9 + ((11 : Nat) : Int) ≤ 19) = False := eq_false (by decide)
  have uu : ([100, 154, 154, 214, 228, 242, 256, 271, 284, 313, 325] : List Nat)[((19 : Int) - 9).toNat]? = some 325 := rfl
  have nn : (nI 19).toInt = 19 := rfl
  have ha2 : a < 2147483648 := by omega
  have e : cOp T pl C k (19, a, b) F B = (0, 0, fsl F k a (nI b), B) := rfl
  rw [e] at hQ
  have fi := hQ (.inl none) (Sai G (r + 21 + 4 * k) a (nI b)) (oC.on (k := k) h10 (YZ.ai (P := rgn r) ⟨by omega, by omega⟩).ye (hu.sl hk12) hf.sl)
  rw [XC_s]
  simp (disch := first | omega | exact cI _ | exact cR _ | exact cK | exact cU | exact cO _ | exact cL _) only [oS, uS.2, Nat.reduceAdd, Nat.reduceSub, Nat.reduceMul, Nat.reduceLeDiff, Nat.reduceEqDiff, Nat.add_sub_cancel, xS, gS, nL, nS, dS, fX3_ways_0, fX3_ways_19, fX3_ways_20, fX3_ways_37, fX3_ways_325, fX3_ways_348, mX3_ways, zX3_ways, nn, tt, uu, u2, u5, u10, u11, ha, ha2, fi]
theorem cw_20 (hr : RP r p hi n nm nk A mA T G) (hu : RU G r mA nm pl B) (hf : CF r F (k + 1) G) (h10 : B.1 10 = k + 1) (hk12 : k < 12) (hb : b < 640) {g : Nat} (hg : (F k).2.2 b = nI g) (hg2 : g < 2147483648) (hD : 280 ≤ D) (hQ : ∀ z G', oC r nm mA pl G (cOp T pl C k (20, a, b) F B) z G' → Q z G') : XC xms D 75 [.ref p, .ref r, .ref (r + 18 + 4 * k), .int (nI 20), .int (nI a), .int (nI b)] G Q := by
  obtain ⟨d, rfl⟩ : ∃ d, D = d + 1 + 1 := ⟨D - 2, by omega⟩
  have l0 := hu.1.1.1
  unfold RL0 at l0
  obtain ⟨u1, u2, u3, u4, u5, u6, u7, u8, u9, u10, u11⟩ := hu.1.1.2 _ hk12
  have tt : ((20 : Int) < 9 ∨ 9 + ((11 : Nat) : Int) ≤ 20) = True := eq_true (by decide)
  have nn : (nI 20).toInt = 20 := rfl
  have hb2 : b < 2147483648 := by omega
  have esl : Gai G (r + 21 + 4 * k) b = (F k).2.2 b := hf.1 k hk12 _ hb
  have e : cOp T pl C k (20, a, b) F B = (0, 0, fpc F k g, B) := by
    have e0 : cOp T pl C k (20, a, b) F B = (0, 0, fpc F k ((F k).2.2 b).toNatClampNeg, B) := rfl
    rw [e0, hg, n_clamp hg2]
  rw [e] at hQ
  rw [hg] at esl
  have fi := hQ (.inl none) (Sfi G 36 (r + 18 + 4 * k) (nI g)) (oC.on (k := k) h10 (YZ.fi (P := rgn r) ⟨by omega, by omega⟩).ye (hu.fi (by decide) (by decide) ⟨by omega, by omega⟩) hf.pc)
  rw [XC_s]
  simp (disch := first | omega | exact cI _ | exact cR _ | exact cK | exact cU | exact cO _ | exact cL _) only [oS, uS.2, Nat.reduceAdd, Nat.reduceSub, Nat.reduceMul, Nat.reduceLeDiff, Nat.reduceEqDiff, Nat.add_sub_cancel, xS, gS, nL, nS, dS, fX3_ways_0, fX3_ways_19, fX3_ways_20, fX3_ways_37, fX3_ways_337, fX3_ways_348, mX3_ways, zX3_ways, nn, tt, u2, u5, u10, u11, hb, hb2, esl, fi]
end CODEX
