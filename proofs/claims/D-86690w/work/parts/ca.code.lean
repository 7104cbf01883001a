set_option maxRecDepth 100000
section CODEX
variable {D d r k lo hi p n nm nk a b : Nat} {A mA : Nat → Nat} {T : Pg} {C : Cd} {lw oa ta : Nat} {F F' : Nat → Cf} {pl : Nat → Int32 → Int32} {B B' : Bk} {G G' G2 : XG} {Q : (Option Value ⊕ Nat) → XG → Prop}
/-- ops of Program.ways, seen from does -/
theorem cx_w {o a b : Nat} (hr : RP r p hi n nm nk A mA T G) (ho : 9 ≤ o ∧ o ≤ 20) (y : Cs) (h : ∀ Q, (∀ z G', oC r nm mA pl G y z G' → Q z G') → XC xms (d + 1) 75 [.ref p, .ref r, .ref (r + 18 + 4 * k), .int (nI o), .int (nI a), .int (nI b)] G Q) (hQ : ∀ z G', oC r nm mA pl G y z G' → Q z G') : XC xms (d + 1 + 1) 73 [.ref p, .ref r, .ref (r + 18 + 4 * k), .int (nI o), .int (nI a), .int (nI b)] G Q := by
  have hPR := hr.2.2.2.1
  unfold PR at hPR
  have s1 : Gkd G p = 4 := hPR.1
  have key : ∀ z G', oC r nm mA pl G y z G' → ∀ L, XK xms (d + 1) 73 341 [(344, i_fal 344)] L [] Q z G' := by
    intro z G' oo L
    have fi := hQ z G' oo
    rcases oo.z with rfl | ⟨a, rfl⟩
    · simp (disch := first | omega | exact cI _ | exact cR _ | exact cK | exact cU | exact cO _ | exact cL _) only [oS, uS.2, Nat.reduceAdd, Nat.reduceSub, Nat.reduceMul, Nat.reduceLeDiff, Nat.reduceEqDiff, Nat.add_sub_cancel, xS, gS, nL, nS, dS, fX3_does_344, mX3_does, zX3_does, fi]
    · simp (disch := first | omega | exact cI _ | exact cR _ | exact cK | exact cU | exact cO _ | exact cL _) only [oS, uS.2, Nat.reduceAdd, Nat.reduceSub, Nat.reduceMul, Nat.reduceLeDiff, Nat.reduceEqDiff, Nat.add_sub_cancel, xS, gS, nL, nS, dS, mX3_does, zX3_does, fi]
  have tt : ((o : Int) < 0 ∨ 0 + ((23 : Nat) : Int) ≤ (o : Int)) = False := eq_false (by omega)
  have nn : (nI o).toInt = (o : Int) := nI_toInt (by omega)
  have uu : ([108, 121, 139, 159, 177, 211, 220, 245, 298, 333, 333, 333, 333, 333, 333, 333, 333, 333, 333, 333, 333, 325, 316] : List Nat)[((o : Int) - 0).toNat]? = some 333 := by
    have : ((o : Int) - 0).toNat = o := by omega
    rw [this]
    obtain ⟨h9, h20⟩ := ho
    have : o = 9 ∨ o = 10 ∨ o = 11 ∨ o = 12 ∨ o = 13 ∨ o = 14 ∨ o = 15 ∨ o = 16 ∨ o = 17 ∨ o = 18 ∨ o = 19 ∨ o = 20 := by omega
    rcases this with rfl | rfl | rfl | rfl | rfl | rfl | rfl | rfl | rfl | rfl | rfl | rfl <;> rfl
  rw [XC_s]
  simp (disch := first | omega | exact cI _ | exact cR _ | exact cK | exact cU | exact cO _ | exact cL _) only [oS, uS.2, Nat.reduceAdd, Nat.reduceSub, Nat.reduceMul, Nat.reduceLeDiff, Nat.reduceEqDiff, Nat.add_sub_cancel, xS, gS, nL, nS, dS, fX3_does_0, fX3_does_333, mX3_does, zX3_does, nn, tt, uu, s1]
  exact h _ (fun z G' oo => key z G' oo _)
theorem cx_22 (hr : RP r p hi n nm nk A mA T G) (h : ∀ Q, (∀ z G', oC r nm mA pl G (cOp T pl C k (22, a, b) F B) z G' → Q z G') → XC xms (d + 1) 74 [.ref p, .ref r, .ref (r + 18 + 4 * k)] G Q) (hQ : ∀ z G', oC r nm mA pl G (cOp T pl C k (22, a, b) F B) z G' → Q z G') : XC xms (d + 1 + 1) 73 [.ref p, .ref r, .ref (r + 18 + 4 * k), .int (nI 22), .int (nI a), .int (nI b)] G Q := by
  have hPR := hr.2.2.2.1
  unfold PR at hPR
  have s1 : Gkd G p = 4 := hPR.1
  have tt : ((22 : Int) < 0 ∨ 0 + ((23 : Nat) : Int) ≤ 22) = False := eq_false (by decide)
  have uu : ([108, 121, 139, 159, 177, 211, 220, 245, 298, 333, 333, 333, 333, 333, 333, 333, 333, 333, 333, 333, 333, 325, 316] : List Nat)[((22 : Int) - 0).toNat]? = some 316 := rfl
  have nn : (nI 22).toInt = 22 := rfl
  rw [XC_s]
  simp (disch := first | omega | exact cI _ | exact cR _ | exact cK | exact cU | exact cO _ | exact cL _) only [oS, uS.2, Nat.reduceAdd, Nat.reduceSub, Nat.reduceMul, Nat.reduceLeDiff, Nat.reduceEqDiff, Nat.add_sub_cancel, xS, gS, nL, nS, dS, fX3_does_0, fX3_does_316, mX3_does, zX3_does, nn, tt, uu, s1]
  refine h _ (fun z G' oo => ?_)
  have fi := hQ z G' oo
  rcases oo.z with rfl | ⟨a, rfl⟩
  · simp (disch := first | omega | exact cI _ | exact cR _ | exact cK | exact cU | exact cO _ | exact cL _) only [oS, uS.2, Nat.reduceAdd, Nat.reduceSub, Nat.reduceMul, Nat.reduceLeDiff, Nat.reduceEqDiff, Nat.add_sub_cancel, xS, gS, nL, nS, dS, fX3_does_344, mX3_does, zX3_does, fi]
  · simp (disch := first | omega | exact cI _ | exact cR _ | exact cK | exact cU | exact cO _ | exact cL _) only [oS, uS.2, Nat.reduceAdd, Nat.reduceSub, Nat.reduceMul, Nat.reduceLeDiff, Nat.reduceEqDiff, Nat.add_sub_cancel, xS, gS, nL, nS, dS, mX3_does, zX3_does, fi]
/-- one instruction -/
theorem k_does {i : Ci} (hP : PGW T n nm nk pl) (hG : PGG T n) (hr : RP r p hi n nm nk A mA T G) (hc : CR G r p nm mA C lw oa ta) (hu : RU G r mA nm pl B) (hf : CF r F (k + 1) G) (h10 : B.1 10 = k + 1) (ho : okI T nm n C k i F B) (hD : 290 ≤ D) (hQ : ∀ z G', oC r nm mA pl G (cOp T pl C k i F B) z G' → Q z G') : XC xms D 73 [.ref p, .ref r, .ref (r + 18 + 4 * k), .int (nI i.1), .int (nI i.2.1), .int (nI i.2.2)] G Q := by
  obtain ⟨o, a, b⟩ := i
  obtain ⟨h12, ho⟩ := ho
  have hk12 : k < 12 := by omega
  have hn := hP.2.2.1
  have hvp := hP.vpl
  have hE := hP.2.2.2.2.2.2.1
  obtain ⟨d, rfl⟩ : ∃ d, D = d + 1 + 1 := ⟨D - 2, by omega⟩
  dsimp only at ho ⊢
  revert ho hQ
  match o with
  | 0 => exact fun hQ ho => cx_0 hr hu hf h10 hk12 ho (by omega) hQ
  | 1 => exact fun hQ ho => cx_1 hr hu hf h10 hk12 hn ho.2.1 ho.1 ho.2.2.1 ho.2.2.2 (hE a ho.2.1) (by omega) hQ
  | 2 => exact fun hQ ho => cx_2 hr hu hf h10 hk12 hc ho.1 hn ho.2.1 ho.2.2.1 ho.2.2.2 (hE a ho.2.1) (by omega) hQ
  | 3 => exact fun hQ ho => cx_3 hr hu hf h10 hk12 ho.1 hn ho.2.1 ho.2.2.1 ho.2.2.2 (hE a ho.2.1) (by omega) hQ
  | 4 => exact fun hQ ho => cx_4 hr hu hf h10 hk12 ho.1 hn ho.2.1 ho.2.2.1 ho.2.2.2 (hE a ho.2.1) (by omega) hQ
  | 5 => exact fun hQ ho => cx_5 hr hu hf h10 hk12 (by omega) hQ
  | 6 => exact fun hQ ho => cx_6 hr hu hf h10 hk12 ho.1 ho.2.2.2.2 hn ho.2.1 ho.2.2.1 ho.2.2.2.1 (hE a ho.2.1) (by omega) hQ
  | 7 => exact fun hQ ho => cx_7 hr hu hf h10 hk12 hn ho.2.1 ho.1 ho.2.2 (by omega) hQ
  | 8 =>
    intro hQ ho
    obtain ⟨x1, x2, x3, x4, t, x5, x6, x7⟩ := ho
    exact cx_8 hr hu hf h10 hk12 x1 x5 x6 x7 hn x2 x3 x4 (hE a x2) (by omega) hQ
  | 9 =>
    intro hQ ho
    obtain ⟨x1, x2, x3, na, x4, x5, x6⟩ := ho
    exact cx_w hr ⟨by omega, by omega⟩ _ (fun Q h => cw_9 hr hu hf h10 hk12 hn x2 hvp x1 x3 x4 x6 (by omega) h) hQ
  | 10 =>
    intro hQ ho
    obtain ⟨x1, x2, x3, na, x4, x5, x6⟩ := ho
    exact cx_w hr ⟨by omega, by omega⟩ _ (fun Q h => cw_10 hr hu hf h10 hk12 hn x2 hvp x1 x3 x4 x6 (by omega) h) hQ
  | 11 =>
    intro hQ ho
    obtain ⟨x1, x2, x3, ⟨na, x4, x5, x6⟩, x7, x8⟩ := ho
    have x8 : b < 8 * n := x8
    exact cx_w hr ⟨by omega, by omega⟩ _ (fun Q h => cw_11 hr hu hf h10 hk12 hn x2 hvp x1 x3 x4 x6 (by omega) x7 (by omega) h) hQ
  | 12 =>
    intro hQ ho
    have ho : a < n := ho
    exact cx_w hr ⟨by omega, by omega⟩ _ (fun Q h => cw_12 hr hu hf h10 hk12 (by omega) (by omega) h) hQ
  | 13 =>
    intro hQ ho
    have ho : b < 8 * n := ho
    exact cx_w hr ⟨by omega, by omega⟩ _ (fun Q h => cw_13 hr hu hf h10 hk12 (by omega) (by omega) h) hQ
  | 14 =>
    intro hQ ho
    have ho : b < 8 * n := ho
    exact cx_w hr ⟨by omega, by omega⟩ _ (fun Q h => cw_14 hr hu hf h10 hk12 (by omega) (by omega) h) hQ
  | 15 =>
    intro hQ ho
    have ho : b < 8 * n := ho
    exact cx_w hr ⟨by omega, by omega⟩ _ (fun Q h => cw_15 hr hu hf h10 hk12 (by omega) (by omega) h) hQ
  | 16 => exact fun hQ _ => cx_w hr ⟨by omega, by omega⟩ _ (fun Q h => cw_16 hr hu hf h10 hk12 (by omega) h) hQ
  | 17 =>
    intro hQ ho
    have ho : b < 8 * n := ho
    exact cx_w hr ⟨by omega, by omega⟩ _ (fun Q h => cw_17 hr hu hf h10 hk12 (by omega) (by omega) h) hQ
  | 18 =>
    intro hQ ho
    have ho : b < 8 * n := ho
    exact cx_w hr ⟨by omega, by omega⟩ _ (fun Q h => cw_18 hr hu hf h10 hk12 (by omega) (by omega) h) hQ
  | 19 =>
    intro hQ ho
    have ho : a < 8 * n := ho
    exact cx_w hr ⟨by omega, by omega⟩ _ (fun Q h => cw_19 hr hu hf h10 hk12 (by omega) (by omega) h) hQ
  | 20 =>
    intro hQ ho
    obtain ⟨x1, g, x2, x3⟩ := ho
    have x1 : b < 8 * n := x1
    exact cx_w hr ⟨by omega, by omega⟩ _ (fun Q h => cw_20 hr hu hf h10 hk12 (by omega) x2 x3 (by omega) h) hQ
  | 21 => exact fun hQ _ => cx_21 hr hu hf h10 hk12 (by omega) hQ
  | 22 => exact fun hQ ho => cx_22 hr (fun Q h => c_gives hr hc hu hf h10 hk12 hn ho (by omega) h) hQ
  | o + 23 => exact fun _ ho => ho.elim
/-- the rows of handlers -/
theorem l_rows {f : Nat} {at' kd : Nat} {w7 : Int32} (hr : RP r p hi n nm nk A mA T G) (hc : CR G r p nm mA C lw oa ta) (hl : RL G r) (hk12 : k < 12) (hK : KU T nk) (hkd : kd < nk) (hf : f < 2147483648) (h33 : Gfi G 33 (r + 16) = nI f) (hat : at' < 2147483648) (h0 : hlr T C.2.1 at' (nI kd) = none → ∀ x6 x7, XL xms (d + 1) 76 176 [.ref p, .ref r, .ref (r + 16), .int (nI kd), .ref (r + 18 + 4 * k), .int (nI at'), .int x6, x7] [] G Q) (h1 : ∀ t sl, hlr T C.2.1 at' (nI kd) = some (t, sl) → sl < 640 → Q (.inl none) (Sfi (Sai G (r + 21 + 4 * k) sl (nI f)) 36 (r + 18 + 4 * k) (nI t))) : ∀ (l : List Crw) (i : Nat), i + l.length = C.2.1.length → (∀ j, C.2.1[i + j]? = l[j]?) → hlr T C.2.1 at' (nI kd) = hlr T l at' (nI kd) → ∀ x7, XL xms (d + 1) 76 35 [.ref p, .ref r, .ref (r + 16), .int (nI kd), .ref (r + 18 + 4 * k), .int (nI at'), .int (nI (5 * i)), x7] [] G Q := by
  obtain ⟨l0, l1⟩ := hl
  unfold RL0 at l0
  obtain ⟨v1, v2, v3, v4, v5, v6, v7, v8, v9, v10, v11⟩ := l1 _ hk12
  obtain ⟨c1, c2, c3, c4, c5, c6, -, -, c9, c10, c11, c12, -, -, -, n3, -⟩ := hc
  have nta : (ta = r + 21 + 4 * k) = False := eq_false (fun q => n3 ⟨by omega, by omega⟩)
  have hPR := hr.2.2.2.1
  unfold PR at hPR
  have s1 : Gkd G p = 4 := hPR.1
  have p2 : Gfr G 1021 p = some (p + 2) := hPR.2.2.2.2.1
  have p3 : Gkd G (p + 2) = 100 := hPR.2.2.2.2.2.1
  have p4 : Gln G (p + 2) = 16 := hPR.2.2.2.2.2.2.1
  have hab := hr.2.2.2.2.2.2
  have hkb : kd < 2147483648 := by have := hK.1; omega
  intro l
  induction l with
  | nil =>
    intro i hi _ he x7
    have hi : i = C.2.1.length := hi
    have he : hlr T C.2.1 at' (nI kd) = none := he
    have h5 : 5 * i < 2147483648 := by omega
    have fi := fun x7 => h0 he (nI (5 * i)) x7
    have e9 : Gfi G 101 lw = nI i := by rw [c9, hi]
    rw [fX3_unwinds_35]
    simp (disch := first | omega | exact cI _ | exact cR _ | exact cK | exact cU | exact cO _ | exact cL _) only [oS, uS.2, Nat.reduceAdd, Nat.reduceSub, Nat.reduceMul, Nat.reduceLeDiff, Nat.reduceEqDiff, Nat.add_sub_cancel, xS, gS, nL, nS, dS, mX3_unwinds, zX3_unwinds, s1, c1, c2, e9, fi]
  | cons w l ih =>
    intro i hi hsu he x7
    have hi : i + (l.length + 1) = C.2.1.length := hi
    have hci : C.2.1[i]? = some w := by
      have := hsu 0
      simpa using this
    obtain ⟨⟨g1, g2, g3, g4, g5⟩, b1, b2, b4, b5⟩ := c12 i w hci
    have hle : C.2.1.length < 2147483648 := by omega
    have a5 : 5 * i < 5 * C.2.1.length := by omega
    have a6 : 5 * C.2.1.length < 2147483648 := by omega
    have i0 : 5 * i < Gln G ta := by omega
    have i1 : 5 * i + 1 < Gln G ta := by omega
    have i2 : 5 * i + 2 < Gln G ta := by omega
    have i3 : 5 * i + 3 < Gln G ta := by omega
    have i4 : 5 * i + 4 < Gln G ta := by omega
    have j0 : 5 * i < 2147483648 := by omega
    have j1 : 5 * i + 1 < 2147483648 := by omega
    have j2 : 5 * i + 2 < 2147483648 := by omega
    have j3 : 5 * i + 3 < 2147483648 := by omega
    have j4 : 5 * i + 4 < 2147483648 := by omega
    have bw1 : w.1 < 2147483648 := by omega
    have bw2 : w.2.1 < 2147483648 := by omega
    have eh : hlr T (w :: l) at' (nI kd) = if w.1 ≤ at' ∧ at' < w.2.1 ∧ (w.2.2.2.1 = NN ∨ und T 16 (nI kd).toNatClampNeg w.2.2.2.1.toNatClampNeg = true) then some (w.2.2.1, w.2.2.2.2) else hlr T l at' (nI kd) := rfl
    rw [n_clamp hkb] at eh
    have next : ¬ (w.1 ≤ at' ∧ at' < w.2.1 ∧ (w.2.2.2.1 = NN ∨ und T 16 kd w.2.2.2.1.toNatClampNeg = true)) → ∀ x7, XL xms (d + 1) 76 35 [.ref p, .ref r, .ref (r + 16), .int (nI kd), .ref (r + 18 + 4 * k), .int (nI at'), .int (nI (5 * i + 5)), x7] [] G Q := by
      intro hne x7
      rw [if_neg hne] at eh
      have := ih (i + 1) (by omega) (fun j => by
        have := hsu (j + 1)
        rw [show i + (j + 1) = i + 1 + j from by omega] at this
        simpa using this) (he.trans eh) x7
      rw [show 5 * (i + 1) = 5 * i + 5 from by omega] at this
      exact this
    rw [fX3_unwinds_35]
    by_cases q1 : w.1 ≤ at'
    · by_cases q2 : at' < w.2.1
      · have take : (w.2.2.2.1 = NN ∨ und T 16 kd w.2.2.2.1.toNatClampNeg = true) → Q (.inl none) (Sfi (Sai G (r + 21 + 4 * k) w.2.2.2.2 (nI f)) 36 (r + 18 + 4 * k) (nI w.2.2.1)) := fun q3 => by
          rw [if_pos ⟨q1, q2, q3⟩] at eh
          exact h1 _ _ (he.trans eh) b5
        have bs : w.2.2.2.2 < 2147483648 := by omega
        rcases b4 with b4 | ⟨j, ej, hj⟩
        · have fi := take (.inl b4)
          rw [b4] at g4
          simp (disch := first | omega | exact cI _ | exact cR _ | exact cK | exact cU | exact cO _ | exact cL _) only [oS, uS.2, Nat.reduceAdd, Nat.reduceSub, Nat.reduceMul, Nat.reduceLeDiff, Nat.reduceEqDiff, Nat.add_sub_cancel, xS, gS, nL, nS, dS, fX3_unwinds_86, fX3_unwinds_130, mX3_unwinds, zX3_unwinds, l0, s1, c1, c2, c3, c4, c5, c6, c9, a5, a6, i0, i1, i2, i3, i4, j0, j1, j2, j3, j4, g1, g2, g3, g4, g5, q1, q2, bw1, bw2, v2, v5, v10, v11, b5, bs, h33, nta, fi]
        · rw [ej] at g4
          have hj2 : j < 2147483648 := by omega
          have ciu : ∀ Q, XC xms (d + 1) 70 [.ref p, .int (nI kd), .int (nI j)] G Q = Q (.inl (some (.int (if und T 16 kd j = true then nI 1 else nI 0)))) G := fun Q => s_isUnder s1 p2 p3 p4 hab hK hj hkd
          by_cases q3 : und T 16 kd j = true
          · have fi := take (.inr (by rw [ej, n_clamp hj2]; exact q3))
            simp only [if_pos q3] at ciu
            simp (disch := first | omega | exact cI _ | exact cR _ | exact cK | exact cU | exact cO _ | exact cL _) only [oS, uS.2, Nat.reduceAdd, Nat.reduceSub, Nat.reduceMul, Nat.reduceLeDiff, Nat.reduceEqDiff, Nat.add_sub_cancel, xS, gS, nL, nS, dS, fX3_unwinds_86, fX3_unwinds_130, mX3_unwinds, zX3_unwinds, l0, s1, c1, c2, c3, c4, c5, c6, c9, a5, a6, i0, i1, i2, i3, i4, j0, j1, j2, j3, j4, g1, g2, g3, g4, g5, q1, q2, bw1, bw2, v2, v5, v10, v11, b5, bs, h33, nta, ciu, fi]
          · have fi := next (fun z => by
              rcases z.2.2 with z | z
              · rw [ej, n_NN hj2] at z
                exact z
              · rw [ej, n_clamp hj2] at z
                exact q3 z)
            simp only [if_neg q3] at ciu
            simp (disch := first | omega | exact cI _ | exact cR _ | exact cK | exact cU | exact cO _ | exact cL _) only [oS, uS.2, Nat.reduceAdd, Nat.reduceSub, Nat.reduceMul, Nat.reduceLeDiff, Nat.reduceEqDiff, Nat.add_sub_cancel, xS, gS, nL, nS, dS, fX3_unwinds_86, fX3_unwinds_170, mX3_unwinds, zX3_unwinds, l0, s1, c1, c2, c3, c4, c5, c6, c9, a5, a6, i0, i1, i2, i3, i4, j0, j1, j2, j3, j4, g1, g2, g3, g4, g5, q1, q2, bw1, bw2, v2, v5, v10, v11, b5, bs, h33, nta, ciu, fi]
      · have fi := next (fun z => q2 z.2.1)
        have q2' : w.2.1 ≤ at' := by omega
        simp (disch := first | omega | exact cI _ | exact cR _ | exact cK | exact cU | exact cO _ | exact cL _) only [oS, uS.2, Nat.reduceAdd, Nat.reduceSub, Nat.reduceMul, Nat.reduceLeDiff, Nat.reduceEqDiff, Nat.add_sub_cancel, xS, gS, nL, nS, dS, fX3_unwinds_85, fX3_unwinds_86, fX3_unwinds_170, mX3_unwinds, zX3_unwinds, l0, s1, c1, c2, c3, c4, c5, c6, c9, a5, a6, i0, i1, j0, j1, g1, g2, q1, q2', bw1, bw2, fi]
    · have fi := next (fun z => q1 z.1)
      have q1' : at' < w.1 := by omega
      simp (disch := first | omega | exact cI _ | exact cR _ | exact cK | exact cU | exact cO _ | exact cL _) only [oS, uS.2, Nat.reduceAdd, Nat.reduceSub, Nat.reduceMul, Nat.reduceLeDiff, Nat.reduceEqDiff, Nat.add_sub_cancel, xS, gS, nL, nS, dS, fX3_unwinds_85, fX3_unwinds_86, fX3_unwinds_170, mX3_unwinds, zX3_unwinds, l0, s1, c1, c2, c3, c4, c5, c6, c9, a5, a6, i0, i1, j0, j1, g1, g2, q1', bw1, bw2, fi]
end CODEX
