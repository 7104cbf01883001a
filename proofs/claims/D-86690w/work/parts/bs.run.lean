set_option maxRecDepth 100000
section RUN
variable {D d r kk lo hi p n nm nk : Nat} {A mA : Nat → Nat} {T : Pg} {pl : Nat → Int32 → Int32} {B B' : Bk} {G G' G2 : XG} {Q : (Option Value ⊕ Nat) → XG → Prop}
/-- guards: the first block's number of resources -/
def PGG (T : Pg) (n : Nat) : Prop := ∀ s, s < n → (Tk T s = 16 → Ta T s = 0) ∧ (Tk T s = 17 → ∃ na, Ta T s = nI na ∧ 1 ≤ na ∧ na ≤ 3)
/-- an object of a guard -/
theorem RP.gd {s : Nat} (h : RP r p hi n nm nk A mA T G) (hs : s < n) (hk : Tk T s = 16 ∨ Tk T s = 17) : Gfi G 82 (A s) = nI s ∧ p + 6 ≤ A s ∧ A s < hi ∧ Gkd G (A s) = 32 ∧ Gfi G 94 (A s) = Ta T s ∧ BA (Tp hi G) (p + 6) A (Gfr G 1135 (A s)) (Tl T s) ∧ (match To T s with
    | none => Gfr G 1138 (A s) = none
    | some f => BA (Tp hi G) (p + 6) A (Gfr G 1138 (A s)) f) ∧ CA (Tp hi G) (p + 6) A (A s) (Tc T s) := by
  rcases hk with hk | hk
  · obtain ⟨o3, o1, o2, k1, k2, k3, k4, k5⟩ := h.sk hs hk
    exact ⟨o3, o1, o2, k1, k2, k3, k4, k5⟩
  · obtain ⟨o3, o1, o2, k1, k2, k3, k4, k5⟩ := h.sk hs hk
    exact ⟨o3, o1, o2, k1, k2, k3, k4, k5⟩
/-- the first block and what catches: the walk -/
theorem w_caught {bk : Wk} {m mw tg lp dp s x y e : Nat} {tk : Int32} (hb : bkA r p hi n nm nk A mA T pl bk m) (hP : PGW T n nm nk pl) (hG : PGG T n) (wa : wB T nm mw tg lp dp (Tl T s) (s + 1) x) (wb : wC (wB T nm mw) s lp dp (Tc T s) x y) (wp : wP T nm s) (hs : s < n) (hk : Tk T s = 16 ∨ Tk T s = 17) (hm : B.1 11 - B.1 9 ≤ m) (hy : y ≤ e) (hse : s < e) (he : e ≤ n) (hl : lp + dp ≤ 6) (h : WK r p hi n nm nk A mA T pl kk tg s tk B G) (hD : dq kk dp + 2 ≤ D) (hQ : ∀ z G', oW r kk s e nm mA pl G (cau T bk s (sInner T pl bk s tk B)) z G' → Q z G') : XC xms D 263 [.ref (A s), .ref r, .ref (r + 18 + 4 * kk)] G Q := by
  have h0 := h
  obtain ⟨hr, hu, hI, hkb, h10, ht⟩ := h
  have hib := hI.1
  have hk12 : kk < 12 := by omega
  have hn80 := hP.2.2.1
  have hvp := hP.vpl
  have hnk16 := hP.2.2.2.2.1.1
  have lx := wC_le (wB_le T nm mw) wb
  have lx0 := wB_le T nm mw _ _ _ _ _ _ wa
  obtain ⟨nz, o1, o2, kz, fz, k3, -, ka, ca, L, hGU, hka, hca, hel⟩ := hr.gd hs hk
  obtain ⟨bb, ebb, hbb⟩ := k3.o
  have nsr : ¬ rgn r (A s) := hr.out (by omega) o2
  unfold GU at hGU
  obtain ⟨-, g1, g2, g3, g4, g5, g6, g7, g8, g9, g10, g11, g12⟩ := hGU
  have g1 : Gfi G 95 (A s) = nI (Tc T s).length := g1
  have g2 : Gfr G 1136 (A s) = some ka := g2
  have g3 : Gkd G ka = 100 := g3
  have g4 : Gln G ka = L := g4
  have g5 : Gfr G 1137 (A s) = some ca := g5
  have g6 : Gkd G ca = 105 := g6
  have g7 : Gln G ca = L := g7
  have g11 : ka < hi := g11
  have nka : ¬ rgn r ka := hr.out (by omega) g11
  obtain ⟨u1, u2, u3, u4, u5, u6, u7, u8, u9, u10, u11⟩ := hu.1.1.2 _ hk12
  obtain ⟨d, rfl⟩ : ∃ d, D = d + 1 + 1 := ⟨D - 2, by unfold dq at hD; omega⟩
  have hdd : dq kk dp + 1 ≤ d + 1 := by omega
  have hd3 : 280 ≤ d + 1 := by unfold dq at hdd; omega
  obtain ⟨q, hq⟩ : ∃ q, sInner T pl bk s tk B = q := ⟨_, rfl⟩
  have qiv := sInner_iv hvp hb.2.1 hb.2.2.1 (s := s) wa hm hI (fun h9 => (ht h9).2.2.2)
  have qkp := @sInner_kp T pl bk m s tk B hb.2.2.1 hm hI.le
  have qkb := sInner_kb (P := kV nk) hP.2.2.2.1 hb.2.2.2 (s := s) (tk := tk) wa (by omega) hkb
  rw [hq] at qiv qkp qkb hQ
  have t10 : ∀ kd, hX31_caught 10 kd = if kd = 7 then some 26 else none := fun _ => rfl
  have t22 : ∀ kd, hX31_caught 22 kd = if kd = 7 then some 26 else none := fun _ => rfl
  have t51 : ∀ kd, hX31_caught 51 kd = none := fun _ => rfl
  have t75 : ∀ kd, hX31_caught 75 kd = none := fun _ => rfl
  have hPR := hr.2.2.2.1
  unfold PR at hPR
  have p1 : Gkd G p = 4 := hPR.1
  have p2 : Gfr G 1021 p = some (p + 2) := hPR.2.2.2.2.1
  have p3 : Gkd G (p + 2) = 100 := hPR.2.2.2.2.2.1
  have p4 : Gln G (p + 2) = 16 := hPR.2.2.2.2.2.2.1
  -- the handler
  have hdl : q.1 = 4 → ∀ G2 x3 x4, WK r p hi n nm nk A mA T pl kk tg s tk q.2.2 G2 → KT r kk s e G G2 → RU G2 r mA nm pl q.2.2 → Gfi G2 33 (r + 16) = q.2.1 → XL xms (d + 1) 263 26 [.ref (A s), .ref r, .ref (r + 18 + 4 * kk), x3, x4] [.ref (r + 16)] G2 Q := by
    intro q4 G2 x3 x4 wk kt ru g33
    obtain ⟨i1, -, i3⟩ := qiv (by omega)
    obtain ⟨f, ef, hf⟩ := i3 q4
    obtain ⟨kd, ekd, hkd⟩ := qkb f hf
    have i14 := i1.1
    have hf401 : f < 401 := by omega
    have hfb : f < 2147483648 := by omega
    rw [ef] at g33
    have g3f : Gai G2 (r + 3) f = nI kd := (ru.1.2.2.1 3 f (.inr (.inl ⟨by omega, by omega, hf⟩))).trans ekd
    have l2 := ru.1.1.1
    unfold RL0 at l2
    have kz2 : Gkd G2 (A s) = 32 := by rw [kt.1.2.2.2.1]; exact kz
    have nz2 : Gfi G2 82 (A s) = nI s := (kt.1.2.2.2.2.2.2.2.2.1 82 _ nsr).trans nz
    have ec : cau T bk s q = (match catchFor T (nI kd) (Tc T s) with
      | none => q
      | some b => bk b q.2.1 q.2.2) := by
      unfold cau
      rw [if_pos q4, ef, n_clamp hfb, ekd]
      cases catchFor T (nI kd) (Tc T s) <;> rfl
    rw [ec] at hQ
    have r2 := hr.ye kt.1
    have v1 : Gkd G2 p = 4 := by rw [kt.1.2.2.2.1]; exact p1
    have v2 : Gfr G2 1021 p = some (p + 2) := (kt.1.1 1021 _ (.inl (by decide))).trans p2
    have v3 : Gkd G2 (p + 2) = 100 := by rw [kt.1.2.2.2.1]; exact p3
    have v4 : Gln G2 (p + 2) = 16 := by rw [kt.1.2.2.2.2.1]; exact p4
    have w1 : Gfi G2 95 (A s) = nI (Tc T s).length := (kt.1.2.2.2.2.2.2.2.2.1 95 _ nsr).trans g1
    have w2 : Gfr G2 1136 (A s) = some ka := (kt.1.1 1136 _ (.inl (by decide))).trans g2
    have w3 : Gkd G2 ka = 100 := by rw [kt.1.2.2.2.1]; exact g3
    have w4 : Gln G2 ka = L := by rw [kt.1.2.2.2.2.1]; exact g4
    have w5 : Gfr G2 1137 (A s) = some ca := (kt.1.1 1137 _ (.inl (by decide))).trans g5
    have w6 : Gkd G2 ca = 105 := by rw [kt.1.2.2.2.1]; exact g6
    have w7 : Gln G2 ca = L := by rw [kt.1.2.2.2.2.1]; exact g7
    have hel2 : ∀ (i : Nat) (x : Int32 × List Nat), (Tc T s)[i]? = some x → Gai G2 ka i = x.1 := fun i x hx => (kt.1.2.2.2.2.2.2.2.2.2.1 ka i nka).trans (hel i x hx).1
    rw [fX31_caught_26]
    simp (disch := first | omega | exact cI _ | exact cR _ | exact cK | exact cU | exact cO _ | exact cL _) only [oS, uS.2, Nat.reduceAdd, Nat.reduceSub, Nat.reduceMul, Nat.reduceLeDiff, Nat.reduceEqDiff, Nat.add_sub_cancel, xS, gS, nL, nS, dS, mX31_caught, zX31_caught, l2, kz2, g33, g3f, hf401]
    refine k_catchOf (D := d + 1) v1 v2 v3 v4 r2.2.2.2.2.2.2 hP.2.2.2.2.1 hkd l2.1 r2.2.2.1 kz2 w1 w2 w3 (by rw [w4]; exact g8) (by rw [w4]; exact g9) hel2 wp.2.2.2.2.2.2.2.2.2 (by omega) (fun hn => ?_) (fun j c hj hc hs' => ?_)
    · rw [hn] at hQ
      have fin := hQ (.inr (r + 16)) G2 ⟨kt, .inr (.inr (.inr (.inr (.inl ⟨q4, rfl, by rw [ef]; exact g33, ru⟩))))⟩
      simp (disch := first | omega | exact cI _ | exact cR _ | exact cK | exact cU | exact cO _ | exact cL _) only [oS, uS.2, Nat.reduceAdd, Nat.reduceSub, Nat.reduceMul, Nat.reduceLeDiff, Nat.reduceEqDiff, Nat.add_sub_cancel, xS, gS, nL, nS, dS, mX31_caught, zX31_caught, l2, t51, XHt_n, fin]
    · rw [hs'] at hQ
      have hQ : ∀ z G', oW r kk s e nm mA pl G (bk c.2 q.2.1 q.2.2) z G' → Q z G' := hQ
      obtain ⟨x1, y1, wcb, lx1, ly1⟩ := wC_in (wB_le T nm mw) wb hs'
      obtain ⟨bc, ebc, hbc⟩ := (hel j c hc).2.o
      have ebc2 : Gar G2 ca j = some bc := by rw [kt.1.2.2.1]; exact ebc
      have hjL : j < L := by omega
      have hjb : j < 2147483648 := by omega
      have hs8 : 8 * s + 0 < 640 := by omega
      have hs82 : 8 * s + 0 < 2147483648 := by omega
      have u22 : Gkd G2 (r + 18 + 4 * kk) = 9 := by rw [kt.1.2.2.2.1]; exact u2
      have u52 : Gfr G2 1055 (r + 18 + 4 * kk) = some (r + 21 + 4 * kk) := (kt.1.1 1055 _ (.inl (by decide))).trans u5
      have u102 : Gkd G2 (r + 21 + 4 * kk) = 100 := by rw [kt.1.2.2.2.1]; exact u10
      have u112 : Gln G2 (r + 21 + 4 * kk) = 640 := by rw [kt.1.2.2.2.2.1]; exact u11
      have ktS : KT r kk s e G2 (Sai G2 (r + 21 + 4 * kk) (8 * s + 0) (nI f)) := KT.sl hk12 (by omega) (by omega)
      have kt3 := kt.trans ktS
      have ruS : RU (Sai G2 (r + 21 + 4 * kk) (8 * s + 0) (nI f)) r mA nm pl q.2.2 := ru.sl hk12
      have wkS : WK r p hi n nm nk A mA T pl kk s (s + 1) q.2.1 q.2.2 (Sai G2 (r + 21 + 4 * kk) (8 * s + 0) (nI f)) := ⟨hr.ye kt3.1, ruS, i1, qkb, wk.2.2.2.2.1, fun _ => ⟨by omega, hk, by rw [ef]; exact Sai_s, i3 q4⟩⟩
      have hbcS : BA (Tp hi (Sai G2 (r + 21 + 4 * kk) (8 * s + 0) (nI f))) (p + 6) A (some bc) c.2 := hbc.kq kt3.1.kq (fun a q => hr.1.n (by omega))
      obtain ⟨k1, k2, k3, k4⟩ := qkp
      simp (disch := first | omega | exact cI _ | exact cR _ | exact cK | exact cU | exact cO _ | exact cL _) only [oS, uS.2, Nat.reduceAdd, Nat.reduceSub, Nat.reduceMul, Nat.reduceLeDiff, Nat.reduceEqDiff, Nat.add_sub_cancel, xS, gS, nL, nS, dS, fX31_caught_52, mX31_caught, zX31_caught, FX31_slot, mX31_slot, zX31_slot, XC_s (k := 261), l2, kz2, nz2, u22, u52, u102, u112, hs8, hs82, g33, w5, w6, w7, ebc2, hjL, hjb]
      refine hb.go wcb (by omega) (by omega) hl wkS (by omega) hbcS (by omega) (fun z G3 o _ _ => ?_)
      have fin := hQ z G3 (o.of kt3 (by omega) (by omega))
      rcases o.z with ⟨v, rfl⟩ | ⟨a, rfl⟩
      · simp (disch := first | omega | exact cI _ | exact cR _ | exact cK | exact cU | exact cO _ | exact cL _) only [oS, uS.2, Nat.reduceAdd, Nat.reduceSub, Nat.reduceMul, Nat.reduceLeDiff, Nat.reduceEqDiff, Nat.add_sub_cancel, xS, gS, nL, nS, dS, mX31_caught, zX31_caught, fin]
      · simp (disch := first | omega | exact cI _ | exact cR _ | exact cK | exact cU | exact cO _ | exact cL _) only [oS, uS.2, Nat.reduceAdd, Nat.reduceSub, Nat.reduceMul, Nat.reduceLeDiff, Nat.reduceEqDiff, Nat.add_sub_cancel, xS, gS, nL, nS, dS, mX31_caught, zX31_caught, t75, XHt_n, fin]
  -- what comes out of the first block
  have out : ∀ z G2, oW r kk s e nm mA pl G q z G2 → (q.1 ≠ 5 → WK r p hi n nm nk A mA T pl kk tg s tk q.2.2 G2) → (∀ v, z = .inl (some (.int v)) → Q (.inl (some (.int v))) G2) ∧ (∀ a, z = .inr a → XHt xms (d + 1) 263 a [.ref (A s), .ref r, .ref (r + 18 + 4 * kk), xjk, xjk] G2 Q (if Gkd G2 a = 7 then some 26 else none)) := by
    intro z G2 o wk
    rcases o.c with ⟨q4, rfl, g33, ru⟩ | ⟨q5, rfl, ru⟩ | ⟨q3, ru, v, rfl, v0, g34, hway⟩
    · refine ⟨fun v h => (by cases h), fun a h => ?_⟩
      cases h
      have l2 := ru.1.1.1
      unfold RL0 at l2
      rw [if_pos l2.2.2.2.2.2.1]
      exact hdl q4 G2 _ _ (wk (by omega)) o.1 ru g33
    · refine ⟨fun v h => (by cases h), fun a h => ?_⟩
      cases h
      have l2 := ru.1.1.1
      unfold RL0 at l2
      rw [if_neg (by rw [l2.2.2.2.2.2.2.2.1]; decide)]
      have e : cau T bk s q = q := if_neg (by omega)
      rw [e] at hQ
      exact hQ _ _ o
    · refine ⟨fun v' h => ?_, fun a h => (by cases h)⟩
      cases h
      have e : cau T bk s q = q := if_neg (by omega)
      rw [e] at hQ
      exact hQ _ _ o
  rw [XC_s]
  rcases hk with hk | hk
  · have e0 : Gfi G 94 (A s) = nI 0 := fz.trans ((hG s hs).1 hk)
    have ei : sInner T pl bk s tk B = bk (Tl T s) tk B := if_pos hk
    rw [ei] at hq
    simp (disch := first | omega | exact cI _ | exact cR _ | exact cK | exact cU | exact cO _ | exact cL _) only [oS, uS.2, Nat.reduceAdd, Nat.reduceSub, Nat.reduceMul, Nat.reduceLeDiff, Nat.reduceEqDiff, Nat.add_sub_cancel, xS, gS, nL, nS, dS, fX31_caught_0, fX31_caught_16, mX31_caught, zX31_caught, kz, e0, ebb]
    refine hb.go wa hm (by omega) hl h0 (by omega) hbb (by omega) (fun z G2 o wk _ => ?_)
    rw [hq] at o wk
    obtain ⟨a1, a2⟩ := out z G2 (o.of KT.refl (by omega) (by omega)) wk
    rcases o.z with ⟨v, rfl⟩ | ⟨a, rfl⟩
    · have fin := a1 v rfl
      simp (disch := first | omega | exact cI _ | exact cR _ | exact cK | exact cU | exact cO _ | exact cL _) only [oS, uS.2, Nat.reduceAdd, Nat.reduceSub, Nat.reduceMul, Nat.reduceLeDiff, Nat.reduceEqDiff, Nat.add_sub_cancel, xS, gS, nL, nS, dS, fX31_caught_25, mX31_caught, zX31_caught, fin]
    · have fin := a2 a rfl
      simp (disch := first | omega | exact cI _ | exact cR _ | exact cK | exact cU | exact cO _ | exact cL _) only [oS, uS.2, Nat.reduceAdd, Nat.reduceSub, Nat.reduceMul, Nat.reduceLeDiff, Nat.reduceEqDiff, Nat.add_sub_cancel, xS, gS, nL, nS, dS, mX31_caught, zX31_caught, t22, fin]
  · obtain ⟨na, ena, na1, na3⟩ := (hG s hs).2 hk
    have e0 : Gfi G 94 (A s) = nI na := fz.trans ena
    have hn0 : na < 2147483648 := by omega
    simp (disch := first | omega | exact cI _ | exact cR _ | exact cK | exact cU | exact cO _ | exact cL _) only [oS, uS.2, Nat.reduceAdd, Nat.reduceSub, Nat.reduceMul, Nat.reduceLeDiff, Nat.reduceEqDiff, Nat.add_sub_cancel, xS, gS, nL, nS, dS, fX31_caught_0, mX31_caught, zX31_caught, kz, e0, na1]
    refine w_inner (D := d + 1) hb hP wa hs hk ena na3 hm (by omega) hse he hl h0 (by omega) (fun z G2 o => ?_)
    rw [hq] at o
    obtain ⟨a1, a2⟩ := out z G2 o (fun h5 => h0.aft o.1 (Nat.le_refl _) (o.n5 h5) h5 qiv qkp qkb)
    rcases o.z with ⟨v, rfl⟩ | ⟨a, rfl⟩
    · have fin := a1 v rfl
      simp (disch := first | omega | exact cI _ | exact cR _ | exact cK | exact cU | exact cO _ | exact cL _) only [oS, uS.2, Nat.reduceAdd, Nat.reduceSub, Nat.reduceMul, Nat.reduceLeDiff, Nat.reduceEqDiff, Nat.add_sub_cancel, xS, gS, nL, nS, dS, fX31_caught_25, mX31_caught, zX31_caught, fin]
    · have fin := a2 a rfl
      simp (disch := first | omega | exact cI _ | exact cR _ | exact cK | exact cU | exact cO _ | exact cL _) only [oS, uS.2, Nat.reduceAdd, Nat.reduceSub, Nat.reduceMul, Nat.reduceLeDiff, Nat.reduceEqDiff, Nat.add_sub_cancel, xS, gS, nL, nS, dS, mX31_caught, zX31_caught, t10, fin]
end RUN
