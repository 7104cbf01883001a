set_option maxRecDepth 100000
section DRUN5
variable {T : Pg} {nm N : Nat} {pl : Nat → Int32 → Int32} {sh : Bool} {C : Cd} {bk : Wk} {n : Nat}
theorem cFl_d {K : List Sc} {h : Hf} {q k lo hi p : Nat} {F F1 : Nat → Cf} {B : Bk} {kd : Int32} (hA : hAt T C h p) (hg : prs F F1 k lo hi) (hp : (F1 k).1 = p + 1) : dEnd T nm N pl sh C (cFl kd F1 B) K h q F k lo hi (sFail kd B) := by
  refine dEnd.now (cIs.i4 hg ?_)
  rw [hp]
  exact hA _
theorem cll_d (hi0 : ivB T nm bk n) (hb : dBk T nm N pl sh C bk n) (hk : kpB bk n) (hs : sgB bk) (hP : dPg T nm N sh C) (hnm : nm ≤ 8) {K : List Sc} {h : Hf} {s p e : Nat} {tk x y : Int32} {k : Nat} {F F1 : Nat → Cf} {B : Bk}
    (k27 : Tk T s = 2 ∨ Tk T s = 7) (hsN : s < N) (hwp : wP T nm s) (c : C.1 p = (2, s, 0)) (hA : hAt T C h p) (hm : ∃ mi, Tb T s = nI mi ∧ mi < nm) (hn : B.1 11 - B.1 9 ≤ n) (hiv : Iv 0 0 0 0 0 B) (hd : B.1 10 = k + 1) (hp : (F1 k).1 = p + 1) (hg : prs F F1 k s e) :
    dEnd T nm N pl sh C (if B.1 10 = 12 then cFl 6 F1 B else (0, 0, (fun j => if j = k + 1 then (C.2.2 (Tb T s).toNatClampNeg, 0, (F1 j).2.2) else F1 j), bEnter (Tb T s).toNatClampNeg x y B)) K h (p + 1) F k s e (sCall T bk s tk x y B) := by
  unfold sCall
  by_cases d12 : B.1 10 = 12
  · rw [if_pos d12, if_pos d12]
    exact cFl_d hA hg hp
  rw [if_neg d12, if_neg d12]
  obtain ⟨mi, em, hmi⟩ := hm
  rw [em, nI_clamp (by omega)]
  obtain ⟨m, mw, dp, lo, hi, q, o1, o2, o3, o4⟩ := hP mi hmi
  have e9 : (bEnter mi x y B).1 9 = B.1 9 := by simp only [bEnter]; rw [if_neg (by omega), if_neg (by omega), if_neg (by omega)]
  have e11 : (bEnter mi x y B).1 11 = B.1 11 := by simp only [bEnter]; rw [if_neg (by omega), if_neg (by omega), if_neg (by omega)]
  have e10 : (bEnter mi x y B).1 10 = B.1 10 + 1 := rfl
  have hF : ∀ j, j < k + 1 → (fun j => if j = k + 1 then ((C.2.2 mi, 0, (F1 j).2.2) : Cf) else F1 j) j = F1 j := fun j hj => if_neg (by omega)
  have hF1 : ((fun j => if j = k + 1 then ((C.2.2 mi, 0, (F1 j).2.2) : Cf) else F1 j) (k + 1)).1 = C.2.2 mi := by
    show (if k + 1 = k + 1 then ((C.2.2 mi, 0, (F1 (k + 1)).2.2) : Cf) else F1 (k + 1)).1 = _
    rw [if_pos rfl]
  generalize (fun j => if j = k + 1 then ((C.2.2 mi, 0, (F1 j).2.2) : Cf) else F1 j) = F2 at *
  have hl := hiv.le
  have bb := hb m mw 999 0 dp [] (fun _ => none) (Tm T mi) (C.2.2 mi) q lo hi tk F2 (bEnter mi x y B) 0 (k + 1) o1 o2 (by omega) (hiv.ent d12) (by omega) hF1 (fun h9 => absurd rfl h9)
  obtain ⟨k1, k2, k3, k4⟩ := hk (Tm T mi) tk (bEnter mi x y B) (by omega) (by omega)
  have sq := hs (Tm T mi) tk (bEnter mi x y B)
  have vr := hi0 mw 999 0 dp (Tm T mi) lo hi tk (bEnter mi x y B) (xB.b _ _ _ _ _ _ _ o2) (by omega) (hiv.ent d12) (fun h9 => absurd rfl h9)
  have h12 : k + 1 < 12 := by have := hiv.1; omega
  dsimp only
  generalize bk (Tm T mi) tk (bEnter mi x y B) = r at *
  refine bb.bind (fun z iz => ?_)
  -- the end of the method: giving v
  have give : ∀ (F3 : Nat → Cf) (v0 v : Int32) (e1 : Nat), prs F2 F3 (k + 1) lo hi → (F3 (k + 1)).1 = e1 → (C.1 e1).1 = 22 → (F3 (k + 1)).2.1 = v → r.2.2.1 10 = k + 2 → dEnd T nm N pl sh C (0, v0, F3, r.2.2) K h (p + 1) F k s e (0, 0, if Tk T s = 2 then b2 (bExit r.2.2) (oVar (bExit r.2.2)) (Ta T s).toNatClampNeg v else bExit r.2.2) := by
    intro F3 v0 v e1 g3 hp3 hC hv hd3
    obtain ⟨y, t, i2⟩ : dEnd T nm N pl sh C (0, 0, fpc F3 (k + 1) (e1 + 1), if Tk T s = 2 then b2 (bExit r.2.2) (oVar (bExit r.2.2)) (Ta T s).toNatClampNeg v else bExit r.2.2) K h (p + 1) F k s e (0, 0, if Tk T s = 2 then b2 (bExit r.2.2) (oVar (bExit r.2.2)) (Ta T s).toNatClampNeg v else bExit r.2.2) := by
      refine dEnd.now (cIs.i0 ⟨fun j hj => ?_, fun i hi => ?_⟩ ?_)
      · rw [fpc_o (by omega), g3.1 j (by omega), hF j (by omega)]
        exact hg.1 j hj
      · rw [fpc_o (by omega), g3.1 k (by omega), hF k (by omega)]
        exact hg.2 i hi
      · rw [fpc_o (by omega), g3.1 k (by omega), hF k (by omega)]
        exact hp
    refine ⟨y, dTo.one ?_ (okS.op (kk := k + 1) (p := e1) (i := C.1 e1) hp3 (by omega) rfl ⟨by omega, by
      rw [hC]
      refine .inr ⟨p, ?_, by rw [c], by rw [c]; exact k27, by rw [c]; exact hsN, by rw [c]; exact hwp⟩
      show (F3 (k + 1 - 1)).1 = p + 1
      rw [Nat.add_sub_cancel, g3.1 k (by omega), hF k (by omega), hp]⟩) t, i2⟩
    unfold cGo
    rw [if_pos rfl]
    show cOp T pl C (r.2.2.1 10 - 1) (C.1 (F3 (r.2.2.1 10 - 1)).1) (fpc F3 (r.2.2.1 10 - 1) ((F3 (r.2.2.1 10 - 1)).1 + 1)) r.2.2 = _
    rw [hd3, show k + 2 - 1 = k + 1 from by omega, hp3]
    have ei : C.1 e1 = (22, (C.1 e1).2.1, (C.1 e1).2.2) := by rw [← hC]
    rw [ei]
    show (if k + 1 = 0 then ((1, (fpc F3 (k + 1) (e1 + 1) (k + 1)).2.1, fpc F3 (k + 1) (e1 + 1), bExit r.2.2) : Cs) else ((0, 0, fpc F3 (k + 1) (e1 + 1), if Tk T (C.1 ((fpc F3 (k + 1) (e1 + 1) (k + 1 - 1)).1 - 1)).2.1 = 2 then b2 (bExit r.2.2) (oVar (bExit r.2.2)) (Ta T (C.1 ((fpc F3 (k + 1) (e1 + 1) (k + 1 - 1)).1 - 1)).2.1).toNatClampNeg (fpc F3 (k + 1) (e1 + 1) (k + 1)).2.1 else bExit r.2.2) : Cs)) = _
    rw [if_neg (Nat.succ_ne_zero k), Nat.add_sub_cancel, fpc_o (show k ≠ k + 1 from by omega), g3.1 k (by omega), hF k (by omega), hp, Nat.add_sub_cancel, c, fpc_2, hv]
  rcases iz.case sq with ⟨r5, y5, yb⟩ | ⟨r4, F3, rfl, g3, hh⟩ | ⟨r0, v3, F3, rfl, g3, hp3⟩ | ⟨r13, v3, F3, rfl, g3, m3, n3, hn3, hw1, hw2, hL⟩
  · rw [if_pos r5]
    exact dEnd.now (cIs.i5' r5 y5 yb)
  · have hd3 : r.2.2.1 10 = k + 1 + 1 := by have := k4 (by omega); omega
    rw [if_neg (by omega), if_pos r4]
    refine dEnd.pop (k1 := k + 1) hd3 hh (vr.f r4) h12 ?_
    refine dEnd.now (cIs.i4 ⟨fun j hj => ?_, fun i hi => ?_⟩ ?_)
    · rw [g3.1 j (by omega), hF j (by omega)]
      exact hg.1 j hj
    · rw [g3.1 k (by omega), hF k (by omega)]
      exact hg.2 i hi
    · rw [g3.1 k (by omega), hF k (by omega), hp]
      exact hA _
  · have hd3 : r.2.2.1 10 = k + 2 := by have := k4 (by omega); omega
    have e1 : (if r.1 = 1 then r.2.1 else (0 : Int32)) = 0 := if_neg (by omega)
    rw [if_neg (by omega), if_neg (by omega), e1]
    refine dEnd.op' (kk := k + 1) (i := (21, (C.1 q).2.1, (C.1 q).2.2)) hp3 (by omega) (by rw [← o3]) ⟨by omega, trivial⟩ ?_
    show dEnd T nm N pl sh C (0, 0, fre (fpc F3 (k + 1) (q + 1)) (k + 1) 0, r.2.2) K h (p + 1) F k s e _
    exact give _ 0 0 (q + 1) g3.pc.re (by rw [fre_1, fpc_1]) o4 fre_r hd3
  · have hd3 : r.2.2.1 10 = k + 2 := by have := k4 (by omega); omega
    rw [if_neg (by omega), if_neg (by omega)]
    obtain ⟨w1, l2⟩ := hL
    rw [if_pos w1]
    exact give F3 v3 r.2.1 _ g3 rfl l2 (hw1 w1).1 hd3
theorem st_d (hb : dBk T nm N pl sh C bk n) (hk : kpB bk n) (hs : sgB bk) (hi0 : ivB T nm bk n) (hpl : vPl pl) (hP : dPg T nm N sh C) (hnm : nm ≤ 8) {m mw tg lp dp : Nat} {K : List Sc} {h : Hf} {s p q e : Nat} {tk : Int32} {k : Nat} {F : Nat → Cf} {B : Bk} {v : Int32}
    (c : okSt T sh C (okBlk T sh C m) K h s p q) (w : xSt T nm N (xB T nm N mw) tg lp dp s e) (hse : s < e) (ht : tg ≠ 999 → tg < s ∧ (F k).2.2 (8 * tg) = tk) (htv : tg ≠ 999 → vK B tk)
    (hn : B.1 11 - B.1 9 ≤ n) (hiv : Iv 1 1 1 1 1 B) (hd : B.1 10 = k + 1) (hp : (F k).1 = p) (hat : B.2 (oAt B) 0 = nI s) :
    dEnd T nm N pl sh C (0, v, F, B) K h q F k s e (stm T pl bk s tk B) := by
  have hl := hiv.le
  obtain ⟨⟨wp, w⟩, hsN, hgt⟩ := w
  have wp0 := wp
  obtain ⟨w0, w1, w2, w3, w4, w5, w6, w7, w8, w9⟩ := wp
  have h12 : k < 12 := by have := hiv.1; omega
  unfold okSt at c
  dsimp only at c
  have hpc : (fpc F k (p + 1) k).1 = p + 1 := fpc_1
  have hg : prs F (fpc F k (p + 1)) k s e := prs.refl.pc
  by_cases k27 : Tk T s = 2 ∨ Tk T s = 7
  · rw [if_pos k27] at c
    obtain ⟨c1, a1, rfl⟩ := c
    rw [stm_2 k27]
    refine dEnd.op hp hd c1 ⟨by omega, k27, hsN, wp0, hiv⟩ ?_
    show dEnd T nm N pl sh C (if (evE B (T1 T s)).1 ≠ 0 then cFl (evE B (T1 T s)).1 (fpc F k (p + 1)) B else if (evE B (T2 T s)).1 ≠ 0 then cFl (evE B (T2 T s)).1 (fpc F k (p + 1)) B else if B.1 10 = 12 then cFl 6 (fpc F k (p + 1)) B else (0, 0, (fun j => if j = k + 1 then (C.2.2 (Tb T s).toNatClampNeg, 0, (fpc F k (p + 1) j).2.2) else fpc F k (p + 1) j), bEnter (Tb T s).toNatClampNeg (evE B (T1 T s)).2 (evE B (T2 T s)).2 B)) K h (p + 1) F k s e _
    by_cases x1 : (evE B (T1 T s)).1 ≠ 0
    · rw [if_pos x1, if_pos x1]
      exact cFl_d a1 hg hpc
    rw [if_neg x1, if_neg x1]
    by_cases x2 : (evE B (T2 T s)).1 ≠ 0
    · rw [if_pos x2, if_pos x2]
      exact cFl_d a1 hg hpc
    rw [if_neg x2, if_neg x2]
    exact cll_d hi0 hb hk hs hP hnm k27 hsN wp0 c1 a1 (w8 k27) hn hiv.z hd hpc hg
  rw [if_neg k27] at c
  by_cases k8 : Tk T s = 8
  · rw [if_pos k8] at c
    obtain ⟨c1, a1, c2⟩ := c
    rw [stm_8 k8]
    refine dEnd.op hp hd c1 ⟨by omega, k8, hsN, wp0, hiv⟩ ?_
    show dEnd T nm N pl sh C (if (evE B (T1 T s)).1 ≠ 0 then cFl (evE B (T1 T s)).1 (fpc F k (p + 1)) B else (0, 0, fre (fpc F k (p + 1)) k (evE B (T1 T s)).2, B)) K h q F k s e _
    by_cases x1 : (evE B (T1 T s)).1 ≠ 0
    · rw [if_pos x1, if_pos x1]
      exact cFl_d a1 hg hpc
    rw [if_neg x1, if_neg x1]
    refine dEnd.now (cIs.iw (m := m) (n := 0) (by omega) hg.re (by omega) (fun _ => ⟨fre_r, rfl⟩) (fun h => absurd rfl h) ?_)
    rw [fre_1, fpc_1]
    exact c2
  rw [if_neg k8] at c
  by_cases k9 : Tk T s = 9
  · rw [if_pos k9] at c w
    obtain ⟨p1, c1, a1, c2, c3, c3', c4⟩ := c
    obtain ⟨d, x, -, wa, wb⟩ := w
    have la := xB_le T nm N mw _ _ _ _ _ _ wa
    have lb := wO_le (xB_le T nm N mw) wb
    rw [stm_9 k9]
    refine dEnd.op hp hd c1 ⟨by omega, k9, hsN, wp0, hiv⟩ ?_
    show dEnd T nm N pl sh C (if (evE B (T1 T s)).1 ≠ 0 then cFl (evE B (T1 T s)).1 (fpc F k (p + 1)) B else if (evE B (T2 T s)).1 ≠ 0 then cFl (evE B (T2 T s)).1 (fpc F k (p + 1)) B else (0, 0, if holds (Ta T s) (evE B (T1 T s)).2 (evE B (T2 T s)).2 = true then fpc F k (p + 1) else fpc (fpc F k (p + 1)) k (p1 + 1), B)) K h q F k s e _
    by_cases x1 : (evE B (T1 T s)).1 ≠ 0
    · rw [if_pos x1, if_pos x1]
      exact cFl_d a1 hg hpc
    rw [if_neg x1, if_neg x1]
    by_cases x2 : (evE B (T2 T s)).1 ≠ 0
    · rw [if_pos x2, if_pos x2]
      exact cFl_d a1 hg hpc
    rw [if_neg x2, if_neg x2]
    by_cases x3 : holds (Ta T s) (evE B (T1 T s)).2 (evE B (T2 T s)).2 = true
    · rw [if_pos x3, if_pos x3]
      have bb := hb m mw tg lp d K h (Tl T s) (p + 1) p1 (s + 1) x tk (fpc F k (p + 1)) B 0 k c2 wa hn hiv.z hd hpc (fun h9 => ⟨by have := (ht h9).1; omega, by rw [fpc_2]; exact (ht h9).2, htv h9⟩)
      have sq := hs (Tl T s) tk B
      obtain ⟨k1, k2, k3, k4⟩ := hk (Tl T s) tk B hn hl
      generalize bk (Tl T s) tk B = r at *
      refine bb.bind (fun y iy => ?_)
      rcases iy.case sq with ⟨r5, y5, yb⟩ | ⟨r4, F3, rfl, g3, hh⟩ | ⟨r0, v3, F3, rfl, g3, hp3⟩ | ⟨r13, v3, F3, rfl, g3, _⟩
      · exact dEnd.now (cIs.i5' r5 y5 yb)
      · exact dEnd.now (iy.uq (by omega) hg (by omega) (by omega))
      · refine dEnd.jmp hp3 (by have := k4 (by omega); omega) c3 c3' h12 ?_
        obtain ⟨z1, zv, zB⟩ := r
        dsimp only at r0
        subst r0
        exact dEnd.now (cIs.i0 (hg.trans g3 (by omega) (by omega)).pc.pc fpc_1)
      · exact dEnd.now (iy.uq (by omega) hg (by omega) (by omega))
    · rw [if_neg x3, if_neg x3]
      have wb' : ∃ mw', xB T nm N mw' tg lp d ((To T s).getD []) x e := by
        cases hT : To T s with
        | none => rw [hT] at wb; exact ⟨0, rfl, wb⟩
        | some b => rw [hT] at wb; exact ⟨mw, wb⟩
      obtain ⟨mw', wb'⟩ := wb'
      refine (hb m mw' tg lp d K h ((To T s).getD []) (p1 + 1) q x e tk (fpc (fpc F k (p + 1)) k (p1 + 1)) B 0 k c4 wb' hn hiv.z hd fpc_1 (fun h9 => ⟨by have := (ht h9).1; omega, by rw [fpc_2, fpc_2]; exact (ht h9).2, htv h9⟩)).bind (fun y iy => ?_)
      exact dEnd.now (iy.up hg.pc (by omega) (Nat.le_refl _))
  rw [if_neg k9] at c w
  by_cases k10 : Tk T s = 10
  · rw [if_pos k10] at c w
    obtain ⟨p1, c1, a1, c2, c3, c4, c5, c6⟩ := c
    obtain ⟨d, -, wa⟩ := w
    rw [stm_10 k10]
    refine dEnd.op hp hd c1 ⟨by omega, k10, hsN, wp0, hiv, rfl⟩ ?_
    show dEnd T nm N pl sh C (if (evE B (T1 T s)).1 ≠ 0 then cFl (evE B (T1 T s)).1 (fpc F k (p + 1)) B else (0, 0, fsl (fpc F k (p + 1)) k (8 * s) (evE B (T1 T s)).2, B)) K h q F k s e _
    by_cases x1 : (evE B (T1 T s)).1 ≠ 0
    · rw [if_pos x1, if_pos x1]
      exact cFl_d a1 hg hpc
    rw [if_neg x1, if_neg x1]
    refine lop_d hb hk hs hi0 k10 hsN c2 c3 c4 c5 wa ht _ _ _ _ hn hiv.z htv hd (by rw [fsl_1, fpc_1]) (hg.sl (by omega) (by omega)) ?_
    rw [fsl_i]
    unfold turns
    split
    · next hlt => exact Or.inl ⟨rfl, hlt⟩
    · next hlt =>
      refine Or.inr ⟨?_, Int32.toNatClampNeg_lt _⟩
      refine (Int32.ofNat_toNatClampNeg _ ?_).symm
      have h1 : (1 : Int32) ≤ (evE B (T1 T s)).2 := Int32.not_lt.mp hlt
      exact Int32.le_trans (by decide) h1
  rw [if_neg k10] at c w
  by_cases k11 : Tk T s = 11
  · rw [if_pos k11] at c
    rw [if_neg (by omega)] at w
    obtain ⟨j, ej, j1, j2, j3⟩ := w.2.1 (Or.inl k11)
    rw [stm_11 k11]
    rw [ej, nI_clamp (by omega)] at c
    rw [ej]
    exact dEnd.now (cIs.iw (m := m) (n := j) (by omega) prs.refl j3 (fun h => absurd h (by decide)) (fun _ => ⟨rfl, j1⟩) (by rw [hp]; exact c))
  rw [if_neg k11] at c
  by_cases k12 : Tk T s = 12
  · rw [if_pos k12] at c
    rw [if_neg (by omega)] at w
    obtain ⟨j, ej, j1, j2, j3⟩ := w.2.1 (Or.inr k12)
    rw [stm_12 k12]
    rw [ej, nI_clamp (by omega)] at c
    rw [ej]
    exact dEnd.now (cIs.iw (m := m) (n := j) (by omega) prs.refl j3 (fun h => absurd h (by decide)) (fun _ => ⟨rfl, j1⟩) (by rw [hp]; exact c))
  rw [if_neg k12] at c
  by_cases k145 : Tk T s = 14 ∨ Tk T s = 15
  · rw [if_pos k145] at c
    rw [if_neg (by omega)] at w
    obtain ⟨t1, t2, t3⟩ := w.2.2 k145
    obtain ⟨c1, a1, rfl⟩ := c
    have h9 := ht (Nat.ne_of_lt t2)
    have hx : (fpc F k (p + 1) k).2.2 (8 * (Tb T s).toNatClampNeg) = tk := by
      rw [fpc_2, t3, nI_clamp (by omega)]
      exact h9.2
    refine dEnd.op hp hd c1 ⟨by omega, k145, hsN, wp0, hiv, tg, t3, t1, hgt k145⟩ ?_
    show dEnd T nm N pl sh C (if Tk T s = 15 then (4, (fpc F k (p + 1) k).2.2 (8 * (Tb T s).toNatClampNeg), fpc F k (p + 1), B) else (4, nI (B.1 4), fpc F k (p + 1), bMakes (Ta T s) ((fpc F k (p + 1) k).2.2 (8 * (Tb T s).toNatClampNeg)) B)) K h (p + 1) F k s e _
    rw [hx]
    by_cases k15 : Tk T s = 15
    · rw [if_pos k15, stm_15 k15]
      refine dEnd.now (cIs.i4 hg ?_)
      rw [fpc_1]
      exact a1 _
    · rw [if_neg k15, stm_14 (by omega)]
      refine dEnd.now (cIs.i4 hg ?_)
      rw [fpc_1]
      exact a1 _
  rw [if_neg k145] at c
  by_cases k16 : Tk T s = 16 ∨ Tk T s = 17
  · rw [if_pos k16] at c w
    obtain ⟨d, x, y, -, wa, wb, wc, w99, w17⟩ := w
    rw [stm_16 k16]
    exact grd_d hb hk hs hi0 hpl k16 hsN c wa wb wc (by omega) (fun h => w17 (by omega)) ht htv hn hiv.z hd hp hat
  rw [if_neg k16] at c
  obtain ⟨c1, a1, rfl⟩ := c
  have hpl2 : isPl (Tk T s) := by unfold isPl; omega
  refine dEnd.op hp hd c1 ⟨by omega, hpl2, hsN, wp0, hiv⟩ ?_
  show dEnd T nm N pl sh C (cRs (fpc F k (p + 1)) (stm T pl (fun _ _ B => (0, 0, B)) s NN B)) K h (p + 1) F k s e _
  rw [stm_pl (bk' := bk) (tk' := tk) hpl2]
  have h04 := stm_04 (T := T) (pl := pl) (bk := bk) (s := s) (tk := tk) (B := B) hpl2
  generalize stm T pl bk s tk B = z at *
  obtain ⟨z1, zv, zB⟩ := z
  dsimp only at h04
  unfold cRs
  dsimp only
  rcases h04 with rfl | rfl
  · rw [if_pos rfl]
    exact dEnd.now (cIs.i0 hg hpc)
  · rw [if_neg (by decide), if_neg (by decide)]
    refine dEnd.now (cIs.i4 hg ?_)
    rw [hpc]
    exact a1 _
/-- THE RUN OF A BLOCK'S CODE IS ITS MEANING -/
theorem blk_d (hpl : vPl pl) (hP : dPg T nm N sh C) (hW : wPg T nm) (hnm : nm ≤ 8) : ∀ n, dBk T nm N pl sh C (sBlk T pl n) n := by
  intro n
  induction n with
  | zero =>
    intro m mw tg lp dp K h ss p q lo hi tk F B v k c w hn hiv hd hp ht
    have hsp : isSpent B = true := by
      have := hiv.le
      unfold isSpent
      rw [show B.1 9 = B.1 11 from by omega]
      exact beq_self_eq_true _
    unfold sBlk
    match ss with
    | [] =>
      have : p = q := by
        cases m with
        | zero => exact c.2
        | succ m => exact c
      exact dEnd.now (cIs.i0 prs.refl (hp.trans this))
    | s :: r =>
      cases m with
      | zero => exact absurd c.1 (by intro h; cases h)
      | succ m =>
        obtain ⟨p1, c1, -⟩ := c
        refine dEnd.op hp hd c1 ⟨by have := hiv.1; omega, hiv⟩ ?_
        show dEnd T nm N pl sh C (if isSpent B = true then (5, 0, fpc F k (p + 1), B) else (0, 0, fpc F k (p + 1), b2 (bStp B) (oAt B) 0 (nI s))) K h q F k lo hi _
        rw [if_pos hsp]
        exact dEnd.now cIs.i5
  | succ n ih =>
    intro m mw tg lp dp K h ss p q lo hi tk F B v k c w hn hiv hd hp ht
    unfold sBlk
    match ss with
    | [] =>
      have : p = q := by
        cases m with
        | zero => exact c.2
        | succ m => exact c
      exact dEnd.now (cIs.i0 prs.refl (hp.trans this))
    | s :: r =>
      cases m with
      | zero => exact absurd c.1 (by intro h; cases h)
      | succ m =>
        cases mw with
        | zero => exact absurd w.1 (by intro h; cases h)
        | succ mw =>
          obtain ⟨p1, c1, c2, c3⟩ := c
          obtain ⟨rfl, e, he, ws, wr⟩ := w
          have hle := xB_le T nm N mw _ _ _ _ _ _ wr
          refine dEnd.op hp hd c1 ⟨by have := hiv.1; omega, hiv⟩ ?_
          show dEnd T nm N pl sh C (if isSpent B = true then (5, 0, fpc F k (p + 1), B) else (0, 0, fpc F k (p + 1), b2 (bStp B) (oAt B) 0 (nI s))) K h q F k s hi (if isSpent B = true then (5, 0, B) else _)
          by_cases hsp : isSpent B = true
          · rw [if_pos hsp, if_pos hsp]
            exact dEnd.now cIs.i5
          rw [if_neg hsp, if_neg hsp]
          have hl := isSpent_no hsp hiv.le
          have e9 : (b2 (bStp B) (oAt B) 0 (nI s)).1 9 = B.1 9 + 1 := rfl
          have e11 : (b2 (bStp B) (oAt B) 0 (nI s)).1 11 = B.1 11 := rfl
          have e10 : (b2 (bStp B) (oAt B) 0 (nI s)).1 10 = B.1 10 := rfl
          have e4 : (b2 (bStp B) (oAt B) 0 (nI s)).1 4 = B.1 4 := rfl
          have hat : (b2 (bStp B) (oAt B) 0 (nI s)).2 (oAt (b2 (bStp B) (oAt B) 0 (nI s))) 0 = nI s := if_pos ⟨rfl, rfl⟩
          have hi1 : Iv 1 1 1 1 1 (b2 (bStp B) (oAt B) 0 (nI s)) := (hiv.stp hsp).sat
          have bb := st_d (v := 0) ih (sBlk_kp T pl n) (sBlk_sg T pl n) (sBlk_iv hpl hW hnm n) hpl hP hnm (F := fpc F k (p + 1)) (B := b2 (bStp B) (oAt B) 0 (nI s)) (k := k) c2 ws he (fun h9 => ⟨(ht h9).1, by rw [fpc_2]; exact (ht h9).2.1⟩) (fun h9 => (ht h9).2.2.mono (Nat.le_of_eq e4.symm)) (by omega) hi1 (by omega) fpc_1 hat
          obtain ⟨k1, k2, k3, k4⟩ := @stm_kp T pl (sBlk T pl n) n s tk (b2 (bStp B) (oAt B) 0 (nI s)) (sBlk_kp T pl n) (by omega) (by omega)
          have sq := @stm_sg T pl (sBlk T pl n) s tk (b2 (bStp B) (oAt B) 0 (nI s)) (sBlk_sg T pl n)
          have vz := stm_iv hpl (sBlk_iv hpl hW hnm n) (sBlk_kp T pl n) hW hnm (wS_m (xB.b mw) ws.1) (B := b2 (bStp B) (oAt B) 0 (nI s)) (tk := tk) (by omega) hi1 (fun h9 => (ht h9).2.2.mono (Nat.le_of_eq e4.symm))
          dsimp only
          generalize stm T pl (sBlk T pl n) s tk (b2 (bStp B) (oAt B) 0 (nI s)) = z at *
          refine bb.bind (fun y iy => ?_)
          by_cases z0 : z.1 = 0
          · rw [if_pos z0]
            rcases iy.case sq with ⟨z5, _⟩ | ⟨z4, _⟩ | ⟨_, v2, F2, rfl, g2, hp2⟩ | ⟨z13, _⟩
            · omega
            · omega
            · obtain ⟨i1, i2, i3⟩ := vz (by omega)
              have g3 : prs F F2 k s hi := (prs.refl.pc).trans g2 (Nat.le_refl _) hle
              refine (ih m mw tg lp dp K h r p1 q e hi tk F2 z.2.2 v2 k c3 wr (by omega) i1 (by have := k4 (by omega); omega) hp2 (fun h9 => ⟨by have := (ht h9).1; omega, ?_, (ht h9).2.2.mono (by omega)⟩)).bind (fun y iy => dEnd.now (iy.up g3 (by omega) (Nat.le_refl _)))
              rw [g3.2 _ (by have := (ht h9).1; omega)]
              exact (ht h9).2.1
            · omega
          · rw [if_neg z0]
            exact dEnd.now (iy.uq z0 prs.refl.pc (Nat.le_refl _) hle)
end DRUN5
