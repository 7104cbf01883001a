set_option maxRecDepth 100000
section RUN
variable {r kk lo hi p n nm nk : Nat} {A mA : Nat → Nat} {T : Pg} {pl : Nat → Int32 → Int32} {B : Bk} {G G' G2 : XG}
/-- what an object holds of a statement -/
theorem RP.sk {s k : Nat} (h : RP r p hi n nm nk A mA T G) (hs : s < n) (hk : Tk T s = k) : Gfi G 82 (A s) = nI s ∧ p + 6 ≤ A s ∧ A s < hi ∧ SK (Tp hi G) (p + 6) A (A s) (Ta T s) (Tb T s) (T1 T s) (T2 T s) (Tl T s) (To T s) (Tc T s) k := by
  obtain ⟨-, o1, o2, o3, o4⟩ := h.so hs
  have o4 : SK (Tp hi G) (p + 6) A (A s) (Ta T s) (Tb T s) (T1 T s) (T2 T s) (Tl T s) (To T s) (Tc T s) (Tk T s) := o4
  rw [hk] at o4
  exact ⟨o3, o1, o2, o4⟩
theorem w_mark {d s : Nat} {bk : Wk} {tk : Int32} {Q : (Option Value ⊕ Nat) → XG → Prop} (h : RP r p hi n nm nk A mA T G) (hu : RU G r mA nm pl B) (hI : Iv 1 1 1 1 1 B) (h10 : B.1 10 = kk + 1) (hs : s < n) (hn : n ≤ 80) (hk : Tk T s = 0) (hD : 5 ≤ d) (hQ : ∀ z G', oW r kk s (s + 1) nm mA pl G (stm T pl bk s tk B) z G' → Q z G') : XC xms (d + 1) 223 [.ref (A s), .ref r, .ref (r + 18 + 4 * kk)] G Q := by
  have hb := hI.1
  have hk12 : kk < 12 := by omega
  have hB := hI.bv h10
  obtain ⟨o3, o1, o2, k1, k2⟩ := h.sk hs hk
  have kz : Gkd G (A s) = 25 := k1
  have fz : Gfi G 89 (A s) = Ta T s := k2
  have e : stm T pl bk s tk B = if pl (7 * s) ((bPass (7 * s) B).2 12 (7 * s)) = NN then (0, 0, b1 (b2 (bPass (7 * s) B) 2 ((bPass (7 * s) B).1 3) (Ta T s)) 3 ((bPass (7 * s) B).1 3 + 1)) else sFail (pl (7 * s) ((bPass (7 * s) B).2 12 (7 * s))) (bPass (7 * s) B) := by
    unfold stm
    simp only [hk]
    rfl
  rw [e] at hQ
  refine w_plain (m := 234) (by rw [kz]; rfl) (p_mark hu hB.1 (by omega) hB.2.1 (by omega) hk12 kz o3 hD (fun c G3 a1 y3 => .inl ⟨rfl, ?_⟩) (fun c G3 a1 f3 y3 => .inr ⟨⟨_, rfl⟩, ?_⟩))
  · rw [if_pos c] at hQ
    rw [fz] at a1
    exact hQ _ _ ⟨y3.kt hk12, .inl ⟨rfl, rfl, a1⟩⟩
  · rw [if_neg c] at hQ
    exact hQ _ _ (oW.fail a1 f3 y3 hk12)
theorem w_newR {d s : Nat} {bk : Wk} {tk : Int32} {Q : (Option Value ⊕ Nat) → XG → Prop} (h : RP r p hi n nm nk A mA T G) (hu : RU G r mA nm pl B) (hI : Iv 1 1 1 1 1 B) (h10 : B.1 10 = kk + 1) (hs : s < n) (hk : Tk T s = 3) (hw : wP T nm s) (hD : (T1 T s).length + 9 ≤ d) (hQ : ∀ z G', oW r kk s (s + 1) nm mA pl G (stm T pl bk s tk B) z G' → Q z G') : XC xms (d + 1) 223 [.ref (A s), .ref r, .ref (r + 18 + 4 * kk)] G Q := by
  have hb := hI.1
  have hk12 : kk < 12 := by omega
  have hB := hI.bv h10
  obtain ⟨o3, o1, o2, k1, k2, k3⟩ := h.sk hs hk
  obtain ⟨b, hb1, hv⟩ := h.val hu hB k3 (hw.2.2.2.2.2.2.1 (by omega))
  obtain ⟨j, ej, hj⟩ := hw.2.2.2.1 (by omega)
  have kz : Gkd G (A s) = 23 := k1
  have fz : Gfi G 86 (A s) = nI j := Eq.trans k2 ej
  have e : stm T pl bk s tk B = if (evE B (T1 T s)).1 ≠ 0 then sFail (evE B (T1 T s)).1 B else if 0 ≤ (evE B (T1 T s)).2 ∧ (evE B (T1 T s)).2 ≤ 8 then (0, 0, bNew (evE B (T1 T s)).2 j kk B) else sFail 5 B := by
    have e0 : oRow B = 20 + 4 * kk := by unfold oRow; omega
    unfold stm
    simp only [hk, ej, n_clamp (show j < 2147483648 by omega), e0]
    rfl
  rw [e] at hQ
  refine w_plain (m := 229) (by rw [kz]; rfl) (p_new hu hB (by omega) kz fz hj hb1 (h.out (by omega) o2) hv (by omega) (fun q G3 a1 a2 a3 => .inr ⟨⟨_, rfl⟩, ?_⟩) (fun q c G3 a1 a2 a3 => .inr ⟨⟨_, rfl⟩, ?_⟩) (fun q c G3 a1 a2 => .inl ⟨rfl, ?_⟩))
  · rw [if_pos q] at hQ
    exact hQ _ _ (oW.fail a1 a2 a3 hk12)
  · rw [if_neg (fun z => z q), if_neg c] at hQ
    exact hQ _ _ (oW.fail a1 a2 a3 hk12)
  · rw [if_neg (fun z => z q), if_pos c] at hQ
    exact hQ _ _ ⟨a2.kt hk12, .inl ⟨rfl, rfl, a1⟩⟩
theorem w_none {d s : Nat} {bk : Wk} {tk : Int32} {Q : (Option Value ⊕ Nat) → XG → Prop} (h : RP r p hi n nm nk A mA T G) (hu : RU G r mA nm pl B) (hI : Iv 1 1 1 1 1 B) (h10 : B.1 10 = kk + 1) (hs : s < n) (hk : Tk T s = 4) (hw : wP T nm s) (hD : 1 ≤ d) (hQ : ∀ z G', oW r kk s (s + 1) nm mA pl G (stm T pl bk s tk B) z G' → Q z G') : XC xms (d + 1) 223 [.ref (A s), .ref r, .ref (r + 18 + 4 * kk)] G Q := by
  have hb := hI.1
  have hk12 : kk < 12 := by omega
  have hB := hI.bv h10
  obtain ⟨o3, o1, o2, k1, k2, k3⟩ := h.sk hs hk
  obtain ⟨j, ej, hj⟩ := hw.2.2.2.1 (by omega)
  have kz : Gkd G (A s) = 24 := k1
  have fz : Gfi G 87 (A s) = nI j := Eq.trans k2 ej
  have e : stm T pl bk s tk B = (0, 0, b2 B (oRow B) j NN) := by
    unfold stm
    simp only [hk, ej, n_clamp (show j < 2147483648 by omega)]
    rfl
  rw [e] at hQ
  exact w_plain (m := 231) (by rw [kz]; rfl) (p_same hu hB kz fz hj (.inl ⟨k3, rfl⟩) hD (fun G3 a1 a2 => .inl ⟨rfl, hQ _ _ ⟨a2.kt hk12, .inl ⟨rfl, rfl, a1⟩⟩⟩))
theorem w_copy {d s : Nat} {bk : Wk} {tk : Int32} {Q : (Option Value ⊕ Nat) → XG → Prop} (h : RP r p hi n nm nk A mA T G) (hu : RU G r mA nm pl B) (hI : Iv 1 1 1 1 1 B) (h10 : B.1 10 = kk + 1) (hs : s < n) (hk : Tk T s = 5) (hw : wP T nm s) (hD : 1 ≤ d) (hQ : ∀ z G', oW r kk s (s + 1) nm mA pl G (stm T pl bk s tk B) z G' → Q z G') : XC xms (d + 1) 223 [.ref (A s), .ref r, .ref (r + 18 + 4 * kk)] G Q := by
  have hb := hI.1
  have hk12 : kk < 12 := by omega
  have hB := hI.bv h10
  obtain ⟨o3, o1, o2, k1, k2, k3⟩ := h.sk hs hk
  obtain ⟨j, ej, hj⟩ := hw.2.2.2.1 (by omega)
  obtain ⟨i, ei, hi3⟩ := hw.2.2.2.2.1 (by omega)
  have kz : Gkd G (A s) = 24 := k1
  have fz : Gfi G 87 (A s) = nI j := Eq.trans k2 ej
  have gz : Gfi G 88 (A s) = nI i := Eq.trans k3 ei
  have e : stm T pl bk s tk B = (0, 0, b2 B (oRow B) j (B.2 (20 + 4 * kk) i)) := by
    have e0 : oRow B = 20 + 4 * kk := by unfold oRow; omega
    unfold stm rowOf
    simp only [hk, ej, ei, n_clamp (show j < 2147483648 by omega), n_clamp (show i < 2147483648 by omega), e0]
    rfl
  rw [e] at hQ
  exact w_plain (m := 231) (by rw [kz]; rfl) (p_same hu hB kz fz hj (.inr ⟨i, gz, hi3, rfl⟩) hD (fun G3 a1 a2 => .inl ⟨rfl, hQ _ _ ⟨a2.kt hk12, .inl ⟨rfl, rfl, a1⟩⟩⟩))
theorem w_put {d s : Nat} {bk : Wk} {tk : Int32} {Q : (Option Value ⊕ Nat) → XG → Prop} (h : RP r p hi n nm nk A mA T G) (hu : RU G r mA nm pl B) (hI : Iv 1 1 1 1 1 B) (h10 : B.1 10 = kk + 1) (hs : s < n) (hk : Tk T s = 6) (hw : wP T nm s) (hD : (T1 T s).length + (T2 T s).length + 9 ≤ d) (hQ : ∀ z G', oW r kk s (s + 1) nm mA pl G (stm T pl bk s tk B) z G' → Q z G') : XC xms (d + 1) 223 [.ref (A s), .ref r, .ref (r + 18 + 4 * kk)] G Q := by
  have hb := hI.1
  have hk12 : kk < 12 := by omega
  have hB := hI.bv h10
  obtain ⟨o3, o1, o2, k1, ⟨y, k2, k3, k4, k5, k6, k7⟩, k8⟩ := h.sk hs hk
  obtain ⟨b, hb1, hv⟩ := h.val hu hB k7 (hw.2.2.2.2.2.2.1 (by omega))
  obtain ⟨c, hc1, hv2⟩ := h.val hu hB k8 (hw.2.2.2.2.2.2.2.1 (by omega))
  obtain ⟨j, ej, hj⟩ := hw.2.2.2.1 (by omega)
  have kz : Gkd G (A s) = 22 := k1
  have fz : Gfi G 81 y = nI j := Eq.trans k6 ej
  have e : stm T pl bk s tk B = if (evE B (T1 T s)).1 ≠ 0 then sFail (evE B (T1 T s)).1 B else if (evE B (T2 T s)).1 ≠ 0 then sFail (evE B (T2 T s)).1 B else if rowOf B (nI j) = NN then sFail 4 B else if inRow B (rowOf B (nI j)) (evE B (T1 T s)).2 = true then (0, 0, b2 B 15 (cellOf (rowOf B (nI j)) (evE B (T1 T s)).2) (evE B (T2 T s)).2) else sFail 3 B := by
    unfold stm
    simp only [hk, ej]
    rfl
  rw [e] at hQ
  refine w_plain (m := 227) (by rw [kz]; rfl) (p_put hu hB kz k2 k5 fz hj hb1 hc1 hv hv2 (by omega) (fun q G3 a1 a2 a3 => .inr ⟨⟨_, rfl⟩, ?_⟩) (fun q q2 G3 a1 a2 a3 => .inr ⟨⟨_, rfl⟩, ?_⟩) (fun q q2 q3 G3 a1 a2 a3 => .inr ⟨⟨_, rfl⟩, ?_⟩) (fun q q2 q3 q4 G3 a1 a2 a3 => .inr ⟨⟨_, rfl⟩, ?_⟩) (fun q q2 q3 q4 G3 a1 a2 => .inl ⟨rfl, ?_⟩))
  · rw [if_pos q] at hQ
    exact hQ _ _ (oW.fail a1 a2 a3 hk12)
  · rw [if_neg (fun z => z q), if_pos q2] at hQ
    exact hQ _ _ (oW.fail a1 a2 a3 hk12)
  · rw [if_neg (fun z => z q), if_neg (fun z => z q2), if_pos q3] at hQ
    exact hQ _ _ (oW.fail a1 a2 a3 hk12)
  · rw [if_neg (fun z => z q), if_neg (fun z => z q2), if_neg q3, if_neg (fun z => Bool.noConfusion (q4.symm.trans z))] at hQ
    exact hQ _ _ (oW.fail a1 a2 a3 hk12)
  · rw [if_neg (fun z => z q), if_neg (fun z => z q2), if_neg q3, if_pos q4] at hQ
    exact hQ _ _ ⟨a2.kt hk12, .inl ⟨rfl, rfl, a1⟩⟩
theorem w_throw {d s : Nat} {bk : Wk} {tk : Int32} {Q : (Option Value ⊕ Nat) → XG → Prop} (h : RP r p hi n nm nk A mA T G) (hu : RU G r mA nm pl B) (hI : Iv 1 1 1 1 1 B) (h10 : B.1 10 = kk + 1) (hs : s < n) (hk : Tk T s = 13) (hD : 4 ≤ d) (hQ : ∀ z G', oW r kk s (s + 1) nm mA pl G (stm T pl bk s tk B) z G' → Q z G') : XC xms (d + 1) 223 [.ref (A s), .ref r, .ref (r + 18 + 4 * kk)] G Q := by
  have hb := hI.1
  have hk12 : kk < 12 := by omega
  have hB := hI.bv h10
  obtain ⟨o3, o1, o2, k1, k2⟩ := h.sk hs hk
  have kz : Gkd G (A s) = 30 := k1
  have fz : Gfi G 92 (A s) = Ta T s := k2
  have e : stm T pl bk s tk B = sFail (Ta T s) B := by
    unfold stm
    simp only [hk]
    rfl
  rw [e] at hQ
  refine w_plain (m := 252) (by rw [kz]; rfl) (p_throw (kk := r + 18 + 4 * kk) (f := .null) hu hB.1 hB.2.1 kz rfl hD (fun G3 a1 a2 a3 => .inr ⟨⟨_, rfl⟩, ?_⟩))
  rw [fz] at a1
  exact hQ _ _ (oW.fail a1 a2 a3 hk12)
/-- again, wrap: the walk; y the guard whose catch is around -/
theorem w_again {d s t : Nat} {bk : Wk} {tk : Int32} {Q : (Option Value ⊕ Nat) → XG → Prop} (h : RP r p hi n nm nk A mA T G) (hu : RU G r mA nm pl B) (hI : Iv 1 1 1 1 1 B) (h10 : B.1 10 = kk + 1) (hs : s < n) (hn : n ≤ 80) (hk : Tk T s = 14 ∨ Tk T s = 15) (hw : wP T nm s) (hb : Tb T s = nI t) (ht : t < s) (hkt : Tk T t = 16 ∨ Tk T t = 17) (htk : Gai G (r + 21 + 4 * kk) (8 * t) = tk) (hD : 5 ≤ d) (hQ : ∀ z G', oW r kk s (s + 1) nm mA pl G (stm T pl bk s tk B) z G' → Q z G') : XC xms (d + 1) 255 [.ref (A s), .ref r, .ref (r + 18 + 4 * kk)] G Q := by
  have hib := hI.1
  have hk12 : kk < 12 := by omega
  have hB := hI.bv h10
  have hyk : Gkd G (A t) = 32 ∧ Gfi G 82 (A t) = nI t := by
    rcases hkt with q | q
    · obtain ⟨a1, -, -, a2, -⟩ := h.sk (s := t) (by omega) q
      exact ⟨a2, a1⟩
    · obtain ⟨a1, -, -, a2, -⟩ := h.sk (s := t) (by omega) q
      exact ⟨a2, a1⟩
  have nt : t ≠ 999 := by omega
  rcases hk with hk | hk
  · obtain ⟨o3, o1, o2, k1, k2, m, em, hm, k3⟩ := h.sk hs hk
    have emt : m = t := nI_inj (by omega) (by omega) (em.symm.trans hb)
    subst emt
    obtain ⟨j, ej, hj⟩ := hw.2.2.2.2.2.1 (.inr hk)
    have kz : Gkd G (A s) = 31 := k1
    have fz : Gfi G 93 (A s) = Ta T s := k2
    have yz : Gfr G 1134 (A s) = some (A m) := by
      rw [if_neg nt] at k3
      exact k3
    have e : stm T pl bk s tk B = (4, nI (B.1 4), bMakes (Ta T s) tk B) := by
      unfold stm
      simp only [hk]
      rfl
    rw [e] at hQ
    rw [XC_s]
    simp (disch := first | omega | exact cI _ | exact cR _ | exact cK | exact cU | exact cO _ | exact cL _) only [oS, uS.2, Nat.reduceAdd, Nat.reduceSub, Nat.reduceMul, Nat.reduceLeDiff, Nat.reduceEqDiff, Nat.add_sub_cancel, xS, gS, nL, nS, dS, fX30_walk_0, mX30_walk, zX30_walk, kz]
    refine p_again hu hB.1 hB.2.1 hk12 kz yz hyk.1 hyk.2 (by omega) htk (by omega) (fun q => ?_) (fun q G3 a1 a2 a3 => ?_)
    · rw [fz, ej, n_NN (by omega)] at q
      exact q.elim
    · have l3 := a1.1.1.1
      unfold RL0 at l3
      rw [fz] at a1
      have fin := hQ (.inr (r + 16)) G3 ⟨a3.kt hk12, .inr (.inr (.inr (.inr (.inl ⟨rfl, rfl, a2, a1⟩))))⟩
      simp (disch := first | omega | exact cI _ | exact cR _ | exact cK | exact cU | exact cO _ | exact cL _) only [oS, uS.2, Nat.reduceAdd, Nat.reduceSub, Nat.reduceMul, Nat.reduceLeDiff, Nat.reduceEqDiff, Nat.add_sub_cancel, xS, gS, nL, nS, dS, mX30_walk, zX30_walk, l3, fin]
  · obtain ⟨o3, o1, o2, k1, k2, m, em, hm, k3⟩ := h.sk hs hk
    have emt : m = t := nI_inj (by omega) (by omega) (em.symm.trans hb)
    subst emt
    have kz : Gkd G (A s) = 31 := k1
    have fz : Gfi G 93 (A s) = NN := k2
    have yz : Gfr G 1134 (A s) = some (A m) := by
      rw [if_neg nt] at k3
      exact k3
    have e : stm T pl bk s tk B = (4, tk, B) := by
      unfold stm
      simp only [hk]
      rfl
    rw [e] at hQ
    rw [XC_s]
    simp (disch := first | omega | exact cI _ | exact cR _ | exact cK | exact cU | exact cO _ | exact cL _) only [oS, uS.2, Nat.reduceAdd, Nat.reduceSub, Nat.reduceMul, Nat.reduceLeDiff, Nat.reduceEqDiff, Nat.add_sub_cancel, xS, gS, nL, nS, dS, fX30_walk_0, mX30_walk, zX30_walk, kz]
    refine p_again hu hB.1 hB.2.1 hk12 kz yz hyk.1 hyk.2 (by omega) htk (by omega) (fun q G3 a1 a2 a3 => ?_) (fun q => absurd fz q)
    have l3 := a1.1.1.1
    unfold RL0 at l3
    have fin := hQ (.inr (r + 16)) G3 ⟨a3.kt hk12, .inr (.inr (.inr (.inr (.inl ⟨rfl, rfl, a2, a1⟩))))⟩
    simp (disch := first | omega | exact cI _ | exact cR _ | exact cK | exact cU | exact cO _ | exact cL _) only [oS, uS.2, Nat.reduceAdd, Nat.reduceSub, Nat.reduceMul, Nat.reduceLeDiff, Nat.reduceEqDiff, Nat.add_sub_cancel, xS, gS, nL, nS, dS, mX30_walk, zX30_walk, l3, fin]
end RUN
