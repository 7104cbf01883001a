set_option maxRecDepth 100000
section RUN
variable {D r nm kk : Nat} {mA : Nat → Nat} {pl : Nat → Int32 → Int32} {B B' : Bk} {G G' : XG} {Q : (Option Value ⊕ Nat) → XG → Prop}
/-- a node's value -/
def VAL (r nm kk : Nat) (mA : Nat → Nat) (pl : Nat → Int32 → Int32) (B : Bk) (G : XG) (a : Nat) (es : List En) : Prop := ∃ mb k v, xlo [(14, 205), (15, 207), (16, 209), (17, 211)] (Gkd G a) = some mb ∧ EV B es k v ∧ ∀ D Q, es.length + 6 ≤ D → (k = 0 → Q (.inl (some (.int v))) G) → (k ≠ 0 → FK r mA nm pl B G k Q) → XC xms D mb [.ref a, .ref r, .ref (r + 18 + 4 * kk)] G Q
theorem v_num {a : Nat} (hk : Gkd G a = 15) : VAL r nm kk mA pl B G a [(0, Gfi G 79 a)] := by
  refine ⟨207, 0, Gfi G 79 a, by rw [hk]; rfl, EV.one (fun st => ⟨fun _ => rfl, fun q => absurd rfl q⟩), fun D Q hD h0 _ => ?_⟩
  obtain ⟨d, rfl⟩ : ∃ d, D = d + 1 := ⟨D - 1, by omega⟩
  have fin := h0 rfl
  rw [XC_s]
  simp (disch := first | omega | exact cI _ | exact cR _ | exact cK | exact cU | exact cO _ | exact cL _) only [oS, uS.2, Nat.reduceAdd, Nat.reduceSub, Nat.reduceMul, Nat.reduceLeDiff, Nat.reduceEqDiff, Nat.add_sub_cancel, xS, gS, nL, nS, dS, fX14_value_0, mX14_value, zX14_value, hk, fin]
theorem v_var {a j : Nat} (h : RU G r mA nm pl B) (hB : BV B kk) (hk : Gkd G a = 16) (hj : Gfi G 80 a = nI j) (hj6 : j < 6) : VAL r nm kk mA pl B G a [(1, Gfi G 80 a)] := by
  obtain ⟨hc, h4, h10, hrow, hsz⟩ := hB
  have hk12 : kk < 12 := by have := hc.2.2.2.2.2.2.2.2.2.1; omega
  obtain ⟨q1, q2, q3, q4, q5, q6, q7, q8, q9, -⟩ := h.1.1.2 _ hk12
  have er : Gai G (r + 19 + 4 * kk) j = B.2 (19 + 4 * kk) j := by
    have := h.1.2.2.1 (19 + 4 * kk) j (.inr (.inr (.inr (.inr (.inr (.inr (.inr (.inr (.inr ⟨by omega, by omega, .inl ⟨by omega, hj6⟩⟩)))))))))
    rw [← this]
    congr 1
    omega
  have ov : oVar B = 19 + 4 * kk := by
    unfold oVar
    omega
  refine ⟨209, 0, B.2 (19 + 4 * kk) j, by rw [hk]; rfl, EV.one (fun st => ⟨fun _ => ?_, fun q => absurd rfl q⟩), fun D Q hD h0 _ => ?_⟩
  · show (0, B.2 (oVar B) (Gfi G 80 a).toNatClampNeg :: st) = _
    rw [ov, hj, n_clamp (by omega)]
  · obtain ⟨d, rfl⟩ : ∃ d, D = d + 1 := ⟨D - 1, by omega⟩
    have fin := h0 rfl
    rw [XC_s]
    simp (disch := first | omega | exact cI _ | exact cR _ | exact cK | exact cU | exact cO _ | exact cL _) only [oS, uS.2, Nat.reduceAdd, Nat.reduceSub, Nat.reduceMul, Nat.reduceLeDiff, Nat.reduceEqDiff, Nat.add_sub_cancel, xS, gS, nL, nS, dS, fX15_value_0, mX15_value, zX15_value, hk, hj, hj6, q2, q3, q6, q7, er, fin]
theorem v_size {a j : Nat} (h : RU G r mA nm pl B) (hB : BV B kk) (hk : Gkd G a = 17) (hn : Gfr G 1120 a = none) (hj : Gfi G 81 a = nI j) (hj3 : j < 3) : VAL r nm kk mA pl B G a [(3, Gfi G 81 a)] := by
  obtain ⟨hc, h4, h10, hrow, hsz⟩ := hB
  have l0 := h.1.1.1
  unfold RL0 at l0
  have hk12 : kk < 12 := by have := hc.2.2.2.2.2.2.2.2.2.1; omega
  have hc12 := hc.2.2.2.2.2.2.1
  obtain ⟨q1, q2, q3, q4, q5, q6, q7, q8, q9, -⟩ := h.1.1.2 _ hk12
  have er : Gai G (r + 20 + 4 * kk) j = B.2 (20 + 4 * kk) j := by
    have := h.1.2.2.1 (20 + 4 * kk) j (.inr (.inr (.inr (.inr (.inr (.inr (.inr (.inr (.inr ⟨by omega, by omega, .inr ⟨by omega, hj3⟩⟩)))))))))
    rw [← this]
    congr 1
    omega
  have ov : oRow B = 20 + 4 * kk := by
    unfold oRow
    omega
  have e1 : ∀ st, ev1 B (3, Gfi G 81 a) st = if B.2 (20 + 4 * kk) j = NN then (4, st) else (0, B.2 14 (B.2 (20 + 4 * kk) j).toNatClampNeg :: st) := fun st => by
    show (if rowOf B (Gfi G 81 a) = NN then (4, st) else (0, B.2 14 (rowOf B (Gfi G 81 a)).toNatClampNeg :: st)) = _
    unfold rowOf
    rw [ov, hj, n_clamp (by omega)]
  rcases hrow j hj3 with e | ⟨n, e, hn'⟩
  · refine ⟨211, 4, 0, by rw [hk]; rfl, EV.one (fun st => ⟨fun q => absurd q (by decide), fun _ => by rw [e1, if_pos e]⟩), fun D Q hD _ h1 => ?_⟩
    obtain ⟨d, rfl⟩ : ∃ d, D = d + 1 + 1 + 1 + 1 := ⟨D - 4, by omega⟩
    rw [e] at er
    rw [XC_s]
    simp (disch := first | omega | exact cI _ | exact cR _ | exact cK | exact cU | exact cO _ | exact cL _) only [oS, uS.2, Nat.reduceAdd, Nat.reduceSub, Nat.reduceMul, Nat.reduceLeDiff, Nat.reduceEqDiff, Nat.add_sub_cancel, xS, gS, nL, nS, dS, fX16_value_0, mX16_value, zX16_value, l0, hk, hn, hj, hj3, q2, q4, q8, q9, er]
    refine k_fails (D := d + 3) h hc h4 (by omega) (fun G3 h3 f3 y3 => ?_)
    have l3 := h3.1.1.1
    unfold RL0 at l3
    have fin := h1 (by decide) G3 h3 f3 y3
    simp (disch := first | omega | exact cI _ | exact cR _ | exact cK | exact cU | exact cO _ | exact cL _) only [oS, uS.2, Nat.reduceAdd, Nat.reduceSub, Nat.reduceMul, Nat.reduceLeDiff, Nat.reduceEqDiff, Nat.add_sub_cancel, xS, gS, nL, nS, dS, mX16_value, zX16_value, l3, fin]
  · have hn2 : n < 2147483648 := by omega
    have hn1 : n < 401 := by omega
    have hnf : ¬ B.2 (20 + 4 * kk) j = NN := by rw [e, n_NN hn2]; exact id
    have g14 : Gai G (r + 14) n = B.2 14 n := h.1.2.2.1 14 n (.inr (.inr (.inr (.inr (.inr (.inr (.inr (.inl ⟨rfl, hn'⟩))))))))
    refine ⟨211, 0, B.2 14 n, by rw [hk]; rfl, EV.one (fun st => ⟨fun _ => by rw [e1, if_neg hnf, e, n_clamp hn2], fun q => absurd rfl q⟩), fun D Q hD h0 _ => ?_⟩
    obtain ⟨d, rfl⟩ : ∃ d, D = d + 1 + 1 + 1 + 1 := ⟨D - 4, by omega⟩
    have fin := h0 rfl
    rw [e] at er
    rw [XC_s]
    simp (disch := first | omega | exact cI _ | exact cR _ | exact cK | exact cU | exact cO _ | exact cL _) only [oS, uS.2, Nat.reduceAdd, Nat.reduceSub, Nat.reduceMul, Nat.reduceLeDiff, Nat.reduceEqDiff, Nat.add_sub_cancel, xS, gS, nL, nS, dS, fX16_value_0, fX16_value_27, mX16_value, zX16_value, l0, hk, hn, hj, hj3, hn1, hn2, q2, q4, q8, q9, er, g14, fin]
theorem v_cell {a j b : Nat} {eb : List En} (h : RU G r mA nm pl B) (hB : BV B kk) (hk : Gkd G a = 17) (hn : Gfr G 1120 a = some b) (hj : Gfi G 81 a = nI j) (hj3 : j < 3) (hb : VAL r nm kk mA pl B G b eb) : VAL r nm kk mA pl B G a (eb ++ [(2, Gfi G 81 a)]) := by
  have hB0 := hB
  obtain ⟨hc, h4, h10, hrow, hsz⟩ := hB
  have l0 := h.1.1.1
  unfold RL0 at l0
  have hc12 := hc.2.2.2.2.2.2.1
  obtain ⟨mb, k, v, hx, hev, hv⟩ := hb
  have ov : oRow B = 20 + 4 * kk := by
    unfold oRow
    omega
  have e1 : ∀ y st, ev1 B (2, Gfi G 81 a) (y :: st) = if B.2 (20 + 4 * kk) j = NN then (4, y :: st) else if inRow B (B.2 (20 + 4 * kk) j) y = true then (0, B.2 15 (cellOf (B.2 (20 + 4 * kk) j) y) :: st) else (3, y :: st) := fun y st => by
    show (if rowOf B (Gfi G 81 a) = NN then (4, y :: st) else if inRow B (rowOf B (Gfi G 81 a)) y = true then (0, B.2 15 (cellOf (rowOf B (Gfi G 81 a)) y) :: st) else (3, y :: st)) = _
    unfold rowOf
    rw [ov, hj, n_clamp (by omega)]
  obtain ⟨k', hk'⟩ : ∃ k', k' = if k ≠ 0 then k else if B.2 (20 + 4 * kk) j = NN then 4 else if inRow B (B.2 (20 + 4 * kk) j) v = true then 0 else 3 := ⟨_, rfl⟩
  refine ⟨211, k', B.2 15 (cellOf (B.2 (20 + 4 * kk) j) v), by rw [hk]; rfl, hev.un (fun q => by rw [hk', if_pos q]) (fun q st => ?_), fun D Q hD h0 h1 => ?_⟩
  · rw [if_neg (fun z => z q)] at hk'
    rw [e1]
    by_cases c1 : B.2 (20 + 4 * kk) j = NN
    · rw [if_pos c1] at hk' ⊢
      exact ⟨fun z => absurd (hk'.symm.trans z) (by decide), fun _ => hk'.symm⟩
    · rw [if_neg c1] at hk' ⊢
      by_cases c2 : inRow B (B.2 (20 + 4 * kk) j) v = true
      · rw [if_pos c2] at hk' ⊢
        exact ⟨fun _ => rfl, fun z => absurd hk' z⟩
      · rw [if_neg c2] at hk' ⊢
        exact ⟨fun z => absurd (hk'.symm.trans z) (by decide), fun _ => hk'.symm⟩
  · rw [List.length_append] at hD
    have hD : eb.length + 1 + 6 ≤ D := hD
    obtain ⟨d, rfl⟩ : ∃ d, D = d + 1 := ⟨D - 1, by omega⟩
    rw [XC_s]
    simp (disch := first | omega | exact cI _ | exact cR _ | exact cK | exact cU | exact cO _ | exact cL _) only [oS, uS.2, Nat.reduceAdd, Nat.reduceSub, Nat.reduceMul, Nat.reduceLeDiff, Nat.reduceEqDiff, Nat.add_sub_cancel, xS, gS, nL, nS, dS, fX16_value_0, fX16_value_42, mX16_value, zX16_value, l0, hk, hn, hx]
    refine hv d _ (by omega) (fun k0 => ?_) (fun k0 G3 h3 f3 y3 => ?_)
    · rw [if_neg (fun z => z k0)] at hk'
      simp (disch := first | omega | exact cI _ | exact cR _ | exact cK | exact cU | exact cO _ | exact cL _) only [oS, uS.2, Nat.reduceAdd, Nat.reduceSub, Nat.reduceMul, Nat.reduceLeDiff, Nat.reduceEqDiff, Nat.add_sub_cancel, xS, gS, nL, nS, dS, mX16_value, zX16_value, l0, hk, hn, hx]
      refine k_cell h hB0 hk hj hj3 (by omega) (fun c1 G3 h3 f3 y3 => ?_) (fun n e hn' c2 G3 h3 f3 y3 => ?_) (fun n e hn' c2 hcl => ?_)
      · rw [if_pos c1] at hk'
        have l3 := h3.1.1.1
        unfold RL0 at l3
        have fin := h1 (by rw [hk']; decide) G3 (by rw [hk']; exact h3) f3 y3
        simp (disch := first | omega | exact cI _ | exact cR _ | exact cK | exact cU | exact cO _ | exact cL _) only [oS, uS.2, Nat.reduceAdd, Nat.reduceSub, Nat.reduceMul, Nat.reduceLeDiff, Nat.reduceEqDiff, Nat.add_sub_cancel, xS, gS, nL, nS, dS, mX16_value, zX16_value, l3, fin]
      · have hnb : n < 2147483648 := by omega
        rw [e] at hk'
        rw [if_neg (by rw [n_NN hnb]; exact id), if_neg (by rw [c2]; decide)] at hk'
        have l3 := h3.1.1.1
        unfold RL0 at l3
        have fin := h1 (by rw [hk']; decide) G3 (by rw [hk']; exact h3) f3 y3
        simp (disch := first | omega | exact cI _ | exact cR _ | exact cK | exact cU | exact cO _ | exact cL _) only [oS, uS.2, Nat.reduceAdd, Nat.reduceSub, Nat.reduceMul, Nat.reduceLeDiff, Nat.reduceEqDiff, Nat.add_sub_cancel, xS, gS, nL, nS, dS, mX16_value, zX16_value, l3, fin]
      · have hnb : n < 2147483648 := by omega
        rw [e, if_neg (by rw [n_NN hnb]; exact id), if_pos c2] at hk'
        have g15 : Gai G (r + 15) (cellOf (nI n) v) = B.2 15 (cellOf (nI n) v) := h.1.2.2.1 15 _ (.inr (.inr (.inr (.inr (.inr (.inr (.inr (.inr (.inl ⟨rfl, hcl⟩)))))))))
        have fin := h0 hk'
        rw [e] at fin
        generalize cellOf (nI n) v = w at hcl g15 fin ⊢
        have hw1 : w < 3208 := by omega
        have hw2 : w < 2147483648 := by omega
        simp (disch := first | omega | exact cI _ | exact cR _ | exact cK | exact cU | exact cO _ | exact cL _) only [oS, uS.2, Nat.reduceAdd, Nat.reduceSub, Nat.reduceMul, Nat.reduceLeDiff, Nat.reduceEqDiff, Nat.add_sub_cancel, xS, gS, nL, nS, dS, mX16_value, zX16_value, l0, g15, hw1, hw2, fin]
    · rw [if_pos k0] at hk'
      have l3 := h3.1.1.1
      unfold RL0 at l3
      have fin := h1 (by rw [hk']; exact k0) G3 (by rw [hk']; exact h3) f3 y3
      simp (disch := first | omega | exact cI _ | exact cR _ | exact cK | exact cU | exact cO _ | exact cL _) only [oS, uS.2, Nat.reduceAdd, Nat.reduceSub, Nat.reduceMul, Nat.reduceLeDiff, Nat.reduceEqDiff, Nat.add_sub_cancel, xS, gS, nL, nS, dS, mX16_value, zX16_value, l3, fin]
end RUN
