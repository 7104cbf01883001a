set_option maxRecDepth 100000
section RUN
variable {D r nm kk : Nat} {mA : Nat → Nat} {pl : Nat → Int32 → Int32} {B B' : Bk} {G G' : XG} {Q : (Option Value ⊕ Nat) → XG → Prop}
theorem v_neg {a b : Nat} {eb : List En} (h : RU G r mA nm pl B) (hk : Gkd G a = 14) (hl : Gfr G 1118 a = none) (hs : Gfi G 78 a = nI 45) (hn : Gfr G 1119 a = some b) (hb : VAL r nm kk mA pl B G b eb) : VAL r nm kk mA pl B G a (eb ++ [(4, 0)]) := by
  have t42 : ((42 : Int) < 42 ∨ 42 + ((6 : Nat) : Int) ≤ 42) = False := eq_false (by decide)
  have u42 : ([114, 104, 124, 109, 124, 119] : List Nat)[((42 : Int) - 42).toNat]? = some 114 := rfl
  have t43 : ((43 : Int) < 42 ∨ 42 + ((6 : Nat) : Int) ≤ 43) = False := eq_false (by decide)
  have u43 : ([114, 104, 124, 109, 124, 119] : List Nat)[((43 : Int) - 42).toNat]? = some 104 := rfl
  have t45 : ((45 : Int) < 42 ∨ 42 + ((6 : Nat) : Int) ≤ 45) = False := eq_false (by decide)
  have u45 : ([114, 104, 124, 109, 124, 119] : List Nat)[((45 : Int) - 42).toNat]? = some 109 := rfl
  have t47 : ((47 : Int) < 42 ∨ 42 + ((6 : Nat) : Int) ≤ 47) = False := eq_false (by decide)
  have u47 : ([114, 104, 124, 109, 124, 119] : List Nat)[((47 : Int) - 42).toNat]? = some 119 := rfl
  have t37 : ((37 : Int) < 42 ∨ 42 + ((6 : Nat) : Int) ≤ 37) = True := eq_true (by decide)
  obtain ⟨mb, k, v, hx, hev, hv⟩ := hb
  refine ⟨205, k, 0 - v, by rw [hk]; rfl, hev.un (fun q => rfl) (fun q st => ⟨fun _ => rfl, fun z => absurd q z⟩), fun D Q hD h0 h1 => ?_⟩
  rw [List.length_append] at hD
  have hD : eb.length + 1 + 6 ≤ D := hD
  obtain ⟨d, rfl⟩ : ∃ d, D = d + 1 := ⟨D - 1, by omega⟩
  rw [XC_s]
  simp (disch := first | omega | exact cI _ | exact cR _ | exact cK | exact cU | exact cO _ | exact cL _) only [oS, uS.2, Nat.reduceAdd, Nat.reduceSub, Nat.reduceMul, Nat.reduceLeDiff, Nat.reduceEqDiff, Nat.add_sub_cancel, xS, gS, nL, nS, dS, fX13_value_0, fX13_value_20, mX13_value, zX13_value, hk, hl, hn, hx]
  refine hv d _ (by omega) (fun k0 => ?_) (fun k0 G3 h3 f3 y3 => ?_)
  · have fin := h0 k0
    have e0 : (0 : Int32) - v = nI 0 - v := rfl
    rw [e0] at fin
    simp (disch := first | omega | exact cI _ | exact cR _ | exact cK | exact cU | exact cO _ | exact cL _) only [oS, uS.2, Nat.reduceAdd, Nat.reduceSub, Nat.reduceMul, Nat.reduceLeDiff, Nat.reduceEqDiff, Nat.add_sub_cancel, xS, gS, nL, nS, dS, fX13_value_61, fX13_value_109, mX13_value, zX13_value, hk, hs, show (nI 45).toInt = 45 from rfl, t45, u45, fin]
  · have l3 := h3.1.1.1
    unfold RL0 at l3
    have fin := h1 k0 G3 h3 f3 y3
    simp (disch := first | omega | exact cI _ | exact cR _ | exact cK | exact cU | exact cO _ | exact cL _) only [oS, uS.2, Nat.reduceAdd, Nat.reduceSub, Nat.reduceMul, Nat.reduceLeDiff, Nat.reduceEqDiff, Nat.add_sub_cancel, xS, gS, nL, nS, dS, mX13_value, zX13_value, l3, fin]
theorem v_sign {a b c s : Nat} {eb ec : List En} (h : RU G r mA nm pl B) (hB : BV B kk) (hk : Gkd G a = 14) (hl : Gfr G 1118 a = some b) (hn : Gfr G 1119 a = some c) (hs : Gfi G 78 a = nI s) (hs5 : s = 42 ∨ s = 47 ∨ s = 37 ∨ s = 43 ∨ s = 45) (hb : VAL r nm kk mA pl B G b eb) (hc : VAL r nm kk mA pl B G c ec) : VAL r nm kk mA pl B G a (eb ++ ec ++ [(nop s, 0)]) := by
  obtain ⟨hcb, h4, -⟩ := hB
  have l0 := h.1.1.1
  unfold RL0 at l0
  have t42 : ((42 : Int) < 42 ∨ 42 + ((6 : Nat) : Int) ≤ 42) = False := eq_false (by decide)
  have u42 : ([114, 104, 124, 109, 124, 119] : List Nat)[((42 : Int) - 42).toNat]? = some 114 := rfl
  have t43 : ((43 : Int) < 42 ∨ 42 + ((6 : Nat) : Int) ≤ 43) = False := eq_false (by decide)
  have u43 : ([114, 104, 124, 109, 124, 119] : List Nat)[((43 : Int) - 42).toNat]? = some 104 := rfl
  have t45 : ((45 : Int) < 42 ∨ 42 + ((6 : Nat) : Int) ≤ 45) = False := eq_false (by decide)
  have u45 : ([114, 104, 124, 109, 124, 119] : List Nat)[((45 : Int) - 42).toNat]? = some 109 := rfl
  have t47 : ((47 : Int) < 42 ∨ 42 + ((6 : Nat) : Int) ≤ 47) = False := eq_false (by decide)
  have u47 : ([114, 104, 124, 109, 124, 119] : List Nat)[((47 : Int) - 42).toNat]? = some 119 := rfl
  have t37 : ((37 : Int) < 42 ∨ 42 + ((6 : Nat) : Int) ≤ 37) = True := eq_true (by decide)
  obtain ⟨mb, k, v, hx, hev, hv⟩ := hb
  obtain ⟨mc, k2, v2, hx2, hev2, hv2⟩ := hc
  obtain ⟨w, hw⟩ : ∃ w, w = if s = 42 then v * v2 else if s = 47 then v / v2 else if s = 37 then v - v / v2 * v2 else if s = 43 then v + v2 else v - v2 := ⟨_, rfl⟩
  obtain ⟨k', hk'⟩ : ∃ k', k' = if k ≠ 0 then k else if k2 ≠ 0 then k2 else if (s = 47 ∨ s = 37) ∧ v2 = 0 then 2 else 0 := ⟨_, rfl⟩
  have e1 : ∀ st, ev1 B (nop s, 0) (v2 :: v :: st) = if (s = 47 ∨ s = 37) ∧ v2 = 0 then (2, v2 :: v :: st) else (0, w :: st) := fun st => by
    rcases hs5 with rfl | rfl | rfl | rfl | rfl
    · rw [if_neg (by omega), hw]
      rfl
    · rw [hw]
      show (if v2 = 0 then (2, v2 :: v :: st) else (0, v / v2 :: st)) = _
      by_cases z : v2 = 0
      · rw [if_pos z, if_pos ⟨.inl rfl, z⟩]
      · rw [if_neg z, if_neg (fun q => z q.2)]
        rfl
    · rw [hw]
      show (if v2 = 0 then (2, v2 :: v :: st) else (0, (v - v / v2 * v2) :: st)) = _
      by_cases z : v2 = 0
      · rw [if_pos z, if_pos ⟨.inr rfl, z⟩]
      · rw [if_neg z, if_neg (fun q => z q.2)]
        rfl
    · rw [if_neg (by omega), hw]
      rfl
    · rw [if_neg (by omega), hw]
      rfl
  refine ⟨205, k', w, by rw [hk]; rfl, hev.bi hev2 (fun q => by rw [hk', if_pos q]) (fun q q2 => by rw [hk', if_neg (fun z => z q), if_pos q2]) (fun q q2 st => ?_), fun D Q hD h0 h1 => ?_⟩
  · rw [if_neg (fun z => z q), if_neg (fun z => z q2)] at hk'
    rw [e1]
    by_cases z : (s = 47 ∨ s = 37) ∧ v2 = 0
    · rw [if_pos z] at hk' ⊢
      exact ⟨fun y => absurd (hk'.symm.trans y) (by decide), fun _ => hk'.symm⟩
    · rw [if_neg z] at hk' ⊢
      exact ⟨fun _ => rfl, fun y => absurd hk' y⟩
  rw [List.length_append, List.length_append] at hD
  have hD : eb.length + ec.length + 1 + 6 ≤ D := hD
  obtain ⟨d, rfl⟩ : ∃ d, D = d + 1 + 1 + 1 + 1 := ⟨D - 4, by omega⟩
  rw [XC_s]
  simp (disch := first | omega | exact cI _ | exact cR _ | exact cK | exact cU | exact cO _ | exact cL _) only [oS, uS.2, Nat.reduceAdd, Nat.reduceSub, Nat.reduceMul, Nat.reduceLeDiff, Nat.reduceEqDiff, Nat.add_sub_cancel, xS, gS, nL, nS, dS, fX13_value_0, fX13_value_11, mX13_value, zX13_value, hk, hl, hx]
  refine hv (d + 3) _ (by omega) (fun k0 => ?_) (fun k0 G3 h3 f3 y3 => ?_)
  · rw [if_neg (fun z => z k0)] at hk'
    simp (disch := first | omega | exact cI _ | exact cR _ | exact cK | exact cU | exact cO _ | exact cL _) only [oS, uS.2, Nat.reduceAdd, Nat.reduceSub, Nat.reduceMul, Nat.reduceLeDiff, Nat.reduceEqDiff, Nat.add_sub_cancel, xS, gS, nL, nS, dS, fX13_value_20, mX13_value, zX13_value, hk, hn, hx2]
    refine hv2 (d + 3) _ (by omega) (fun k0' => ?_) (fun k0' G3 h3 f3 y3 => ?_)
    · rw [if_neg (fun z => z k0')] at hk'
      by_cases z : (s = 47 ∨ s = 37) ∧ v2 = 0
      · rw [if_pos z] at hk'
        obtain ⟨z1, rfl⟩ := z
        have go : XC xms (d + 3) 82 [.ref r, .int (nI 2)] G (XK xms (d + 3) 205 57 [(60, i_thr)] [.ref a, .ref r, .ref (r + 18 + 4 * kk), .int v, .int (nI 0)] [] Q) := by
          refine k_fails (D := d + 3) h hcb h4 (by omega) (fun G3 h3 f3 y3 => ?_)
          have l3 := h3.1.1.1
          unfold RL0 at l3
          have fin := h1 (by rw [hk']; decide) G3 (by rw [hk']; exact h3) f3 y3
          simp (disch := first | omega | exact cI _ | exact cR _ | exact cK | exact cU | exact cO _ | exact cL _) only [oS, uS.2, Nat.reduceAdd, Nat.reduceSub, Nat.reduceMul, Nat.reduceLeDiff, Nat.reduceEqDiff, Nat.add_sub_cancel, xS, gS, nL, nS, dS, mX13_value, zX13_value, l3, fin]
        have e0 : (0 : Int32) = nI 0 := rfl
        rw [e0]
        rcases z1 with rfl | rfl
        · simp (disch := first | omega | exact cI _ | exact cR _ | exact cK | exact cU | exact cO _ | exact cL _) only [oS, uS.2, Nat.reduceAdd, Nat.reduceSub, Nat.reduceMul, Nat.reduceLeDiff, Nat.reduceEqDiff, Nat.add_sub_cancel, xS, gS, nL, nS, dS, fX13_value_50, mX13_value, zX13_value, l0, hk, hs, go]
        · simp (disch := first | omega | exact cI _ | exact cR _ | exact cK | exact cU | exact cO _ | exact cL _) only [oS, uS.2, Nat.reduceAdd, Nat.reduceSub, Nat.reduceMul, Nat.reduceLeDiff, Nat.reduceEqDiff, Nat.add_sub_cancel, xS, gS, nL, nS, dS, fX13_value_50, mX13_value, zX13_value, l0, hk, hs, go]
      · rw [if_neg z] at hk'
        have fin := h0 hk'
        rcases hs5 with rfl | rfl | rfl | rfl | rfl
        · have hw : w = v * v2 := hw
          rw [hw] at fin
          simp (disch := first | omega | exact cI _ | exact cR _ | exact cK | exact cU | exact cO _ | exact cL _) only [oS, uS.2, Nat.reduceAdd, Nat.reduceSub, Nat.reduceMul, Nat.reduceLeDiff, Nat.reduceEqDiff, Nat.add_sub_cancel, xS, gS, nL, nS, dS, fX13_value_61, fX13_value_114, mX13_value, zX13_value, hk, hs, show (nI 42).toInt = 42 from rfl, t42, u42, fin]
        · have hw : w = v / v2 := hw
          have z0 : (v2 = nI 0) = False := eq_false (fun q => z ⟨.inl rfl, q⟩)
          rw [hw] at fin
          simp (disch := first | omega | exact cI _ | exact cR _ | exact cK | exact cU | exact cO _ | exact cL _) only [oS, uS.2, Nat.reduceAdd, Nat.reduceSub, Nat.reduceMul, Nat.reduceLeDiff, Nat.reduceEqDiff, Nat.add_sub_cancel, xS, gS, nL, nS, dS, fX13_value_50, fX13_value_61, fX13_value_119, mX13_value, zX13_value, hk, hs, z0, show (nI 47).toInt = 47 from rfl, t47, u47, fin]
        · have hw : w = v - v / v2 * v2 := hw
          have z0 : (v2 = nI 0) = False := eq_false (fun q => z ⟨.inr rfl, q⟩)
          rw [hw] at fin
          simp (disch := first | omega | exact cI _ | exact cR _ | exact cK | exact cU | exact cO _ | exact cL _) only [oS, uS.2, Nat.reduceAdd, Nat.reduceSub, Nat.reduceMul, Nat.reduceLeDiff, Nat.reduceEqDiff, Nat.add_sub_cancel, xS, gS, nL, nS, dS, fX13_value_50, fX13_value_61, fX13_value_124, mX13_value, zX13_value, hk, hs, z0, show (nI 37).toInt = 37 from rfl, t37, fin]
        · have hw : w = v + v2 := hw
          rw [hw] at fin
          simp (disch := first | omega | exact cI _ | exact cR _ | exact cK | exact cU | exact cO _ | exact cL _) only [oS, uS.2, Nat.reduceAdd, Nat.reduceSub, Nat.reduceMul, Nat.reduceLeDiff, Nat.reduceEqDiff, Nat.add_sub_cancel, xS, gS, nL, nS, dS, fX13_value_61, fX13_value_104, mX13_value, zX13_value, hk, hs, show (nI 43).toInt = 43 from rfl, t43, u43, fin]
        · have hw : w = v - v2 := hw
          rw [hw] at fin
          simp (disch := first | omega | exact cI _ | exact cR _ | exact cK | exact cU | exact cO _ | exact cL _) only [oS, uS.2, Nat.reduceAdd, Nat.reduceSub, Nat.reduceMul, Nat.reduceLeDiff, Nat.reduceEqDiff, Nat.add_sub_cancel, xS, gS, nL, nS, dS, fX13_value_61, fX13_value_109, mX13_value, zX13_value, hk, hs, show (nI 45).toInt = 45 from rfl, t45, u45, fin]
    · rw [if_pos k0'] at hk'
      have l3 := h3.1.1.1
      unfold RL0 at l3
      have fin := h1 (by rw [hk']; exact k0') G3 (by rw [hk']; exact h3) f3 y3
      simp (disch := first | omega | exact cI _ | exact cR _ | exact cK | exact cU | exact cO _ | exact cL _) only [oS, uS.2, Nat.reduceAdd, Nat.reduceSub, Nat.reduceMul, Nat.reduceLeDiff, Nat.reduceEqDiff, Nat.add_sub_cancel, xS, gS, nL, nS, dS, mX13_value, zX13_value, l3, fin]
  · rw [if_pos k0] at hk'
    have l3 := h3.1.1.1
    unfold RL0 at l3
    have fin := h1 (by rw [hk']; exact k0) G3 (by rw [hk']; exact h3) f3 y3
    simp (disch := first | omega | exact cI _ | exact cR _ | exact cK | exact cU | exact cO _ | exact cL _) only [oS, uS.2, Nat.reduceAdd, Nat.reduceSub, Nat.reduceMul, Nat.reduceLeDiff, Nat.reduceEqDiff, Nat.add_sub_cancel, xS, gS, nL, nS, dS, mX13_value, zX13_value, l3, fin]
/-- every node's value -/
theorem k_val {lo : Nat} (h : RU G r mA nm pl B) (hB : BV B kk) : ∀ n a es, NO G lo n a es → (∀ e, e ∈ es → vE e) → VAL r nm kk mA pl B G a es := by
  intro n
  induction n with
  | zero => intro a es hn; exact hn.elim
  | succ n ih =>
    intro a es hn he
    obtain ⟨-, -, hn⟩ := hn
    rcases hn with ⟨h1, rfl⟩ | ⟨h1, rfl⟩ | ⟨h1, h2, rfl⟩ | ⟨h1, b, eb, h2, h3, rfl⟩ | ⟨h1, h2, h3, b, eb, h4, h5, rfl⟩ | ⟨h1, b, eb, c, ec, k, h2, h3, h4, h5, h6, h7, rfl⟩
    · exact v_num h1
    · obtain ⟨j, e, hj⟩ := (he _ (List.mem_singleton_self _)).2.1 rfl
      exact v_var h hB h1 e hj
    · obtain ⟨j, e, hj⟩ := (he _ (List.mem_singleton_self _)).2.2 (.inr rfl)
      exact v_size h hB h1 h2 e hj
    · obtain ⟨j, e, hj⟩ := (he _ (List.mem_append_right _ (List.mem_singleton_self _))).2.2 (.inl rfl)
      exact v_cell h hB h1 h2 e hj (ih b eb h3 (fun x hx => he x (List.mem_append_left _ hx)))
    · exact v_neg h h1 h2 h3 h4 (ih b eb h5 (fun x hx => he x (List.mem_append_left _ hx)))
    · exact v_sign h hB h1 h2 h3 h6 h7 (ih b eb h4 (fun x hx => he x (List.mem_append_left _ (List.mem_append_left _ hx)))) (ih c ec h5 (fun x hx => he x (List.mem_append_left _ (List.mem_append_right _ hx))))
end RUN
