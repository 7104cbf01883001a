set_option maxRecDepth 100000
section RUN
variable {r kk lo hi p n nm nk : Nat} {A mA : Nat → Nat} {T : Pg} {pl : Nat → Int32 → Int32} {B : Bk} {G G' G2 : XG}
theorem w_return {d s : Nat} {bk : Wk} {tk : Int32} {Q : (Option Value ⊕ Nat) → XG → Prop} (h : RP r p hi n nm nk A mA T G) (hu : RU G r mA nm pl B) (hI : Iv 1 1 1 1 1 B) (h10 : B.1 10 = kk + 1) (hs : s < n) (hk : Tk T s = 8) (hw : wP T nm s) (hD : (T1 T s).length + 9 ≤ d) (hQ : ∀ z G', oW r kk s (s + 1) nm mA pl G (stm T pl bk s tk B) z G' → Q z G') : XC xms (d + 1) 237 [.ref (A s), .ref r, .ref (r + 18 + 4 * kk)] G Q := by
  have hk12 : kk < 12 := by have := hI.1; omega
  have hB := hI.bv h10
  obtain ⟨-, o1, o2, o3, o4⟩ := h.so hs
  have o4 : SK (Tp hi G) (p + 6) A (A s) (Ta T s) (Tb T s) (T1 T s) (T2 T s) (Tl T s) (To T s) (Tc T s) (Tk T s) := o4
  rw [hk] at o4
  obtain ⟨k1, k3⟩ := o4
  obtain ⟨b, hb, hv⟩ := h.val hu hB k3 (hw.2.2.2.2.2.2.1 (by omega))
  have kz : Gkd G (A s) = 26 := k1
  have e : stm T pl bk s tk B = if (evE B (T1 T s)).1 ≠ 0 then sFail (evE B (T1 T s)).1 B else (1, (evE B (T1 T s)).2, B) := by
    unfold stm
    simp only [hk]
    rfl
  rw [e] at hQ
  rw [XC_s]
  simp (disch := first | omega | exact cI _ | exact cR _ | exact cK | exact cU | exact cO _ | exact cL _) only [oS, uS.2, Nat.reduceAdd, Nat.reduceSub, Nat.reduceMul, Nat.reduceLeDiff, Nat.reduceEqDiff, Nat.add_sub_cancel, xS, gS, nL, nS, dS, fX25_walk_0, mX25_walk, zX25_walk, kz]
  refine p_result (kk := kk) hu hk12 kz hb hv (by omega) (fun q G3 a1 a2 a3 => ?_) (fun q => ?_)
  · rw [if_pos q] at hQ
    have l3 := a1.1.1.1
    unfold RL0 at l3
    have fin := hQ _ _ (oW.fail a1 a2 a3 hk12)
    simp (disch := first | omega | exact cI _ | exact cR _ | exact cK | exact cU | exact cO _ | exact cL _) only [oS, uS.2, Nat.reduceAdd, Nat.reduceSub, Nat.reduceMul, Nat.reduceLeDiff, Nat.reduceEqDiff, Nat.add_sub_cancel, xS, gS, nL, nS, dS, mX25_walk, zX25_walk, l3, fin]
  · rw [if_neg (fun z => z q)] at hQ
    have fin := hQ (.inl (some (.int (nI 1)))) (Sfi G 34 (r + 18 + 4 * kk) (evE B (T1 T s)).2) ⟨⟨(YZ.fi (P := rgn r) ⟨by omega, by omega⟩).ye, fun _ _ _ => rfl, fun _ _ => rfl, fun j hj => if_neg (fun e => by omega)⟩, .inr (.inl ⟨rfl, rfl, Sfi_S, hu.fi (by decide) (by decide) ⟨by omega, by omega⟩⟩)⟩
    simp (disch := first | omega | exact cI _ | exact cR _ | exact cK | exact cU | exact cO _ | exact cL _) only [oS, uS.2, Nat.reduceAdd, Nat.reduceSub, Nat.reduceMul, Nat.reduceLeDiff, Nat.reduceEqDiff, Nat.add_sub_cancel, xS, gS, nL, nS, dS, mX25_walk, zX25_walk, fin]
end RUN
