set_option maxRecDepth 100000
section RUN
variable {r kk lo hi p n nm nk : Nat} {A mA : Nat → Nat} {T : Pg} {pl : Nat → Int32 → Int32} {B : Bk} {G G' G2 : XG}
theorem Iv.bv {x3 x4 x5 x6 x12 : Nat} (h : Iv x3 x4 x5 x6 x12 B) (h10 : B.1 10 = kk + 1) : BV B kk := ⟨h.cb, by have := h.1; omega, h10, fun i hi => h.2.2.1 kk i (by omega) hi, h.2.2.2⟩
/-- a sum of a statement, under a run -/
theorem RP.val {f z : Nat} {es : List En} (h : RP r p hi n nm nk A mA T G) (hu : RU G r mA nm pl B) (hB : BV B kk) (hn : NR (Tp hi G) (p + 6) f z es) (he : wE es) : ∃ b, Gfr G f z = some b ∧ VAL r nm kk mA pl B G b es := by
  obtain ⟨b, e1, e2⟩ := hn.tp h.2.1
  exact ⟨b, e1, k_val hu hB 1001 b es e2 he.1⟩
/-- let a row get a value: its walk -/
theorem w_set {d s : Nat} {bk : Wk} {tk : Int32} {Q : (Option Value ⊕ Nat) → XG → Prop} (h : RP r p hi n nm nk A mA T G) (hu : RU G r mA nm pl B) (hI : Iv 1 1 1 1 1 B) (h10 : B.1 10 = kk + 1) (hs : s < n) (hk : Tk T s = 1) (hw : wP T nm s) (hD : (T1 T s).length + 9 ≤ d) (hQ : ∀ z G', oW r kk s (s + 1) nm mA pl G (stm T pl bk s tk B) z G' → Q z G') : XC xms (d + 1) 223 [.ref (A s), .ref r, .ref (r + 18 + 4 * kk)] G Q := by
  have hk12 : kk < 12 := by have := hI.1; omega
  have hB := hI.bv h10
  obtain ⟨-, o1, o2, o3, o4⟩ := h.so hs
  have o4 : SK (Tp hi G) (p + 6) A (A s) (Ta T s) (Tb T s) (T1 T s) (T2 T s) (Tl T s) (To T s) (Tc T s) (Tk T s) := o4
  rw [hk] at o4
  obtain ⟨k1, k2, k3⟩ := o4
  obtain ⟨b, hb, hv⟩ := h.val hu hB k3 (hw.2.2.2.2.2.2.1 (.inl hk))
  obtain ⟨j, ej, hj⟩ := hw.2.2.1 (.inl hk)
  have kz : Gkd G (A s) = 21 := k1
  have fz : Gfi G 85 (A s) = nI j := Eq.trans k2 ej
  have e : stm T pl bk s tk B = if (evE B (T1 T s)).1 ≠ 0 then sFail (evE B (T1 T s)).1 B else (0, 0, b2 B (oVar B) (Ta T s).toNatClampNeg (evE B (T1 T s)).2) := by
    unfold stm
    simp only [hk]
    rfl
  rw [e] at hQ
  refine w_plain (m := 225) (by rw [kz]; rfl) (p_set hu hB kz fz hj hb hv (by omega) (fun q G3 a1 a2 a3 => .inr ⟨⟨_, rfl⟩, ?_⟩) (fun q G3 a1 a2 => .inl ⟨rfl, ?_⟩))
  · rw [if_pos q] at hQ
    exact hQ _ _ (oW.fail a1 a2 a3 hk12)
  · rw [if_neg (fun z => z q), ej, n_clamp (by omega)] at hQ
    exact hQ _ _ ⟨a2.kt hk12, .inl ⟨rfl, rfl, a1⟩⟩
end RUN
