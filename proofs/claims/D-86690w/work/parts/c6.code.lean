set_option maxRecDepth 100000
section CODEX
variable {D d r kk lo hi p n nm nk : Nat} {A mA : Nat → Nat} {T : Pg} {pl : Nat → Int32 → Int32} {B B' : Bk} {G G' G2 : XG} {Q : (Option Value ⊕ Nat) → XG → Prop}
/-- what a plain statement comes to -/
def oPl (r k nm : Nat) (mA : Nat → Nat) (pl : Nat → Int32 → Int32) (G : XG) (q : Rs) (z : Option Value ⊕ Nat) (G' : XG) : Prop := YV r k G G' ∧ RU G' r mA nm pl q.2.2 ∧ ((q.1 = 0 ∧ z = .inl none) ∨ (q.1 = 4 ∧ z = .inr (r + 16) ∧ Gfi G' 33 (r + 16) = q.2.1))
theorem oPl.fail {k : Int32} (h : RU G' r mA nm pl (bMakes k NN B)) (h3 : Gfi G' 33 (r + 16) = nI (B.1 4)) (y : YZ (rgb r) G G') : oPl r kk nm mA pl G (sFail k B) (.inr (r + 16)) G' := ⟨y.yv, h, .inr ⟨rfl, rfl, h3⟩⟩
def kdP (k : Nat) : Prop := k = 21 ∨ k = 22 ∨ k = 23 ∨ k = 24 ∨ k = 25 ∨ k = 30
/-- a plain statement does -/
theorem st_pl {s : Nat} {bk : Wk} {tk : Int32} (h : RP r p hi n nm nk A mA T G) (hu : RU G r mA nm pl B) (hI : Iv 1 1 1 1 1 B) (h10 : B.1 10 = kk + 1) (hs : s < n) (hn : n ≤ 80) (hk : isPl (Tk T s)) (hw : wP T nm s) (hE : (T1 T s).length + (T2 T s).length ≤ 250) : ∃ m, xlo [(21, 225), (22, 227), (23, 229), (24, 231), (25, 234), (30, 252)] (Gkd G (A s)) = some m ∧ kdP (Gkd G (A s)) ∧ ∀ D Q, 270 ≤ D → (∀ z G', oPl r kk nm mA pl G (stm T pl bk s tk B) z G' → Q z G') → XC xms D m [.ref (A s), .ref r, .ref (r + 18 + 4 * kk)] G Q := by
  have hb := hI.1
  have hk12 : kk < 12 := by omega
  have hB := hI.bv h10
  have e0 : oRow B = 20 + 4 * kk := by unfold oRow; omega
  rcases hk with hk | hk | hk | hk | hk | hk | hk
  · obtain ⟨o3, o1, o2, k1, k2⟩ := h.sk hs hk
    have kz : Gkd G (A s) = 25 := k1
    have fz : Gfi G 89 (A s) = Ta T s := k2
    have e : stm T pl bk s tk B = if pl (7 * s) ((bPass (7 * s) B).2 12 (7 * s)) = NN then (0, 0, b1 (b2 (bPass (7 * s) B) 2 ((bPass (7 * s) B).1 3) (Ta T s)) 3 ((bPass (7 * s) B).1 3 + 1)) else sFail (pl (7 * s) ((bPass (7 * s) B).2 12 (7 * s))) (bPass (7 * s) B) := by
      unfold stm
      simp only [hk]
      rfl
    rw [e]
    refine ⟨234, by rw [kz]; rfl, by rw [kz]; unfold kdP; decide, fun D Q hD hQ => p_mark hu hB.1 (by omega) hB.2.1 (by omega) hk12 kz o3 (by omega) (fun c G3 a1 y3 => ?_) (fun c G3 a1 f3 y3 => ?_)⟩
    · rw [if_pos c] at hQ
      rw [fz] at a1
      exact hQ _ _ ⟨y3.yv, a1, .inl ⟨rfl, rfl⟩⟩
    · rw [if_neg c] at hQ
      exact hQ _ _ (oPl.fail a1 f3 y3)
  · obtain ⟨o3, o1, o2, k1, k2, k3⟩ := h.sk hs hk
    obtain ⟨b, hb1, hv⟩ := h.val hu hB k3 (hw.2.2.2.2.2.2.1 (.inl hk))
    obtain ⟨j, ej, hj⟩ := hw.2.2.1 (.inl hk)
    have kz : Gkd G (A s) = 21 := k1
    have fz : Gfi G 85 (A s) = nI j := Eq.trans k2 ej
    have e : stm T pl bk s tk B = if (evE B (T1 T s)).1 ≠ 0 then sFail (evE B (T1 T s)).1 B else (0, 0, b2 B (oVar B) j (evE B (T1 T s)).2) := by
      unfold stm
      simp only [hk, ej, n_clamp (show j < 2147483648 by omega)]
      rfl
    rw [e]
    refine ⟨225, by rw [kz]; rfl, by rw [kz]; unfold kdP; decide, fun D Q hD hQ => p_set hu hB kz fz hj hb1 hv (by omega) (fun q G3 a1 a2 a3 => ?_) (fun q G3 a1 a2 => ?_)⟩
    · rw [if_pos q] at hQ
      exact hQ _ _ (oPl.fail a1 a2 a3)
    · rw [if_neg (fun z => z q)] at hQ
      exact hQ _ _ ⟨a2, a1, .inl ⟨rfl, rfl⟩⟩
  · obtain ⟨o3, o1, o2, k1, k2, k3⟩ := h.sk hs hk
    obtain ⟨b, hb1, hv⟩ := h.val hu hB k3 (hw.2.2.2.2.2.2.1 (by omega))
    obtain ⟨j, ej, hj⟩ := hw.2.2.2.1 (by omega)
    have kz : Gkd G (A s) = 23 := k1
    have fz : Gfi G 86 (A s) = nI j := Eq.trans k2 ej
    have e : stm T pl bk s tk B = if (evE B (T1 T s)).1 ≠ 0 then sFail (evE B (T1 T s)).1 B else if 0 ≤ (evE B (T1 T s)).2 ∧ (evE B (T1 T s)).2 ≤ 8 then (0, 0, bNew (evE B (T1 T s)).2 j kk B) else sFail 5 B := by
      unfold stm
      simp only [hk, ej, n_clamp (show j < 2147483648 by omega), e0]
      rfl
    rw [e]
    refine ⟨229, by rw [kz]; rfl, by rw [kz]; unfold kdP; decide, fun D Q hD hQ => p_new hu hB (by omega) kz fz hj hb1 (h.out (by omega) o2) hv (by omega) (fun q G3 a1 a2 a3 => ?_) (fun q c G3 a1 a2 a3 => ?_) (fun q c G3 a1 a2 => ?_)⟩
    · rw [if_pos q] at hQ
      exact hQ _ _ (oPl.fail a1 a2 a3)
    · rw [if_neg (fun z => z q), if_neg c] at hQ
      exact hQ _ _ (oPl.fail a1 a2 a3)
    · rw [if_neg (fun z => z q), if_pos c] at hQ
      exact hQ _ _ ⟨a2, a1, .inl ⟨rfl, rfl⟩⟩
  · obtain ⟨o3, o1, o2, k1, k2, k3⟩ := h.sk hs hk
    obtain ⟨j, ej, hj⟩ := hw.2.2.2.1 (by omega)
    have kz : Gkd G (A s) = 24 := k1
    have fz : Gfi G 87 (A s) = nI j := Eq.trans k2 ej
    have e : stm T pl bk s tk B = (0, 0, b2 B (oRow B) j NN) := by
      unfold stm
      simp only [hk, ej, n_clamp (show j < 2147483648 by omega)]
      rfl
    rw [e]
    exact ⟨231, by rw [kz]; rfl, by rw [kz]; unfold kdP; decide, fun D Q hD hQ => p_same hu hB kz fz hj (.inl ⟨k3, rfl⟩) (by omega) (fun G3 a1 a2 => hQ _ _ ⟨a2, a1, .inl ⟨rfl, rfl⟩⟩)⟩
  · obtain ⟨o3, o1, o2, k1, k2, k3⟩ := h.sk hs hk
    obtain ⟨j, ej, hj⟩ := hw.2.2.2.1 (by omega)
    obtain ⟨i, ei, hi3⟩ := hw.2.2.2.2.1 (by omega)
    have kz : Gkd G (A s) = 24 := k1
    have fz : Gfi G 87 (A s) = nI j := Eq.trans k2 ej
    have gz : Gfi G 88 (A s) = nI i := Eq.trans k3 ei
    have e : stm T pl bk s tk B = (0, 0, b2 B (oRow B) j (B.2 (20 + 4 * kk) i)) := by
      unfold stm rowOf
      simp only [hk, ej, ei, n_clamp (show j < 2147483648 by omega), n_clamp (show i < 2147483648 by omega), e0]
      rfl
    rw [e]
    exact ⟨231, by rw [kz]; rfl, by rw [kz]; unfold kdP; decide, fun D Q hD hQ => p_same hu hB kz fz hj (.inr ⟨i, gz, hi3, rfl⟩) (by omega) (fun G3 a1 a2 => hQ _ _ ⟨a2, a1, .inl ⟨rfl, rfl⟩⟩)⟩
  · obtain ⟨o3, o1, o2, k1, ⟨y, k2, k3, k4, k5, k6, k7⟩, k8⟩ := h.sk hs hk
    obtain ⟨b, hb1, hv⟩ := h.val hu hB k7 (hw.2.2.2.2.2.2.1 (by omega))
    obtain ⟨c, hc1, hv2⟩ := h.val hu hB k8 (hw.2.2.2.2.2.2.2.1 (by omega))
    obtain ⟨j, ej, hj⟩ := hw.2.2.2.1 (by omega)
    have kz : Gkd G (A s) = 22 := k1
    have fz : Gfi G 81 y = nI j := Eq.trans k6 ej
    have e : stm T pl bk s tk B = if (evE B (T1 T s)).1 ≠ 0 then sFail (evE B (T1 T s)).1 B else if (evE B (T2 T s)).1 ≠ 0 then sFail (evE B (T2 T s)).1 B else if rowOf B (nI j) = NN then sFail 4 B else if inRow B (rowOf B (nI j)) (evE B (T1 T s)).2 = true then (0, 0, b2 B 15 (cellOf (rowOf B (nI j)) (evE B (T1 T s)).2) (evE B (T2 T s)).2) else sFail 3 B := by
      unfold stm
      simp only [hk, ej]
      rfl
    rw [e]
    refine ⟨227, by rw [kz]; rfl, by rw [kz]; unfold kdP; decide, fun D Q hD hQ => p_put hu hB kz k2 k5 fz hj hb1 hc1 hv hv2 (by omega) (fun q G3 a1 a2 a3 => ?_) (fun q q2 G3 a1 a2 a3 => ?_) (fun q q2 q3 G3 a1 a2 a3 => ?_) (fun q q2 q3 q4 G3 a1 a2 a3 => ?_) (fun q q2 q3 q4 G3 a1 a2 => ?_)⟩
    · rw [if_pos q] at hQ
      exact hQ _ _ (oPl.fail a1 a2 a3)
    · rw [if_neg (fun z => z q), if_pos q2] at hQ
      exact hQ _ _ (oPl.fail a1 a2 a3)
    · rw [if_neg (fun z => z q), if_neg (fun z => z q2), if_pos q3] at hQ
      exact hQ _ _ (oPl.fail a1 a2 a3)
    · rw [if_neg (fun z => z q), if_neg (fun z => z q2), if_neg q3, if_neg (fun z => Bool.noConfusion (q4.symm.trans z))] at hQ
      exact hQ _ _ (oPl.fail a1 a2 a3)
    · rw [if_neg (fun z => z q), if_neg (fun z => z q2), if_neg q3, if_pos q4] at hQ
      exact hQ _ _ ⟨a2.yv, a1, .inl ⟨rfl, rfl⟩⟩
  · obtain ⟨o3, o1, o2, k1, k2⟩ := h.sk hs hk
    have kz : Gkd G (A s) = 30 := k1
    have fz : Gfi G 92 (A s) = Ta T s := k2
    have e : stm T pl bk s tk B = sFail (Ta T s) B := by
      unfold stm
      simp only [hk]
      rfl
    rw [e]
    refine ⟨252, by rw [kz]; rfl, by rw [kz]; unfold kdP; decide, fun D Q hD hQ => p_throw (kk := r + 18 + 4 * kk) (f := .null) hu hB.1 hB.2.1 kz rfl (by omega) (fun G3 a1 a2 a3 => ?_)⟩
    rw [fz] at a1
    exact hQ _ _ (oPl.fail a1 a2 a3)
/-- the code in the heap -/
def CR (G : XG) (r p nm : Nat) (mA : Nat → Nat) (C : Cd) (lw oa ta : Nat) : Prop := Gfr G 1025 p = some lw ∧ Gkd G lw = 34 ∧ Gfr G 1143 lw = some oa ∧ Gkd G oa = 100 ∧ Gfr G 1144 lw = some ta ∧ Gkd G ta = 100 ∧ (∀ q, (C.1 q).1 ≤ 22 → 3 * q + 2 < Gln G oa ∧ Gai G oa (3 * q) = nI (C.1 q).1 ∧ Gai G oa (3 * q + 1) = nI (C.1 q).2.1 ∧ Gai G oa (3 * q + 2) = nI (C.1 q).2.2) ∧ Gln G oa < 100000000 ∧ Gfi G 101 lw = nI C.2.1.length ∧ 5 * C.2.1.length ≤ Gln G ta ∧ Gln G ta < 100000000 ∧ (∀ (i : Nat) (w : Crw), C.2.1[i]? = some w → (Gai G ta (5 * i) = nI w.1 ∧ Gai G ta (5 * i + 1) = nI w.2.1 ∧ Gai G ta (5 * i + 2) = nI w.2.2.1 ∧ Gai G ta (5 * i + 3) = w.2.2.2.1 ∧ Gai G ta (5 * i + 4) = nI w.2.2.2.2) ∧ w.1 < 100000000 ∧ w.2.1 < 100000000 ∧ (w.2.2.2.1 = NN ∨ ∃ j, w.2.2.2.1 = nI j ∧ j < 16) ∧ w.2.2.2.2 < 640) ∧ (∀ m, m < nm → Gfi G 77 (mA m) = nI (C.2.2 m)) ∧ ¬ rgn r lw ∧ ¬ rgn r oa ∧ ¬ rgn r ta ∧ ¬ rgn r p ∧ ∀ m, m < nm → ¬ rgn r (mA m)
theorem CR.yr {C : Cd} {lw oa ta : Nat} (h : CR G r p nm mA C lw oa ta) (k : YR r G G') : CR G' r p nm mA C lw oa ta := by
  obtain ⟨h1, h2, h3, h4, h5, h6, h7, h8, h9, h10, h11, h12, h13, n1, n2, n3, n4, n5⟩ := h
  obtain ⟨a1, a2, a3, a4, a5, a6, a7, a8, a9, a10⟩ := k
  have fr : ∀ g a, g ≠ 1056 → Gfr G' g a = Gfr G g a := fun g a q => a1 g a (.inl q)
  refine ⟨(fr _ _ (by decide)).trans h1, by rw [a4]; exact h2, (fr _ _ (by decide)).trans h3, by rw [a4]; exact h4, (fr _ _ (by decide)).trans h5, by rw [a4]; exact h6, fun q hq => ?_, by rw [a5]; exact h8, (a9 101 lw n1).trans h9, by rw [a5]; exact h10, by rw [a5]; exact h11, fun i w hw => ?_, fun m hm => (a9 77 _ (n5 m hm)).trans (h13 m hm), n1, n2, n3, n4, n5⟩
  · rw [a5, a10 oa _ n2, a10 oa _ n2, a10 oa _ n2]
    exact h7 q hq
  · rw [a10 ta _ n3, a10 ta _ n3, a10 ta _ n3, a10 ta _ n3, a10 ta _ n3]
    exact h12 i w hw
/-- frames in the heap -/
def CF (r : Nat) (F : Nat → Cf) (kd : Nat) (G : XG) : Prop := (∀ j, j < 12 → ∀ i, i < 640 → Gai G (r + 21 + 4 * j) i = (F j).2.2 i) ∧ ∀ j, j < kd → Gfi G 36 (r + 18 + 4 * j) = nI (F j).1 ∧ Gfi G 34 (r + 18 + 4 * j) = (F j).2.1
theorem CF.yv {F : Nat → Cf} {kd : Nat} (h : CF r F kd G) (y : YV r kk G G') : CF r F kd G' := by
  refine ⟨fun j hj i hi => ?_, fun j hj => ⟨?_, ?_⟩⟩
  · rw [y.2.2.2.2.2.2.2.2.2.1 (r + 21 + 4 * j) i (fun q => by
      rcases q with q | q | q
      · have := q.2
        omega
      · omega
      · omega)]
    exact h.1 j hj i hi
  · rw [y.2.2.2.2.2.2.2.2.1 36 (r + 18 + 4 * j) (fun q => by
      rcases q with q | q | q
      · have := q.2
        omega
      · omega
      · omega)]
    exact (h.2 j hj).1
  · rw [y.2.2.2.2.2.2.2.2.1 34 (r + 18 + 4 * j) (fun q => by
      rcases q with q | q | q
      · have := q.2
        omega
      · omega
      · omega)]
    exact (h.2 j hj).2
theorem CF.sl {F : Nat → Cf} {kd k i : Nat} {v : Int32} (h : CF r F kd G) : CF r (fsl F k i v) kd (Sai G (r + 21 + 4 * k) i v) := by
  refine ⟨fun j hj x hx => ?_, fun j hj => ?_⟩
  · show (if r + 21 + 4 * j = r + 21 + 4 * k ∧ x = i then v else Gai G (r + 21 + 4 * j) x) = _
    by_cases c : j = k
    · subst c
      by_cases c2 : x = i
      · subst c2
        rw [if_pos ⟨rfl, rfl⟩, fsl_i]
      · rw [if_neg (fun q => c2 q.2), fsl_j c2]
        exact h.1 j hj x hx
    · rw [if_neg (fun q => by omega), fsl_o c]
      exact h.1 j hj x hx
  · have e : (fsl F k i v j).1 = (F j).1 ∧ (fsl F k i v j).2.1 = (F j).2.1 := by
      by_cases c : j = k
      · subst c
        exact ⟨fsl_1, fsl_r⟩
      · rw [fsl_o c]
        exact ⟨rfl, rfl⟩
    rw [e.1, e.2]
    exact h.2 j hj
theorem CF.pc {F : Nat → Cf} {kd k v : Nat} (h : CF r F kd G) : CF r (fpc F k v) kd (Sfi G 36 (r + 18 + 4 * k) (nI v)) := by
  refine ⟨fun j hj x hx => ?_, fun j hj => ?_⟩
  · have e : (fpc F k v j).2 = (F j).2 := by
      by_cases c : j = k
      · subst c
        exact fpc_2
      · rw [fpc_o c]
    rw [e]
    exact h.1 j hj x hx
  · by_cases c : j = k
    · subst c
      refine ⟨Sfi_S.trans (by rw [fpc_1]), ?_⟩
      rw [fpc_2]
      exact (Sfi_o (by decide)).trans (h.2 j hj).2
    · rw [fpc_o c]
      refine ⟨?_, (Sfi_o (by decide)).trans (h.2 j hj).2⟩
      show (if 36 = 36 ∧ r + 18 + 4 * j = r + 18 + 4 * k then _ else Gfi G 36 (r + 18 + 4 * j)) = _
      rw [if_neg (by omega)]
      exact (h.2 j hj).1
theorem CF.re {F : Nat → Cf} {kd k : Nat} {v : Int32} (h : CF r F kd G) : CF r (fre F k v) kd (Sfi G 34 (r + 18 + 4 * k) v) := by
  refine ⟨fun j hj x hx => ?_, fun j hj => ?_⟩
  · have e : (fre F k v j).2.2 = (F j).2.2 := by
      by_cases c : j = k
      · subst c
        exact fre_2
      · rw [fre_o c]
    rw [e]
    exact h.1 j hj x hx
  · by_cases c : j = k
    · subst c
      rw [fre_1, fre_r]
      exact ⟨(Sfi_o (by decide)).trans (h.2 j hj).1, Sfi_S⟩
    · rw [fre_o c]
      refine ⟨(Sfi_o (by decide)).trans (h.2 j hj).1, ?_⟩
      show (if 34 = 34 ∧ r + 18 + 4 * j = r + 18 + 4 * k then _ else Gfi G 34 (r + 18 + 4 * j)) = _
      rw [if_neg (by omega)]
      exact (h.2 j hj).2
theorem CF.fi {F : Nat → Cf} {kd f a : Nat} {v : Int32} (h : CF r F kd G) (hf : f ≠ 34 ∧ f ≠ 36) : CF r F kd (Sfi G f a v) := ⟨h.1, fun j hj => ⟨(Sfi_o (fun e => hf.2 e.symm)).trans (h.2 j hj).1, (Sfi_o (fun e => hf.1 e.symm)).trans (h.2 j hj).2⟩⟩
theorem CF.ai {F : Nat → Cf} {kd o i : Nat} {v : Int32} (h : CF r F kd G) (ho : o < 18) : CF r F kd (Sai G (r + o) i v) := ⟨fun j hj x hx => (Sai_o (.inl (by omega))).trans (h.1 j hj x hx), h.2⟩
end CODEX
