set_option maxRecDepth 100000
section RUN
variable {D r nm : Nat} {mA : Nat → Nat} {pl : Nat → Int32 → Int32} {B B' : Bk} {G G' : XG} {Q : (Option Value ⊕ Nat) → XG → Prop}
theorem YZ.big (h : YZ (rgb r) G G') : YZ (rgn r) G G' := h.mono (fun a q => ⟨q.1, by have := q.2; omega⟩)
theorem vld_x {o i : Nat} (hv : vld B' o i) (h3 : o = 2 → i < B'.1 3 → i < B.1 3) (h4 : 3 ≤ o → o ≤ 8 → i < B'.1 4 → i < B.1 4) (h9 : o = 9 → i / 12 < B'.1 4 → i % 12 < B'.1 (100 + i / 12) → i / 12 < B.1 4 ∧ i % 12 < B.1 (100 + i / 12)) (h6 : o = 10 → i < B'.1 6 → i < B.1 6) (h13 : o = 13 → i < 2 * B'.1 13 → i < 2 * B.1 13) (h12 : o = 14 → i < B'.1 12 → i < B.1 12) (h15 : o = 15 → i < 8 * B'.1 12 → i < 8 * B.1 12) (hd : 19 ≤ o → o < 18 + 4 * B'.1 10 → o < 18 + 4 * B.1 10) : vld B o i := by
  unfold vld at hv ⊢
  rcases hv with e | e | e | e | e | e | e | e | e | e
  · exact .inl ⟨e.1, h3 e.1 e.2⟩
  · exact .inr (.inl ⟨e.1, e.2.1, h4 e.1 e.2.1 e.2.2⟩)
  · exact .inr (.inr (.inl ⟨e.1, h9 e.1 e.2.1 e.2.2⟩))
  · exact .inr (.inr (.inr (.inl ⟨e.1, h6 e.1 e.2⟩)))
  · exact .inr (.inr (.inr (.inr (.inl e))))
  · exact .inr (.inr (.inr (.inr (.inr (.inl e)))))
  · exact .inr (.inr (.inr (.inr (.inr (.inr (.inl ⟨e.1, h13 e.1 e.2⟩))))))
  · exact .inr (.inr (.inr (.inr (.inr (.inr (.inr (.inl ⟨e.1, h12 e.1 e.2⟩)))))))
  · exact .inr (.inr (.inr (.inr (.inr (.inr (.inr (.inr (.inl ⟨e.1, h15 e.1 e.2⟩))))))))
  · exact .inr (.inr (.inr (.inr (.inr (.inr (.inr (.inr (.inr ⟨e.1, hd e.1 e.2.1, e.2.2⟩))))))))
theorem RU.fr (h : RU G r mA nm pl B) (y : YZ (rgb r) G G') (e10 : B'.1 10 = B.1 10) (e6 : ∀ k, k < B.1 10 → B'.1 (600 + k) = B.1 (600 + k)) (e18 : ∀ k, k < B.1 10 → B'.2 (18 + 4 * k) 0 = B.2 (18 + 4 * k) 0) (hc : RC G' r B') (ha : ∀ o i, vld B' o i → Gai G' (r + o) i = B'.2 o i) : RU G' r mA nm pl B' := by
  refine h.yz y.big ⟨h.1.1.xz y, hc, ha, fun k hk => ?_⟩ (fun k hk => ?_)
  · rw [e10] at hk
    obtain ⟨p1, p2⟩ := h.1.2.2.2 k hk
    rw [e18 k hk, e6 k hk, y.1, y.2.2.2.2.2.2.2.2.1 35 (r + 18 + 4 * k) (fun q => by have := q.2; omega)]
    exact ⟨p1, p2⟩
  · rw [e10] at hk
    rw [e6 k hk]
    exact h.2.2.1 k hk
theorem RU.fi (h : RU G r mA nm pl B) {f a : Nat} {v : Int32} (hf : 31 ≤ f) (h35 : f ≠ 35) (ha : rgn r a) : RU (Sfi G f a v) r mA nm pl B := by
  have y : YZ (rgn r) G (Sfi G f a v) := YZ.fi ha (by omega)
  obtain ⟨b1, b2, b3, b4⟩ := h.1
  obtain ⟨e1, e2, e3, e4, e5, e6, e7, e8, e9, e10, e11⟩ := b2
  refine h.yz y ⟨b1.xz y, ⟨(Sfi_o (by omega)).trans e1, (Sfi_o (by omega)).trans e2, (Sfi_o (by omega)).trans e3, (Sfi_o (by omega)).trans e4, (Sfi_o (by omega)).trans e5, (Sfi_o (by omega)).trans e6, (Sfi_o (by omega)).trans e7, (Sfi_o (by omega)).trans e8, (Sfi_o (by omega)).trans e9, (Sfi_o (by omega)).trans e10, (Sfi_o (by omega)).trans e11⟩, b3, fun k hk => ⟨(Sfi_o (by omega)).trans (b4 k hk).1, (b4 k hk).2⟩⟩ h.2.2.1
theorem RU.sl (h : RU G r mA nm pl B) {k i : Nat} {v : Int32} (hk : k < 12) : RU (Sai G (r + 21 + 4 * k) i v) r mA nm pl B := by
  have y : YZ (rgn r) G (Sai G (r + 21 + 4 * k) i v) := YZ.ai ⟨by omega, by omega⟩
  obtain ⟨b1, b2, b3, b4⟩ := h.1
  refine h.yz y ⟨b1.xz y, b2, fun o j hv => ?_, b4⟩ h.2.2.1
  have ho : r + o ≠ r + 21 + 4 * k := by
    unfold vld at hv
    omega
  exact (Sai_o (.inl ho)).trans (b3 o j hv)
/-- the machine fails -/
theorem k_fails {kind : Int32} (h : RU G r mA nm pl B) (hc : CB B) (h4 : B.1 4 < 401) (hD : 3 ≤ D) (h1 : ∀ G', RU G' r mA nm pl (bMakes kind NN B) → Gfi G' 33 (r + 16) = nI (B.1 4) → YZ (rgb r) G G' → Q (.inl (some (.ref (r + 16)))) G') : XC xms D 82 [.ref r, .int kind] G Q := by
  obtain ⟨d, rfl⟩ : ∃ d, D = d + 1 + 1 + 1 := ⟨D - 3, by omega⟩
  have l0 := h.1.1.1
  unfold RL0 at l0
  rw [XC_s]
  simp (disch := first | omega | exact cI _ | exact cR _ | exact cK | exact cU | exact cO _ | exact cL _) only [oS, uS.2, Nat.reduceAdd, Nat.reduceSub, Nat.reduceMul, Nat.reduceLeDiff, Nat.reduceEqDiff, Nat.add_sub_cancel, xS, gS, nL, nS, dS, fX5_fails_0, mX5_fails, zX5_fails, l0]
  refine k_makes h hc h4 (by omega) (fun G1 h2 y1 => ?_)
  have l1 := h2.1.1.1
  unfold RL0 at l1
  have fin := h1 (Sfi G1 33 (r + 16) (nI (B.1 4))) (h2.fi (by decide) (by decide) ⟨by omega, by omega⟩) Sfi_S (y1.trans (YZ.fi ⟨by omega, by omega⟩))
  simp (disch := first | omega | exact cI _ | exact cR _ | exact cK | exact cU | exact cO _ | exact cL _) only [oS, uS.2, Nat.reduceAdd, Nat.reduceSub, Nat.reduceMul, Nat.reduceLeDiff, Nat.reduceEqDiff, Nat.add_sub_cancel, xS, gS, nL, nS, dS, mX5_fails, zX5_fails, FX6_with, mX6_with, zX6_with, XC_s (k := 93), l1, fin]
theorem bPass_1 {k x : Nat} (h : x ≠ 13) : (bPass k B).1 x = B.1 x := by
  unfold bPass
  by_cases c : B.1 13 < 60
  · rw [if_pos c]
    exact if_neg h
  · rw [if_neg c]
    rfl
theorem bPass_13 {k : Nat} (h : B.1 13 ≤ 60) : (bPass k B).1 13 ≤ 60 := by
  unfold bPass
  by_cases c : B.1 13 < 60
  · rw [if_pos c]
    show B.1 13 + 1 ≤ 60
    omega
  · rw [if_neg c]
    exact h
theorem bPass_12 {k : Nat} : (bPass k B).2 12 k = B.2 12 k + 1 := by
  unfold bPass
  by_cases c : B.1 13 < 60
  · rw [if_pos c]
    show (if 12 = 13 ∧ k = 2 * B.1 13 + 1 then B.2 12 k + 1 else if 12 = 13 ∧ k = 2 * B.1 13 then nI k else if 12 = 12 ∧ k = k then B.2 12 k + 1 else B.2 12 k) = _
    rw [if_neg (by omega), if_neg (by omega), if_pos ⟨rfl, rfl⟩]
  · rw [if_neg c]
    exact if_pos ⟨rfl, rfl⟩
theorem CB.pass {k : Nat} (h : CB B) : CB (bPass k B) := by
  obtain ⟨c1, c2, c3, c4, c5, c6, c7, c8, c9, c10, c11⟩ := h
  unfold CB
  rw [bPass_1 (x := 11) (by decide), bPass_1 (x := 9) (by decide), bPass_1 (x := 3) (by decide), bPass_1 (x := 4) (by decide), bPass_1 (x := 5) (by decide), bPass_1 (x := 6) (by decide), bPass_1 (x := 12) (by decide), bPass_1 (x := 10) (by decide), bPass_1 (x := 8) (by decide)]
  exact ⟨c1, c2, c3, c4, c5, c6, c7, bPass_13 c8, c9, c10, c11⟩
/-- a part is passed -/
theorem k_passes {s j : Nat} (h : RU G r mA nm pl B) (hc : CB B) (hs : s < 80) (hj : j < 7) (hD : 2 ≤ D) (h1 : ∀ G', RU G' r mA nm pl (bPass (7 * s + j) B) → YZ (rgb r) G G' → Q (.inl (some (.int (pl (7 * s + j) ((bPass (7 * s + j) B).2 12 (7 * s + j)))))) G') : XC xms D 87 [.ref r, .int (nI s), .int (nI j)] G Q := by
  obtain ⟨d, rfl⟩ : ∃ d, D = d + 1 + 1 := ⟨D - 2, by omega⟩
  have hh := h
  obtain ⟨⟨bb1, bb2, b3, b4⟩, -⟩ := h
  obtain ⟨e1, e2, e3, e4, e5, e6, e7, e8, e9, e10, e11⟩ := bb2
  obtain ⟨c1, c2, c3, c4, c5, c6, c7, c8, c9, c10, c11⟩ := hc
  have l0 := bb1.1
  unfold RL0 at l0
  obtain ⟨k, hk⟩ : ∃ k, k = 7 * s + j := ⟨_, rfl⟩
  have hk5 : k < 560 := by omega
  rw [← hk] at h1
  have g12 : Gai G (r + 12) k = B.2 12 k := b3 12 k (.inr (.inr (.inr (.inr (.inr (.inl ⟨rfl, hk5⟩))))))
  by_cases c : B.1 13 < 60
  · have e : bPass k B = b1 (b2 (b2 (b2 B 12 k (B.2 12 k + 1)) 13 (2 * B.1 13) (nI k)) 13 (2 * B.1 13 + 1) (B.2 12 k + 1)) 13 (B.1 13 + 1) := if_pos c
    obtain ⟨G1, hG1⟩ : ∃ G1, G1 = Sfi (Sai (Sai (Sai G (r + 12) k (B.2 12 k + 1)) (r + 13) (2 * B.1 13) (nI k)) (r + 13) (2 * B.1 13 + 1) (B.2 12 k + 1)) 26 r (nI (B.1 13 + 1)) := ⟨_, rfl⟩
    have y : YZ (rgb r) G G1 := by
      rw [hG1]
      exact (((YZ.ai ⟨by omega, by omega⟩).trans (YZ.ai ⟨by omega, by omega⟩)).trans (YZ.ai ⟨by omega, by omega⟩)).trans (YZ.fi ⟨by omega, by omega⟩)
    have fo : ∀ x, x ≠ 26 → Gfi G1 x r = Gfi G x r := fun x hx => by
      rw [hG1]
      exact Sfi_o hx
    have f26 : Gfi G1 26 r = nI (B.1 13 + 1) := by
      rw [hG1]
      exact Sfi_S
    have ru : RU G1 r mA nm pl (bPass k B) := by
      refine hh.fr y (bPass_1 (by decide)) (fun x _ => bPass_1 (by omega)) (fun x _ => bPass_o (by omega)) ?_ (fun o i hv => ?_)
      · rw [e]
        exact ⟨(fo 21 (by decide)).trans e1, (fo 22 (by decide)).trans e2, (fo 23 (by decide)).trans e3, (fo 24 (by decide)).trans e4, (fo 25 (by decide)).trans e5, (fo 18 (by decide)).trans e6, (fo 19 (by decide)).trans e7, (fo 17 (by decide)).trans e8, (fo 20 (by decide)).trans e9, (fo 27 (by decide)).trans e10, f26⟩
      · rw [e] at hv ⊢
        rw [hG1]
        show (if r + o = r + 13 ∧ i = 2 * B.1 13 + 1 then B.2 12 k + 1 else if r + o = r + 13 ∧ i = 2 * B.1 13 then nI k else if r + o = r + 12 ∧ i = k then B.2 12 k + 1 else Gai G (r + o) i) = (if o = 13 ∧ i = 2 * B.1 13 + 1 then B.2 12 k + 1 else if o = 13 ∧ i = 2 * B.1 13 then nI k else if o = 12 ∧ i = k then B.2 12 k + 1 else B.2 o i)
        by_cases q1 : o = 13 ∧ i = 2 * B.1 13 + 1
        · rw [if_pos q1, if_pos ⟨by omega, q1.2⟩]
        rw [if_neg q1, if_neg (fun q => q1 ⟨by omega, q.2⟩)]
        by_cases q2 : o = 13 ∧ i = 2 * B.1 13
        · rw [if_pos q2, if_pos ⟨by omega, q2.2⟩]
        rw [if_neg q2, if_neg (fun q => q2 ⟨by omega, q.2⟩)]
        by_cases q3 : o = 12 ∧ i = k
        · rw [if_pos q3, if_pos ⟨by omega, q3.2⟩]
        rw [if_neg q3, if_neg (fun q => q3 ⟨by omega, q.2⟩)]
        exact b3 o i (vld_x hv (fun _ h => h) (fun _ _ h => h) (fun _ a b => ⟨a, by
          have e0 : (b1 (b2 (b2 (b2 B 12 k (B.2 12 k + 1)) 13 (2 * B.1 13) (nI k)) 13 (2 * B.1 13 + 1) (B.2 12 k + 1)) 13 (B.1 13 + 1)).1 (100 + i / 12) = B.1 (100 + i / 12) := if_neg (by omega)
          rw [← e0]
          exact b⟩) (fun _ h => h) (fun o13 h => by
          have h : i < 2 * (B.1 13 + 1) := h
          omega) (fun _ h => h) (fun _ h => h) (fun _ h => h))
    have fin := h1 G1 ru y
    obtain ⟨-, -, -, -, pa, n, pp, pt, pk, p1, p2, p3, -⟩ := ru
    rw [bPass_12, p3] at fin
    have kf : ∀ Q, XC xms (d + 1) 78 [.ref pa, .int (nI k), .int (B.2 12 k + 1)] G1 Q = Q (.inl (some (.int (kAt pp pt pk (nI k) (B.2 12 k + 1) n 0)))) G1 := fun Q => s_kindAt p2
    have p5 : Gkd G pa = 5 := (congrFun y.2.2.2.1 pa).symm.trans p2.1
    rw [y.1] at p1
    rw [hG1] at fin kf
    rw [hk] at fin kf g12 hk5
    have eI : (1 : Int32) = nI 1 := rfl
    rw [eI] at fin kf
    rw [XC_s]
    simp (disch := first | omega | exact cI _ | exact cR _ | exact cK | exact cU | exact cO _ | exact cL _) only [oS, uS.2, Nat.reduceAdd, Nat.reduceSub, Nat.reduceMul, Nat.reduceLeDiff, Nat.reduceEqDiff, Nat.add_sub_cancel, xS, gS, nL, nS, dS, fX5_passes_0, fX5_passes_67, mX5_passes, zX5_passes, l0, e11, g12, c, hk5, kf, p1, p5, fin]
  · have e : bPass k B = b2 B 12 k (B.2 12 k + 1) := if_neg c
    obtain ⟨G1, hG1⟩ : ∃ G1, G1 = Sai G (r + 12) k (B.2 12 k + 1) := ⟨_, rfl⟩
    have y : YZ (rgb r) G G1 := by
      rw [hG1]
      exact YZ.ai ⟨by omega, by omega⟩
    have ru : RU G1 r mA nm pl (bPass k B) := by
      refine hh.fr y (bPass_1 (by decide)) (fun x _ => bPass_1 (by omega)) (fun x _ => bPass_o (by omega)) ?_ (fun o i hv => ?_)
      · rw [e, hG1]
        exact ⟨e1, e2, e3, e4, e5, e6, e7, e8, e9, e10, e11⟩
      · rw [e] at hv ⊢
        rw [hG1]
        show (if r + o = r + 12 ∧ i = k then B.2 12 k + 1 else Gai G (r + o) i) = (if o = 12 ∧ i = k then B.2 12 k + 1 else B.2 o i)
        by_cases q3 : o = 12 ∧ i = k
        · rw [if_pos q3, if_pos ⟨by omega, q3.2⟩]
        rw [if_neg q3, if_neg (fun q => q3 ⟨by omega, q.2⟩)]
        exact b3 o i hv
    have fin := h1 G1 ru y
    obtain ⟨-, -, -, -, pa, n, pp, pt, pk, p1, p2, p3, -⟩ := ru
    rw [bPass_12, p3] at fin
    have kf : ∀ Q, XC xms (d + 1) 78 [.ref pa, .int (nI k), .int (B.2 12 k + 1)] G1 Q = Q (.inl (some (.int (kAt pp pt pk (nI k) (B.2 12 k + 1) n 0)))) G1 := fun Q => s_kindAt p2
    have p5 : Gkd G pa = 5 := (congrFun y.2.2.2.1 pa).symm.trans p2.1
    rw [y.1] at p1
    rw [hG1] at fin kf
    rw [hk] at fin kf g12 hk5
    have eI : (1 : Int32) = nI 1 := rfl
    rw [eI] at fin kf
    rw [XC_s]
    simp (disch := first | omega | exact cI _ | exact cR _ | exact cK | exact cU | exact cO _ | exact cL _) only [oS, uS.2, Nat.reduceAdd, Nat.reduceSub, Nat.reduceMul, Nat.reduceLeDiff, Nat.reduceEqDiff, Nat.add_sub_cancel, xS, gS, nL, nS, dS, fX5_passes_0, fX5_passes_67, mX5_passes, zX5_passes, l0, e11, g12, c, hk5, kf, p1, p5, fin]
end RUN
