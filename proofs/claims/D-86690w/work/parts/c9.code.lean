set_option maxRecDepth 100000
section CODEX
variable {D d r k lo hi p n nm nk a b : Nat} {A mA : Nat → Nat} {T : Pg} {C : Cd} {lw oa ta : Nat} {F F' : Nat → Cf} {pl : Nat → Int32 → Int32} {B B' : Bk} {G G' G2 : XG} {Q : (Option Value ⊕ Nat) → XG → Prop}
theorem CF.le {kd kd' : Nat} (h : CF r F kd G) (hl : kd' ≤ kd) : CF r F kd' G := ⟨h.1, fun j hj => h.2 j (by omega)⟩
/-- a method gives -/
theorem c_gives (hr : RP r p hi n nm nk A mA T G) (hc : CR G r p nm mA C lw oa ta) (hu : RU G r mA nm pl B) (hf : CF r F (k + 1) G) (h10 : B.1 10 = k + 1) (hk12 : k < 12) (hn : n ≤ 80) (ho : k = 0 ∨ ∃ q, (F (k - 1)).1 = q + 1 ∧ (C.1 q).1 = 2 ∧ (Tk T (C.1 q).2.1 = 2 ∨ Tk T (C.1 q).2.1 = 7) ∧ (C.1 q).2.1 < n ∧ wP T nm (C.1 q).2.1) (hD : 280 ≤ D) (hQ : ∀ z G', oC r nm mA pl G (cOp T pl C k (22, a, b) F B) z G' → Q z G') : XC xms D 74 [.ref p, .ref r, .ref (r + 18 + 4 * k)] G Q := by
  obtain ⟨d, rfl⟩ : ∃ d, D = d + 1 + 1 := ⟨D - 2, by omega⟩
  have l0 := hu.1.1.1
  unfold RL0 at l0
  obtain ⟨u1, u2, u3, u4, u5, u6, u7, u8, u9, u10, u11⟩ := hu.1.1.2 _ hk12
  have e17 : Gfi G 17 r = nI (k + 1) := by rw [hu.1.2.1.2.2.2.2.2.2.2.1, h10]
  have ere : Gfi G 34 (r + 18 + 4 * k) = (F k).2.1 := (hf.2 k (by omega)).2
  have ru := hu.dec h10
  rw [cOp_22, bExit_e h10] at hQ
  have ye : ∀ H v, YE r H (Sfi H 17 r v) := fun H v => (YZ.fi (P := rgn r) ⟨by omega, by omega⟩).ye
  rw [XC_s]
  by_cases c : k = 0
  · subst c
    rw [if_pos rfl] at hQ
    have ys : ∀ (H : XG) (g : Nat) (v : Int32), YR r H (Sfi H g r v) := fun H g v => YI.yr (YI.fi ⟨Nat.le_refl _, by omega⟩)
    have fi := hQ (.inl none) (Sfi (Sfi (Sfi G 17 r (nI 0)) 28 r (nI 0)) 29 r (F 0).2.1) (.inr (.inr (.inr ⟨rfl, rfl, ((ys _ _ _).trans (ys _ _ _)).trans (ys _ _ _), (Sfi_o (by decide)).trans Sfi_S, Sfi_S, (Sfi_o (by decide)).trans ((Sfi_o (by decide)).trans (Sfi_o (by decide))), (ru.e3 (by decide) (by decide)).e3 (by decide) (by decide)⟩)))
    have e17 : Gfi G 17 r = nI 1 := e17
    simp (disch := first | omega | exact cI _ | exact cR _ | exact cK | exact cU | exact cO _ | exact cL _) only [oS, uS.2, Nat.reduceAdd, Nat.reduceSub, Nat.reduceMul, Nat.reduceLeDiff, Nat.reduceEqDiff, Nat.add_sub_cancel, xS, gS, nL, nS, dS, fX3_gives_0, mX3_gives, zX3_gives, l0, u2, e17, ere, fi]
  · rw [if_neg c] at hQ
    obtain ⟨q, q1, q2, q3, q4, q5⟩ := ho.resolve_left c
    obtain ⟨k, rfl⟩ : ∃ j, k = j + 1 := ⟨k - 1, by omega⟩
    rw [Nat.add_sub_cancel] at q1 hQ
    rw [q1, Nat.add_sub_cancel] at hQ
    obtain ⟨s1, s2, s3, s4, s5, s6, s7⟩ := hr.st q4 hn
    have hk11 : k < 12 := by omega
    obtain ⟨v1, v2, v3, v4, v5, v6, v7, v8, v9, v10, v11⟩ := hu.1.1.2 _ hk11
    have epc : Gfi G 36 (r + 18 + 4 * k) = nI (q + 1) := by rw [(hf.2 k (by omega)).1, q1]
    obtain ⟨h1, h2, h3, h4, -, -, h7, h8, -⟩ := hc
    obtain ⟨o1, o2, o3, -⟩ := h7 q (by rw [q2]; decide)
    have kz : Gkd G (A (C.1 q).2.1) = 19 := by
      rcases q3 with q3 | q3
      · exact (hr.sk q4 q3).2.2.2.1
      · exact (hr.sk q4 q3).2.2.2.1
    have hx1 : 3 * q + 1 < Gln G oa := by omega
    have hx2 : 3 * q + 1 < 2147483648 := by omega
    generalize hs : (C.1 q).2.1 = s at *
    have ct : ∀ Q, XC xms (d + 1) 84 [.ref r] (Sfi G 17 r (nI (k + 1))) Q = Q (.inl (some (.ref (r + 18 + 4 * k)))) (Sfi G 17 r (nI (k + 1))) := fun Q => s_top (n := k) ru.1.1 Sfi_S hk11
    have en : (k + 1 = 0) = False := eq_false (by omega)
    simp (disch := first | omega | exact cI _ | exact cR _ | exact cK | exact cU | exact cO _ | exact cL _) only [oS, uS.2, Nat.reduceAdd, Nat.reduceSub, Nat.reduceMul, Nat.reduceLeDiff, Nat.reduceEqDiff, Nat.add_sub_cancel, xS, gS, nL, nS, dS, fX3_gives_0, fX3_gives_33, mX3_gives, zX3_gives, xrfk_s, l0, u2, e17, ere, en, ct, s1, s2, s3, s4, s5, s6, s7, v2, epc, h1, h2, h3, h4, o3, hx1, hx2, kz]
    have cf1 : CF r F (k + 1) (Sfi G 17 r (nI (k + 1))) := (hf.le (by omega)).fi (by decide)
    rcases q3 with q3 | q3
    · rw [if_pos q3] at hQ
      obtain ⟨-, -, -, -, k2, -⟩ := hr.sk q4 q3
      obtain ⟨j, ej, hj⟩ := q5.2.2.1 (.inr q3)
      have k2 : Gfi G 83 (A s) = nI j := Eq.trans k2 ej
      rw [ej, n_clamp (by omega), show oVar (b1 B 10 (k + 1)) = 19 + 4 * k from by
        show 15 + 4 * (k + 1) = _
        omega] at hQ
      have ru2 := ru.aw (o := 19 + 4 * k) (i := j) (v := (F (k + 1)).2.1) (by omega)
      rw [show r + (19 + 4 * k) = r + 19 + 4 * k from by omega] at ru2
      have yv : YV r k (Sfi G 17 r (nI (k + 1))) (Sai (Sfi G 17 r (nI (k + 1))) (r + 19 + 4 * k) j (F (k + 1)).2.1) := YZ.ai (.inr (.inl rfl))
      have fi := hQ (.inl none) (Sai (Sfi G 17 r (nI (k + 1))) (r + 19 + 4 * k) j (F (k + 1)).2.1) (oC.on (k := k) rfl ((ye _ _).trans (YV.ye yv hk11)) ru2 (cf1.yv yv))
      simp (disch := first | omega | exact cI _ | exact cR _ | exact cK | exact cU | exact cO _ | exact cL _) only [oS, uS.2, Nat.reduceAdd, Nat.reduceSub, Nat.reduceMul, Nat.reduceLeDiff, Nat.reduceEqDiff, Nat.add_sub_cancel, xS, gS, nL, nS, dS, fX3_gives_90, mX3_gives, zX3_gives, k2, v3, v6, v7, hj, fi]
    · rw [if_neg (by omega)] at hQ
      obtain ⟨-, -, -, -, k2, -⟩ := hr.sk q4 q3
      have k2 : Gfi G 83 (A s) = NN := k2
      have fi := hQ (.inl none) (Sfi G 17 r (nI (k + 1))) (oC.on (k := k) rfl (ye _ _) ru cf1)
      simp (disch := first | omega | exact cI _ | exact cR _ | exact cK | exact cU | exact cO _ | exact cL _) only [oS, uS.2, Nat.reduceAdd, Nat.reduceSub, Nat.reduceMul, Nat.reduceLeDiff, Nat.reduceEqDiff, Nat.add_sub_cancel, xS, gS, nL, nS, dS, fX3_gives_90, mX3_gives, zX3_gives, k2, fi]
end CODEX
