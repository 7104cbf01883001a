set_option maxRecDepth 100000
section CODEX
variable {D d r k lo hi p n nm nk a b : Nat} {A mA : Nat → Nat} {T : Pg} {C : Cd} {lw oa ta : Nat} {F F' : Nat → Cf} {pl : Nat → Int32 → Int32} {B B' : Bk} {G G' G2 : XG} {Q : (Option Value ⊕ Nat) → XG → Prop}
theorem cGo_fix {x : Cs} (h : x.1 = 1 ∨ x.1 = 5 ∨ x.1 = 6) : cGo T pl C x = x := by
  unfold cGo
  rw [if_neg (by omega), if_neg (by omega)]
theorem cIt_fix {x : Cs} (h : x.1 = 1 ∨ x.1 = 5 ∨ x.1 = 6) : ∀ M, cIt T pl C M x = x := by
  intro M
  induction M with
  | zero => rfl
  | succ M ih =>
    show cIt T pl C M (cGo T pl C x) = x
    rw [cGo_fix h]
    exact ih
theorem fsl_fpc {k t i : Nat} {v : Int32} : fsl (fpc F k t) k i v = fpc (fsl F k i v) k t := by
  funext j
  by_cases c : j = k
  · subst c
    simp [fsl, fpc]
  · rw [fsl_o c, fpc_o c, fpc_o c, fsl_o c]
/-- the state of a code's run -/
def RX (r p hi n nm nk : Nat) (A mA : Nat → Nat) (T : Pg) (pl : Nat → Int32 → Int32) (C : Cd) (lw oa ta : Nat) (F : Nat → Cf) (B : Bk) (G : XG) : Prop := RP r p hi n nm nk A mA T G ∧ CR G r p nm mA C lw oa ta ∧ RU G r mA nm pl B ∧ CF r F (B.1 10) G ∧ kB (kV nk) B
/-- from here to the end y in M goes -/
def Tr (T : Pg) (nm n : Nat) (pl : Nat → Int32 → Int32) (C : Cd) (M : Nat) (x y : Cs) : Prop := cIt T pl C M x = y ∧ (∀ m, m < M → okS T nm n C (cIt T pl C m x)) ∧ (y.1 = 1 ∨ y.1 = 5 ∨ y.1 = 6)
theorem Tr.tl {M : Nat} {x y : Cs} (h : Tr T nm n pl C (M + 1) x y) : Tr T nm n pl C M (cGo T pl C x) y := ⟨h.1, fun m hm => h.2.1 (m + 1) (by omega), h.2.2⟩
theorem Tr.hd {M : Nat} {x y : Cs} (h : Tr T nm n pl C (M + 1) x y) : okS T nm n C x := h.2.1 0 (by omega)
theorem l_unw {y : Cs} {f kd M0 : Nat} (hP : PGW T n nm nk pl) (hkd : kd < nk) (h1 : ∀ M F' B' G', M ≤ M0 → Tr T nm n pl C M (0, 0, F', B') y → pcI C (0, 0, F', B') → RX r p hi n nm nk A mA T pl C lw oa ta F' B' G' → YE r G2 G' → Q (.inl none) G') (h0 : ∀ F' B' G', y = (6, nI f, F', B') → RU G' r mA nm pl B' → YE r G2 G' → Gfi G' 33 (r + 16) = nI f → Q (.inr (r + 16)) G') : ∀ M F B G x4 x5 x6 x7, M ≤ M0 + 1 → Tr T nm n pl C M (4, nI f, F, B) y → pcI C (4, nI f, F, B) → RX r p hi n nm nk A mA T pl C lw oa ta F B G → Gfi G 33 (r + 16) = nI f → f < 2147483648 → B.2 3 f = nI kd → YE r G2 G → XL xms (d + 1) 76 10 [.ref p, .ref r, .ref (r + 16), .int (nI kd), x4, x5, x6, x7] [] G Q := by
  intro M
  induction M with
  | zero =>
    intro F B G x4 x5 x6 x7 hM ht
    obtain ⟨rfl, -, h⟩ := ht
    have h : (4 : Nat) = 1 ∨ (4 : Nat) = 5 ∨ (4 : Nat) = 6 := h
    omega
  | succ M ih =>
    intro F B G x4 x5 x6 x7 hM ht hp hx h33 hfb hk3 ye
    have hx0 := hx
    obtain ⟨hr, hc, hu, hf, hkb⟩ := hx
    have ht1 := ht.tl
    have hok := ht.hd
    have l0 := hu.1.1.1
    unfold RL0 at l0
    have e17 : Gfi G 17 r = nI (B.1 10) := hu.1.2.1.2.2.2.2.2.2.2.1
    by_cases c : B.1 10 = 0
    · rw [c] at e17
      have eg : cGo T pl C (4, nI f, F, B) = (6, nI f, F, B) := by
        unfold cGo
        rw [if_neg (show ¬ (4 : Nat) = 0 by decide), if_pos rfl]
        exact if_pos c
      rw [eg] at ht1
      have ey : y = (6, nI f, F, B) := by
        have := ht1.1
        rw [cIt_fix (.inr (.inr rfl))] at this
        exact this.symm
      have fi := h0 F B G ey hu ye h33
      rw [fX3_unwinds_10]
      simp (disch := first | omega | exact cI _ | exact cR _ | exact cK | exact cU | exact cO _ | exact cL _) only [oS, uS.2, Nat.reduceAdd, Nat.reduceSub, Nat.reduceMul, Nat.reduceLeDiff, Nat.reduceEqDiff, Nat.add_sub_cancel, xS, gS, nL, nS, dS, fX3_unwinds_189, mX3_unwinds, zX3_unwinds, l0, e17, fi]
    · obtain ⟨k, hk⟩ : ∃ k, B.1 10 = k + 1 := ⟨B.1 10 - 1, by omega⟩
      obtain ⟨hv, h400, h12⟩ := hok.2 rfl (by show 1 ≤ B.1 10; omega)
      have h12 : B.1 10 ≤ 12 := h12
      have hk12 : k < 12 := by omega
      obtain ⟨q, eq, hq22⟩ := hp.2 rfl k (by show k < B.1 10; omega)
      have eq : (F k).1 = q + 1 := eq
      obtain ⟨c1, c2, c3, c4, -, -, c7, c8, -⟩ := hc
      have hq3 := (c7 q hq22).1
      have hqb : q < 2147483648 := by omega
      have epc : Gfi G 36 (r + 18 + 4 * k) = nI (q + 1) := by rw [(hf.2 k (by omega)).1, eq]
      obtain ⟨v1, v2, v3, v4, v5, v6, v7, v8, v9, v10, v11⟩ := hu.1.1.2 _ hk12
      rw [hk] at e17
      have ct : ∀ Q, XC xms (d + 1) 84 [.ref r] G Q = Q (.inl (some (.ref (r + 18 + 4 * k)))) G := fun Q => s_top (n := k) hu.1.1 e17 hk12
      have ek0 : (k + 1 ≤ 0) = False := eq_false (by omega)
      have egn : hlr T C.2.1 q (nI kd) = none → cGo T pl C (4, nI f, F, B) = (4, nI f, F, bExit B) := fun hn => by
        unfold cGo
        rw [if_neg (show ¬ (4 : Nat) = 0 by decide), if_pos rfl]
        show (if B.1 10 = 0 then _ else match hlr T C.2.1 ((F (B.1 10 - 1)).1 - 1) (B.2 3 (nI f).toNatClampNeg) with | some q => _ | none => _) = _
        rw [if_neg c, hk, Nat.add_sub_cancel, eq, Nat.add_sub_cancel, n_clamp hfb, hk3, hn]
      have egs : ∀ t sl, hlr T C.2.1 q (nI kd) = some (t, sl) → cGo T pl C (4, nI f, F, B) = (0, 0, fsl (fpc F k t) k sl (nI f), B) := fun t sl hn => by
        unfold cGo
        rw [if_neg (show ¬ (4 : Nat) = 0 by decide), if_pos rfl]
        show (if B.1 10 = 0 then _ else match hlr T C.2.1 ((F (B.1 10 - 1)).1 - 1) (B.2 3 (nI f).toNatClampNeg) with | some q => _ | none => _) = _
        rw [if_neg c, hk, Nat.add_sub_cancel, eq, Nat.add_sub_cancel, n_clamp hfb, hk3, hn]
      have fi := l_rows (Q := Q) (d := d) (w7 := 0) hr hx0.2.1 hu.1.1 hk12 hP.2.2.2.2.1 hkd hfb h33 hqb (fun hn x6 x7 => by
          have eg := egn hn
          rw [eg] at ht1
          have ru := hu.dec hk
          have e1 : bExit B = b1 B 10 k := bExit_e hk
          have ye1 : YE r G (Sfi G 17 r (nI k)) := (YZ.fi (P := rgn r) ⟨by omega, by omega⟩).ye
          have fi := ih F (bExit B) (Sfi G 17 r (nI k)) (.ref (r + 18 + 4 * k)) (.int (nI q)) (.int x6) x7 (by omega) ht1 ⟨fun e => absurd e (show ¬ (4 : Nat) = 0 by decide), fun _ j hj => hp.2 rfl j (by
            have hj : j < B.1 10 - 1 := hj
            show j < B.1 10
            omega)⟩ ⟨hr.ye ye1, hx0.2.1.yr ye1.yr, by rw [e1]; exact ru, (hf.le (by show B.1 10 - 1 ≤ B.1 10; omega)).fi (by decide), hkb.ext⟩ ((Sfi_o (by decide)).trans h33) hfb hk3 (ye.trans ye1)
          rw [fX3_unwinds_176]
          simp (disch := first | omega | exact cI _ | exact cR _ | exact cK | exact cU | exact cO _ | exact cL _) only [oS, uS.2, Nat.reduceAdd, Nat.reduceSub, Nat.reduceMul, Nat.reduceLeDiff, Nat.reduceEqDiff, Nat.add_sub_cancel, xS, gS, nL, nS, dS, mX3_unwinds, zX3_unwinds, l0, e17, fi]) (fun t sl hn hsl => by
          rw [egs t sl hn] at ht1
          have yz : YZ (rgn r) G (Sfi (Sai G (r + 21 + 4 * k) sl (nI f)) 36 (r + 18 + 4 * k) (nI t)) := (YZ.ai ⟨by omega, by omega⟩).trans (YZ.fi ⟨by omega, by omega⟩)
          refine h1 M _ B _ (by omega) ht1 ⟨fun _ j hj => ?_, fun e => absurd e (show ¬ (0 : Nat) = 4 by decide)⟩ ⟨hr.ye yz.ye, hx0.2.1.yr yz.ye.yr, (hu.sl hk12).fi (by decide) (by decide) ⟨by omega, by omega⟩, ?_, hkb⟩ (ye.trans yz.ye)
          · have hj : j + 1 < B.1 10 := hj
            show P1 C (fsl (fpc F k t) k sl (nI f) j).1
            rw [fsl_o (by omega), fpc_o (by omega)]
            exact hp.2 rfl j (by show j < B.1 10; omega)
          · rw [fsl_fpc]
            exact hf.sl.pc) C.2.1 0 (Nat.zero_add _) (fun j => by rw [Nat.zero_add]) rfl
      have f5 : (5 * 0 : Nat) = 0 := rfl
      rw [f5] at fi
      rw [fX3_unwinds_10]
      simp (disch := first | omega | exact cI _ | exact cR _ | exact cK | exact cU | exact cO _ | exact cL _) only [oS, uS.2, Nat.reduceAdd, Nat.reduceSub, Nat.reduceMul, Nat.reduceLeDiff, Nat.reduceEqDiff, Nat.add_sub_cancel, xS, gS, nL, nS, dS, mX3_unwinds, zX3_unwinds, l0, e17, ek0, ct, v2, epc, fi]
end CODEX
